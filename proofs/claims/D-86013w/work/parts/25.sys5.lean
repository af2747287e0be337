/-! SYSTEM 5: laid, numberOf, change, turn; the stamped -/
set_option maxRecDepth 100000
set_option maxHeartbeats 4000000
theorem cv_c {μ : MS} {j : Nat} {v : Int64} (h : CVp μ j v) (hk : kd μ j = 0) : narrow .char (.int v.toInt32) = .int v.toInt32 := by
  unfold CVp at h
  rw [hk, if_neg (by decide), if_pos rfl] at h
  have e : ∃ u : Int32, v = keptN 0 u.toInt64 := by
    refine ⟨v.toInt32, ?_⟩
    show v = v.toInt32.toInt64 &&& 65535
    have h1 : v.toInt32.toInt = v.toInt := by rw [Int64.toInt_toInt32]; apply Int.bmod_eq_of_le <;> omega
    have h2 : v.toInt32.toInt64 = v := by apply Int64.toInt_inj.mp; rw [Int32.toInt_toInt64, h1]
    rw [h2]
    apply Int64.toBitVec_inj.mp
    show v.toBitVec = v.toBitVec &&& (65535 : Int64).toBitVec
    apply BitVec.eq_of_toNat_eq
    rw [BitVec.toNat_and, show ((65535 : Int64).toBitVec).toNat = 2 ^ 16 - 1 by decide, Nat.and_two_pow_sub_one_eq_mod]
    have h3 : v.toInt = Int.bmod (v.toBitVec.toNat) (2 ^ 64) := BitVec.toInt_eq_toNat_bmod _
    have hb := v.toBitVec.isLt
    rw [Int.bmod_def] at h3
    split at h3 <;> omega
  obtain ⟨u, rfl⟩ := e
  have h2 := kp_c u
  rw [show (keptN 0 u.toInt64).toInt32 = (u.toUInt32 % 65536).toInt32 from kp_c0 u] at h2 ⊢
  exact h2
theorem cv_s {μ : MS} {j : Nat} {v : Int64} (h : CVp μ j v) (hk : kd μ j = 1) : narrow .short (.int v.toInt32) = .int v.toInt32 := by
  unfold CVp at h
  rw [hk, if_neg (by decide), if_neg (by decide), if_pos rfl] at h
  show Value.int v.toInt32.toInt16.toInt32 = _
  congr 1
  apply Int32.toInt_inj.mp
  rw [Int16.toInt_toInt32, Int32.toInt_toInt16, Int64.toInt_toInt32]
  rw [show Int.bmod v.toInt (2 ^ 32) = v.toInt by apply Int.bmod_eq_of_le <;> omega]
  apply Int.bmod_eq_of_le <;> omega
theorem cv_z {μ : MS} {j : Nat} {v : Int64} (h : CVp μ j v) (hk : kd μ j = 3) : narrow .boolean (.int v.toInt32) = .int v.toInt32 := by
  unfold CVp at h
  rw [hk, if_neg (by decide), if_neg (by decide), if_neg (by decide), if_pos rfl] at h
  rcases h with rfl | rfl <;> decide
/-- what is one has no places -/
def ZV (μ : MS) : Prop := ∀ j : Nat, j < 60 → oneN (kd μ j) = true → sz μ j = 0
theorem SR_ZV {μ ν : MS} (h : SR μ ν) (k : ZV μ) : ZV ν := fun j hj ho => by rw [SR_sz h]; rw [SR_kd h] at ho; exact k j hj ho
theorem p_swap_eq {μ : MS} {a b : Nat} {u v : Int64} (h1 : sC μ a = u) (h2 : sC μ b = v) : setC (setC μ a v) b u = p_swap μ a b := by
  subst h1 h2
  rfl
section S5
variable {p : Program} {l : Launch} {e : Env} {R : Room} {s : State} {m : MethodId} {args : Array Value} {below : List Frame} {meth : Method} {c : Code} {H : Heap} {locs : List Loc} {cells slots : Nat} {Q : State → Prop}
variable {cc : ByteArray} {pc : Nat} {ls : Array Slot} {rest : List Value} {D : va_G} {tc : Nat → ClassId} {H0 : Heap} {own : String} {x mo index : Nat} {β : Nat → Nat} {μ ν : MS}
variable {nL : Nat} {y y0 : MethodName} {yc : ByteArray} {maxL n f loc mc ms : Nat} {rt : Option FieldType} {As st0 : List Value} {ret : Option Value}
theorem w_YVU (hC : gC p s m args c cc own D tc) (hX : gS0 s) (hZ : gZ (sy_A x mo) s s.heap) (hM : Sys D tc x mo β μ H) (hS : va_S (sy_A x mo) s.heap H locs) (hml : c.maxLocals = nL) (hls : ls.size = nL) {b : Nat} {C owner : String} (hrc : thR s H b C)
    (hMet : YC l y yc maxL rt f loc mc ms D tc x mo β (.ref b :: As) μ ν ret) (h1 : Cond.methodLink own index y0 ∈ lw_all) (h6 : Cond.sameMethod y0.cls owner y0.name y0.desc ∈ lw_all) (h2 : Cond.instanceMethod y ∈ lw_all) (h3 : Cond.selects C y0 y ∈ lw_all) (h4 : Cond.initialized y.cls ∈ lw_all) (h5 : Cond.code y yc maxL rt ∈ lw_all) (hyx : y = ⟨owner, y0.name, y0.desc⟩) (hn : As.length = n)
    (hd : owner ≠ "java/lang/invoke/MethodHandle" ∧ owner ≠ "java/lang/invoke/VarHandle" ∧ (parseMethodDescriptor y0.desc).map (fun d => d.parameters.length) = some n) (hf : f + 1 ≤ R.frames) (hlo : 8 + (maxL + 11) + loc ≤ R.locals) (hR : cells + mc ≤ R.cells ∧ slots + ms ≤ R.slots)
    (hst : st0 = As.reverse ++ .ref b :: rest) (hW : (rest.map fun v => v.category).sum ≤ 8) (hdg : decode cc pc = .ok (.invokevirtual index, 3))
    (kk : ∀ (H1 : Heap) (locs1 : List Loc), Sys D tc x mo β ν H1 → va_S (sy_A x mo) s.heap H1 locs1 → W p l e R s m args below meth c H1 locs1 (cells + mc) (slots + ms) Q (F0 m (pc + 3) ls (ret.toList ++ rest))) : W p l e R s m args below meth c H locs cells slots Q (F0 m pc ls st0) := by
  obtain ⟨hx, hb, hts, hown, hG⟩ := hC
  have hrecv : ∃ cell : Cell, H[b]? = some cell ∧ cell.vm.isStatics = false ∧ s.vm.findClass C = some cell.cls := by
    obtain ⟨cell, g1, g2, g3⟩ := hrc
    exact ⟨cell, g1, by rw [g2]; rfl, g3⟩
  have hT0 : GoodIn lw_all (va_wsU own index C owner y0 y (ws_ y yc maxL rt)) := by
    refine lw_app ?_ (lw_meth h5)
    intro w hw
    simp only [List.mem_cons, List.not_mem_nil, or_false] at hw
    rcases hw with e | e | e | e | e
    · rw [e]; exact h1
    · rw [e]; exact h6
    · rw [e]; exact h3
    · rw [e]; exact h2
    · rw [e]; exact h4
  have hr := va_runU (H := H) (locs := locs) (cells := cells) (slots := slots) (below := below) (meth := meth) (e := e) (R := R) (g := F0 m pc ls st0) (b := b) (As := As) (rest := rest) (Ts := lw_all) ⟨hx, hb, hml, hown, hts⟩ hMet (va_cwU n hts hT0 rfl rfl rfl hyx hd ⟨hf, hlo⟩) ⟨sX_blind, hrecv, fun U hU hW => ⟨rfl, sX.moved hW.alike hU hG hX hZ hS.2.1 hM⟩⟩ rfl hn hls hst (by show 2 * 0 + _ ≤ 8; omega) hdg hR
  intro T hT X
  obtain ⟨v', st₀, t, T', L, h0, X', hL, e1, e2, ⟨hv, hMt, hF⟩, st⟩ := hr T hT X
  cases hv
  obtain ⟨k1, -⟩ := y_end h0 e1 hS hL hF
  obtain ⟨t2, a1, b1⟩ := kk T'.heap (locs ++ L) (by rw [e1]; exact hMt) k1 T' rfl X'
  exact ⟨t2, st t2 a1, b1⟩
end S5
theorem k_X3_stamps_5 (l : Launch) (hst : l.stackTraces = false) (D : va_G) (tc : Nat → ClassId) (x mo : Nat) (β : Nat → Nat) (μ : MS) (j : Nat) (hj : j < nn μ) (hn : nn μ ≤ 60) (hk_j : kd μ j = 5) : YC l yX3_stamps cX3_stamps 1 (some .int) 0 0 0 0 D tc x mo β [.ref (β (64 + j))] μ μ (some (.int (sA μ 2 j))) := by
  refine YC.of (by decide) rfl (Nat.le_of_ble_eq_true rfl) ?_
  intro p e s m below meth c hC hX hZ hr hlk hml hM hS ls hl
  have hx := hC.1
  have hb := hC.2.1
  have hts := hC.2.2.1
  have hown := hC.2.2.2.1
  have hl : lv_has ls 1 [(0, .ref (β (64 + j)))] := hl
  refine lv_aload_n hx hb dX3_stamps_0 rfl (lv_at hl 0 rfl) ?_
  refine sy_sget_5 hC hM hj hn hk_j q108 dX3_stamps_1 ?_
  exact sy_iret hC hr hlk hM hS rfl rfl (Nat.le_of_ble_eq_true rfl) (Nat.le_of_ble_eq_true rfl) dX3_stamps_4
theorem k_X3_more_5 (l : Launch) (hst : l.stackTraces = false) (D : va_G) (tc : Nat → ClassId) (x mo : Nat) (β : Nat → Nat) (μ : MS) (j : Nat) (hj : j < nn μ) (hn : nn μ ≤ 60) (hk_j : kd μ j = 5) (n : Int32) : YC l yX3_more cX3_more 2 none 0 0 0 0 D tc x mo β [.ref (β (64 + j)), .int n] μ (setA μ 2 j (sA μ 2 j + n)) none := by
  refine YC.of (by decide) rfl (Nat.le_of_ble_eq_true rfl) ?_
  intro p e s m below meth c hC hX hZ hr hlk hml hM hS ls hl
  have hx := hC.1
  have hb := hC.2.1
  have hts := hC.2.2.1
  have hown := hC.2.2.2.1
  have hl : lv_has ls 2 [(0, .ref (β (64 + j))), (1, .int n)] := hl
  refine lv_aload_n hx hb dX3_more_0 rfl (lv_at hl 0 rfl) ?_
  refine lv_dup hx hb dX3_more_1 rfl ?_
  refine sy_sget_5 hC hM hj hn hk_j q108 dX3_more_2 ?_
  refine lv_iload_n hx hb dX3_more_5 rfl (lv_at hl 1 rfl) ?_
  refine lv_iadd hx hb dX3_more_6 ?_
  refine sy_sput_5 hC hM hS hj hn hk_j (w := ((sA μ 2 j) + n)) q108 dX3_more_7 (fun H locs hM hS => ?_)
  exact sy_vret hC hr hlk hM hS rfl (Nat.le_of_ble_eq_true rfl) (Nat.le_of_ble_eq_true rfl) dX3_more_10
theorem k_X3_stamps_6 (l : Launch) (hst : l.stackTraces = false) (D : va_G) (tc : Nat → ClassId) (x mo : Nat) (β : Nat → Nat) (μ : MS) (j : Nat) (hj : j < nn μ) (hn : nn μ ≤ 60) (hk_j : kd μ j = 6) : YC l yX3_stamps cX3_stamps 1 (some .int) 0 0 0 0 D tc x mo β [.ref (β (64 + j))] μ μ (some (.int (sA μ 2 j))) := by
  refine YC.of (by decide) rfl (Nat.le_of_ble_eq_true rfl) ?_
  intro p e s m below meth c hC hX hZ hr hlk hml hM hS ls hl
  have hx := hC.1
  have hb := hC.2.1
  have hts := hC.2.2.1
  have hown := hC.2.2.2.1
  have hl : lv_has ls 1 [(0, .ref (β (64 + j)))] := hl
  refine lv_aload_n hx hb dX3_stamps_0 rfl (lv_at hl 0 rfl) ?_
  refine sy_sget_6 hC hM hj hn hk_j q108 dX3_stamps_1 ?_
  exact sy_iret hC hr hlk hM hS rfl rfl (Nat.le_of_ble_eq_true rfl) (Nat.le_of_ble_eq_true rfl) dX3_stamps_4
theorem k_X3_more_6 (l : Launch) (hst : l.stackTraces = false) (D : va_G) (tc : Nat → ClassId) (x mo : Nat) (β : Nat → Nat) (μ : MS) (j : Nat) (hj : j < nn μ) (hn : nn μ ≤ 60) (hk_j : kd μ j = 6) (n : Int32) : YC l yX3_more cX3_more 2 none 0 0 0 0 D tc x mo β [.ref (β (64 + j)), .int n] μ (setA μ 2 j (sA μ 2 j + n)) none := by
  refine YC.of (by decide) rfl (Nat.le_of_ble_eq_true rfl) ?_
  intro p e s m below meth c hC hX hZ hr hlk hml hM hS ls hl
  have hx := hC.1
  have hb := hC.2.1
  have hts := hC.2.2.1
  have hown := hC.2.2.2.1
  have hl : lv_has ls 2 [(0, .ref (β (64 + j))), (1, .int n)] := hl
  refine lv_aload_n hx hb dX3_more_0 rfl (lv_at hl 0 rfl) ?_
  refine lv_dup hx hb dX3_more_1 rfl ?_
  refine sy_sget_6 hC hM hj hn hk_j q108 dX3_more_2 ?_
  refine lv_iload_n hx hb dX3_more_5 rfl (lv_at hl 1 rfl) ?_
  refine lv_iadd hx hb dX3_more_6 ?_
  refine sy_sput_6 hC hM hS hj hn hk_j (w := ((sA μ 2 j) + n)) q108 dX3_more_7 (fun H locs hM hS => ?_)
  exact sy_vret hC hr hlk hM hS rfl (Nat.le_of_ble_eq_true rfl) (Nat.le_of_ble_eq_true rfl) dX3_more_10
theorem k_X5_stamps (l : Launch) (hst : l.stackTraces = false) (D : va_G) (tc : Nat → ClassId) (x mo : Nat) (β : Nat → Nat) (μ : MS) (j : Nat) (hj : j < nn μ) (hn : nn μ ≤ 60) (hk_j : kd μ j = 7) : YC l yX5_stamps cX5_stamps 1 (some .int) 0 0 0 0 D tc x mo β [.ref (β (64 + j))] μ μ (some (.int (sA μ 2 j))) := by
  refine YC.of (by decide) rfl (Nat.le_of_ble_eq_true rfl) ?_
  intro p e s m below meth c hC hX hZ hr hlk hml hM hS ls hl
  have hx := hC.1
  have hb := hC.2.1
  have hts := hC.2.2.1
  have hown := hC.2.2.2.1
  have hl : lv_has ls 1 [(0, .ref (β (64 + j)))] := hl
  refine lv_aload_n hx hb dX5_stamps_0 rfl (lv_at hl 0 rfl) ?_
  refine sy_sget_7 hC hM hj hn hk_j q130 dX5_stamps_1 ?_
  exact sy_iret hC hr hlk hM hS rfl rfl (Nat.le_of_ble_eq_true rfl) (Nat.le_of_ble_eq_true rfl) dX5_stamps_4
theorem k_X5_stamp (l : Launch) (hst : l.stackTraces = false) (D : va_G) (tc : Nat → ClassId) (x mo : Nat) (β : Nat → Nat) (μ : MS) (j : Nat) (hj : j < nn μ) (hn : nn μ ≤ 60) (hk_j : kd μ j = 7) : YC l yX5_stamp cX5_stamp 1 none 0 0 0 0 D tc x mo β [.ref (β (64 + j))] μ (setA μ 2 j (sA μ 2 j + 1)) none := by
  refine YC.of (by decide) rfl (Nat.le_of_ble_eq_true rfl) ?_
  intro p e s m below meth c hC hX hZ hr hlk hml hM hS ls hl
  have hx := hC.1
  have hb := hC.2.1
  have hts := hC.2.2.1
  have hown := hC.2.2.2.1
  have hl : lv_has ls 1 [(0, .ref (β (64 + j)))] := hl
  refine lv_aload_n hx hb dX5_stamp_0 rfl (lv_at hl 0 rfl) ?_
  refine lv_dup hx hb dX5_stamp_1 rfl ?_
  refine sy_sget_7 hC hM hj hn hk_j q130 dX5_stamp_2 ?_
  refine lv_iconst (v := 1) hx hb dX5_stamp_5 (by decide) ?_
  refine lv_iadd hx hb dX5_stamp_6 ?_
  refine sy_sput_7 hC hM hS hj hn hk_j (w := ((sA μ 2 j) + 1)) q130 dX5_stamp_7 (fun H locs hM hS => ?_)
  exact sy_vret hC hr hlk hM hS rfl (Nat.le_of_ble_eq_true rfl) (Nat.le_of_ble_eq_true rfl) dX5_stamp_10
theorem k_X3_stamp (l : Launch) (hst : l.stackTraces = false) (D : va_G) (tc : Nat → ClassId) (x mo : Nat) (β : Nat → Nat) (μ : MS) (j : Nat) (hj : j < nn μ) (hn : nn μ ≤ 60) (hk_j : kd μ j = 5) : YC l yX3_stamp cX3_stamp 1 none 1 21 0 0 D tc x mo β [.ref (β (64 + j))] μ (setA μ 2 j (sA μ 2 j + 1)) none := by
  refine YC.of (by decide) rfl (Nat.le_of_ble_eq_true rfl) ?_
  intro p e s m below meth c hC hX hZ hr hlk hml hM hS ls hl
  have hx := hC.1
  have hb := hC.2.1
  have hts := hC.2.2.1
  have hown := hC.2.2.2.1
  have hl : lv_has ls 1 [(0, .ref (β (64 + j)))] := hl
  refine lv_aload_n hx hb dX3_stamp_0 rfl (lv_at hl 0 rfl) ?_
  refine lv_iconst (v := 1) hx hb dX3_stamp_1 (by decide) ?_
  refine w_YV (As := [.int 1]) hC hX hZ hM hS hml hl.1 (sy_thRk hC.2.2.2.2 hM hj hn hk_j (by omega)) (k_X3_more_5 l hst D tc x mo β μ j hj hn hk_j 1) q423 q424 q425 q26 q428 rfl ⟨by decide, by decide, rfl⟩ (Nat.le_of_ble_eq_true rfl) (Nat.le_of_ble_eq_true rfl) ⟨(Nat.le_of_ble_eq_true rfl), (Nat.le_of_ble_eq_true rfl)⟩ rfl (Nat.le_of_ble_eq_true rfl) dX3_stamp_2 (fun H locs hM hS => ?_)
  exact sy_vret hC hr hlk hM hS rfl (Nat.le_of_ble_eq_true rfl) (Nat.le_of_ble_eq_true rfl) dX3_stamp_5
theorem k_X4_stamp (l : Launch) (hst : l.stackTraces = false) (D : va_G) (tc : Nat → ClassId) (x mo : Nat) (β : Nat → Nat) (μ : MS) (j : Nat) (hj : j < nn μ) (hn : nn μ ≤ 60) (hk_j : kd μ j = 6) : YC l yX4_stamp cX4_stamp 1 none 1 21 0 0 D tc x mo β [.ref (β (64 + j))] μ (setA μ 2 j (sA μ 2 j + 2)) none := by
  refine YC.of (by decide) rfl (Nat.le_of_ble_eq_true rfl) ?_
  intro p e s m below meth c hC hX hZ hr hlk hml hM hS ls hl
  have hx := hC.1
  have hb := hC.2.1
  have hts := hC.2.2.1
  have hown := hC.2.2.2.1
  have hl : lv_has ls 1 [(0, .ref (β (64 + j)))] := hl
  refine lv_aload_n hx hb dX4_stamp_0 rfl (lv_at hl 0 rfl) ?_
  refine lv_iconst (v := 2) hx hb dX4_stamp_1 (by decide) ?_
  refine w_YVU (As := [.int 2]) (C := "MailRooms$GoldCard") (owner := "MailRooms$Card") hC hX hZ hM hS hml hl.1 (sy_thRk hC.2.2.2.2 hM hj hn hk_j (by omega)) (k_X3_more_6 l hst D tc x mo β μ j hj hn hk_j 2) q434 q435 q424 q437 q26 q428 rfl rfl ⟨by decide, by decide, rfl⟩ (Nat.le_of_ble_eq_true rfl) (Nat.le_of_ble_eq_true rfl) ⟨(Nat.le_of_ble_eq_true rfl), (Nat.le_of_ble_eq_true rfl)⟩ rfl (Nat.le_of_ble_eq_true rfl) dX4_stamp_2 (fun H locs hM hS => ?_)
  exact sy_vret hC hr hlk hM hS rfl (Nat.le_of_ble_eq_true rfl) (Nat.le_of_ble_eq_true rfl) dX4_stamp_5
theorem k_X0_laid_n (l : Launch) (hst : l.stackTraces = false) (D : va_G) (tc : Nat → ClassId) (x mo : Nat) (β : Nat → Nat) (μ : MS) (j : Nat) (hj : j < nn μ) (hn : nn μ ≤ 60) (hk : thgN (kd μ j) = true) (h12 : kd μ j ≤ 12) (h3 : sz μ j ≤ 3) (a : Nat) (ha : a < sz μ j) : YC l yX0_laid cX0_laid 3 none 0 0 0 0 D tc x mo β [.ref (β (64 + j)), .int (nI a), .null] μ (setC μ (3 * j + a) (-1)) none := by
  refine YC.of (by decide) rfl (Nat.le_of_ble_eq_true rfl) ?_
  intro p e s m below meth c hC hX hZ hr hlk hml hM hS ls hl
  have hx := hC.1
  have hb := hC.2.1
  have hts := hC.2.2.1
  have hown := hC.2.2.2.1
  have hl : lv_has ls 3 [(0, .ref (β (64 + j))), (1, .int (nI a)), (2, .null)] := hl
  rcases (by simp [thgN] at hk; omega : kd μ j = 4 ∨ kd μ j = 8 ∨ kd μ j = 9 ∨ kd μ j = 10 ∨ kd μ j = 11 ∨ kd μ j = 12) with hk_j | hk_j | hk_j | hk_j | hk_j | hk_j
  · refine lv_aload_n hx hb dX0_laid_0 rfl (lv_at hl 0 rfl) ?_
    refine w_inst hC hX (k := 4) (f := 4) (by decide) (by decide) (sy_thRk hC.2.2.2.2 hM hj hn hk_j (by omega)) q284 rfl (b := true) rfl dX0_laid_1 ?_
    refine b_ifeq (w := true) (tgt := 20) hx hb dX0_laid_4 (by decide) (fun h => absurd (h.symm.trans rfl) (by decide)) (fun _ => ?_)
    refine lv_aload_n hx hb dX0_laid_7 rfl (lv_at hl 0 rfl) ?_
    refine w_cast hC hX (k := 4) (f := 4) (by decide) (by decide) (sy_thRk hC.2.2.2.2 hM hj hn hk_j (by omega)) q284 rfl rfl dX0_laid_8 ?_
    refine lv_iload_n hx hb dX0_laid_11 rfl (lv_at hl 1 rfl) ?_
    refine lv_aload_nN hx hb dX0_laid_12 rfl (lv_at hl 2 rfl) ?_
    refine lv_castN hx hb dX0_laid_13 ?_
    refine sy_aastN hC hM hS hj hn hk_j (by omega) h3 a rfl (by omega) dX0_laid_16 (fun H locs hM hS => ?_)
    refine lv_goto (tgt := 70) hx hb dX0_laid_17 (by decide) ?_
    exact sy_vret hC hr hlk hM hS rfl (Nat.le_of_ble_eq_true rfl) (Nat.le_of_ble_eq_true rfl) dX0_laid_70
  · refine lv_aload_n hx hb dX0_laid_0 rfl (lv_at hl 0 rfl) ?_
    refine w_inst hC hX (k := 8) (f := 4) (by decide) (by decide) (sy_thRk hC.2.2.2.2 hM hj hn hk_j (by omega)) q284 rfl (b := false) rfl dX0_laid_1 ?_
    refine b_ifeq (w := false) (tgt := 20) hx hb dX0_laid_4 (by decide) (fun _ => ?_) (fun h => absurd (h.symm.trans rfl) (by decide))
    refine lv_aload_n hx hb dX0_laid_20 rfl (lv_at hl 0 rfl) ?_
    refine w_inst hC hX (k := 8) (f := 8) (by decide) (by decide) (sy_thRk hC.2.2.2.2 hM hj hn hk_j (by omega)) q138 rfl (b := true) rfl dX0_laid_21 ?_
    refine b_ifeq (w := true) (tgt := 40) hx hb dX0_laid_24 (by decide) (fun h => absurd (h.symm.trans rfl) (by decide)) (fun _ => ?_)
    refine lv_aload_n hx hb dX0_laid_27 rfl (lv_at hl 0 rfl) ?_
    refine w_cast hC hX (k := 8) (f := 8) (by decide) (by decide) (sy_thRk hC.2.2.2.2 hM hj hn hk_j (by omega)) q138 rfl rfl dX0_laid_28 ?_
    refine lv_iload_n hx hb dX0_laid_31 rfl (lv_at hl 1 rfl) ?_
    refine lv_aload_nN hx hb dX0_laid_32 rfl (lv_at hl 2 rfl) ?_
    refine lv_castN hx hb dX0_laid_33 ?_
    refine sy_aastN hC hM hS hj hn hk_j (by omega) h3 a rfl (by omega) dX0_laid_36 (fun H locs hM hS => ?_)
    refine lv_goto (tgt := 70) hx hb dX0_laid_37 (by decide) ?_
    exact sy_vret hC hr hlk hM hS rfl (Nat.le_of_ble_eq_true rfl) (Nat.le_of_ble_eq_true rfl) dX0_laid_70
  · refine lv_aload_n hx hb dX0_laid_0 rfl (lv_at hl 0 rfl) ?_
    refine w_inst hC hX (k := 9) (f := 4) (by decide) (by decide) (sy_thRk hC.2.2.2.2 hM hj hn hk_j (by omega)) q284 rfl (b := false) rfl dX0_laid_1 ?_
    refine b_ifeq (w := false) (tgt := 20) hx hb dX0_laid_4 (by decide) (fun _ => ?_) (fun h => absurd (h.symm.trans rfl) (by decide))
    refine lv_aload_n hx hb dX0_laid_20 rfl (lv_at hl 0 rfl) ?_
    refine w_inst hC hX (k := 9) (f := 8) (by decide) (by decide) (sy_thRk hC.2.2.2.2 hM hj hn hk_j (by omega)) q138 rfl (b := true) rfl dX0_laid_21 ?_
    refine b_ifeq (w := true) (tgt := 40) hx hb dX0_laid_24 (by decide) (fun h => absurd (h.symm.trans rfl) (by decide)) (fun _ => ?_)
    refine lv_aload_n hx hb dX0_laid_27 rfl (lv_at hl 0 rfl) ?_
    refine w_cast hC hX (k := 9) (f := 8) (by decide) (by decide) (sy_thRk hC.2.2.2.2 hM hj hn hk_j (by omega)) q138 rfl rfl dX0_laid_28 ?_
    refine lv_iload_n hx hb dX0_laid_31 rfl (lv_at hl 1 rfl) ?_
    refine lv_aload_nN hx hb dX0_laid_32 rfl (lv_at hl 2 rfl) ?_
    refine lv_castN hx hb dX0_laid_33 ?_
    refine sy_aastN hC hM hS hj hn hk_j (by omega) h3 a rfl (by omega) dX0_laid_36 (fun H locs hM hS => ?_)
    refine lv_goto (tgt := 70) hx hb dX0_laid_37 (by decide) ?_
    exact sy_vret hC hr hlk hM hS rfl (Nat.le_of_ble_eq_true rfl) (Nat.le_of_ble_eq_true rfl) dX0_laid_70
  · refine lv_aload_n hx hb dX0_laid_0 rfl (lv_at hl 0 rfl) ?_
    refine w_inst hC hX (k := 10) (f := 4) (by decide) (by decide) (sy_thRk hC.2.2.2.2 hM hj hn hk_j (by omega)) q284 rfl (b := false) rfl dX0_laid_1 ?_
    refine b_ifeq (w := false) (tgt := 20) hx hb dX0_laid_4 (by decide) (fun _ => ?_) (fun h => absurd (h.symm.trans rfl) (by decide))
    refine lv_aload_n hx hb dX0_laid_20 rfl (lv_at hl 0 rfl) ?_
    refine w_inst hC hX (k := 10) (f := 8) (by decide) (by decide) (sy_thRk hC.2.2.2.2 hM hj hn hk_j (by omega)) q138 rfl (b := false) rfl dX0_laid_21 ?_
    refine b_ifeq (w := false) (tgt := 40) hx hb dX0_laid_24 (by decide) (fun _ => ?_) (fun h => absurd (h.symm.trans rfl) (by decide))
    refine lv_aload_n hx hb dX0_laid_40 rfl (lv_at hl 0 rfl) ?_
    refine w_inst hC hX (k := 10) (f := 10) (by decide) (by decide) (sy_thRk hC.2.2.2.2 hM hj hn hk_j (by omega)) q285 rfl (b := true) rfl dX0_laid_41 ?_
    refine b_ifeq (w := true) (tgt := 60) hx hb dX0_laid_44 (by decide) (fun h => absurd (h.symm.trans rfl) (by decide)) (fun _ => ?_)
    refine lv_aload_n hx hb dX0_laid_47 rfl (lv_at hl 0 rfl) ?_
    refine w_cast hC hX (k := 10) (f := 10) (by decide) (by decide) (sy_thRk hC.2.2.2.2 hM hj hn hk_j (by omega)) q285 rfl rfl dX0_laid_48 ?_
    refine lv_iload_n hx hb dX0_laid_51 rfl (lv_at hl 1 rfl) ?_
    refine lv_aload_nN hx hb dX0_laid_52 rfl (lv_at hl 2 rfl) ?_
    refine lv_castN hx hb dX0_laid_53 ?_
    refine sy_aastN hC hM hS hj hn hk_j (by omega) h3 a rfl (by omega) dX0_laid_56 (fun H locs hM hS => ?_)
    refine lv_goto (tgt := 70) hx hb dX0_laid_57 (by decide) ?_
    exact sy_vret hC hr hlk hM hS rfl (Nat.le_of_ble_eq_true rfl) (Nat.le_of_ble_eq_true rfl) dX0_laid_70
  · refine lv_aload_n hx hb dX0_laid_0 rfl (lv_at hl 0 rfl) ?_
    refine w_inst hC hX (k := 11) (f := 4) (by decide) (by decide) (sy_thRk hC.2.2.2.2 hM hj hn hk_j (by omega)) q284 rfl (b := false) rfl dX0_laid_1 ?_
    refine b_ifeq (w := false) (tgt := 20) hx hb dX0_laid_4 (by decide) (fun _ => ?_) (fun h => absurd (h.symm.trans rfl) (by decide))
    refine lv_aload_n hx hb dX0_laid_20 rfl (lv_at hl 0 rfl) ?_
    refine w_inst hC hX (k := 11) (f := 8) (by decide) (by decide) (sy_thRk hC.2.2.2.2 hM hj hn hk_j (by omega)) q138 rfl (b := false) rfl dX0_laid_21 ?_
    refine b_ifeq (w := false) (tgt := 40) hx hb dX0_laid_24 (by decide) (fun _ => ?_) (fun h => absurd (h.symm.trans rfl) (by decide))
    refine lv_aload_n hx hb dX0_laid_40 rfl (lv_at hl 0 rfl) ?_
    refine w_inst hC hX (k := 11) (f := 10) (by decide) (by decide) (sy_thRk hC.2.2.2.2 hM hj hn hk_j (by omega)) q285 rfl (b := false) rfl dX0_laid_41 ?_
    refine b_ifeq (w := false) (tgt := 60) hx hb dX0_laid_44 (by decide) (fun _ => ?_) (fun h => absurd (h.symm.trans rfl) (by decide))
    refine lv_aload_n hx hb dX0_laid_60 rfl (lv_at hl 0 rfl) ?_
    refine w_cast hC hX (k := 11) (f := 11) (by decide) (by decide) (sy_thRk hC.2.2.2.2 hM hj hn hk_j (by omega)) q286 rfl rfl dX0_laid_61 ?_
    refine lv_iload_n hx hb dX0_laid_64 rfl (lv_at hl 1 rfl) ?_
    refine lv_aload_nN hx hb dX0_laid_65 rfl (lv_at hl 2 rfl) ?_
    refine lv_castN hx hb dX0_laid_66 ?_
    refine sy_aastN hC hM hS hj hn hk_j (by omega) h3 a rfl (by omega) dX0_laid_69 (fun H locs hM hS => ?_)
    exact sy_vret hC hr hlk hM hS rfl (Nat.le_of_ble_eq_true rfl) (Nat.le_of_ble_eq_true rfl) dX0_laid_70
  · refine lv_aload_n hx hb dX0_laid_0 rfl (lv_at hl 0 rfl) ?_
    refine w_inst hC hX (k := 12) (f := 4) (by decide) (by decide) (sy_thRk hC.2.2.2.2 hM hj hn hk_j (by omega)) q284 rfl (b := false) rfl dX0_laid_1 ?_
    refine b_ifeq (w := false) (tgt := 20) hx hb dX0_laid_4 (by decide) (fun _ => ?_) (fun h => absurd (h.symm.trans rfl) (by decide))
    refine lv_aload_n hx hb dX0_laid_20 rfl (lv_at hl 0 rfl) ?_
    refine w_inst hC hX (k := 12) (f := 8) (by decide) (by decide) (sy_thRk hC.2.2.2.2 hM hj hn hk_j (by omega)) q138 rfl (b := false) rfl dX0_laid_21 ?_
    refine b_ifeq (w := false) (tgt := 40) hx hb dX0_laid_24 (by decide) (fun _ => ?_) (fun h => absurd (h.symm.trans rfl) (by decide))
    refine lv_aload_n hx hb dX0_laid_40 rfl (lv_at hl 0 rfl) ?_
    refine w_inst hC hX (k := 12) (f := 10) (by decide) (by decide) (sy_thRk hC.2.2.2.2 hM hj hn hk_j (by omega)) q285 rfl (b := false) rfl dX0_laid_41 ?_
    refine b_ifeq (w := false) (tgt := 60) hx hb dX0_laid_44 (by decide) (fun _ => ?_) (fun h => absurd (h.symm.trans rfl) (by decide))
    refine lv_aload_n hx hb dX0_laid_60 rfl (lv_at hl 0 rfl) ?_
    refine w_cast hC hX (k := 12) (f := 11) (by decide) (by decide) (sy_thRk hC.2.2.2.2 hM hj hn hk_j (by omega)) q286 rfl rfl dX0_laid_61 ?_
    refine lv_iload_n hx hb dX0_laid_64 rfl (lv_at hl 1 rfl) ?_
    refine lv_aload_nN hx hb dX0_laid_65 rfl (lv_at hl 2 rfl) ?_
    refine lv_castN hx hb dX0_laid_66 ?_
    refine sy_aastN hC hM hS hj hn hk_j (by omega) h3 a rfl (by omega) dX0_laid_69 (fun H locs hM hS => ?_)
    exact sy_vret hC hr hlk hM hS rfl (Nat.le_of_ble_eq_true rfl) (Nat.le_of_ble_eq_true rfl) dX0_laid_70
theorem k_X0_laid_t (l : Launch) (hst : l.stackTraces = false) (D : va_G) (tc : Nat → ClassId) (x mo : Nat) (β : Nat → Nat) (μ : MS) (j : Nat) (hj : j < nn μ) (hn : nn μ ≤ 60) (hk : thgN (kd μ j) = true) (h12 : kd μ j ≤ 12) (h3 : sz μ j ≤ 3) (t : Nat) (ht : t < nn μ) (ht12 : kd μ t ≤ 12) (hg : goesN (kd μ t) (wantN (kd μ j)) = true) (hh : goesN (kd μ t) (holdN (kd μ j)) = true) (a : Nat) (ha : a < sz μ j) : YC l yX0_laid cX0_laid 3 none 0 0 0 0 D tc x mo β [.ref (β (64 + j)), .int (nI a), .ref (β (64 + t))] μ (setC μ (3 * j + a) (lN t)) none := by
  refine YC.of (by decide) rfl (Nat.le_of_ble_eq_true rfl) ?_
  intro p e s m below meth c hC hX hZ hr hlk hml hM hS ls hl
  have hx := hC.1
  have hb := hC.2.1
  have hts := hC.2.2.1
  have hown := hC.2.2.2.1
  have hl : lv_has ls 3 [(0, .ref (β (64 + j))), (1, .int (nI a)), (2, .ref (β (64 + t)))] := hl
  rcases (by simp [thgN] at hk; omega : kd μ j = 4 ∨ kd μ j = 8 ∨ kd μ j = 9 ∨ kd μ j = 10 ∨ kd μ j = 11 ∨ kd μ j = 12) with hk_j | hk_j | hk_j | hk_j | hk_j | hk_j
  · refine lv_aload_n hx hb dX0_laid_0 rfl (lv_at hl 0 rfl) ?_
    refine w_inst hC hX (k := 4) (f := 4) (by decide) (by decide) (sy_thRk hC.2.2.2.2 hM hj hn hk_j (by omega)) q284 rfl (b := true) rfl dX0_laid_1 ?_
    refine b_ifeq (w := true) (tgt := 20) hx hb dX0_laid_4 (by decide) (fun h => absurd (h.symm.trans rfl) (by decide)) (fun _ => ?_)
    refine lv_aload_n hx hb dX0_laid_7 rfl (lv_at hl 0 rfl) ?_
    refine w_cast hC hX (k := 4) (f := 4) (by decide) (by decide) (sy_thRk hC.2.2.2.2 hM hj hn hk_j (by omega)) q284 rfl rfl dX0_laid_8 ?_
    refine lv_iload_n hx hb dX0_laid_11 rfl (lv_at hl 1 rfl) ?_
    refine lv_aload_n hx hb dX0_laid_12 rfl (lv_at hl 2 rfl) ?_
    refine w_cast hC hX (k := kd μ t) (f := 0) (by omega) (by decide) (sy_thR hC.2.2.2.2 hM ht hn ht12) q100 rfl (by have h := hg; rw [hk_j] at h; exact h) dX0_laid_13 ?_
    refine sy_aast hC hX hM hS hj hn hk_j (by omega) h3 ht ht12 (by have h := hh; rw [hk_j] at h; exact h) (by decide) a rfl (by omega) dX0_laid_16 (fun H locs hM hS => ?_)
    refine lv_goto (tgt := 70) hx hb dX0_laid_17 (by decide) ?_
    exact sy_vret hC hr hlk hM hS rfl (Nat.le_of_ble_eq_true rfl) (Nat.le_of_ble_eq_true rfl) dX0_laid_70
  · refine lv_aload_n hx hb dX0_laid_0 rfl (lv_at hl 0 rfl) ?_
    refine w_inst hC hX (k := 8) (f := 4) (by decide) (by decide) (sy_thRk hC.2.2.2.2 hM hj hn hk_j (by omega)) q284 rfl (b := false) rfl dX0_laid_1 ?_
    refine b_ifeq (w := false) (tgt := 20) hx hb dX0_laid_4 (by decide) (fun _ => ?_) (fun h => absurd (h.symm.trans rfl) (by decide))
    refine lv_aload_n hx hb dX0_laid_20 rfl (lv_at hl 0 rfl) ?_
    refine w_inst hC hX (k := 8) (f := 8) (by decide) (by decide) (sy_thRk hC.2.2.2.2 hM hj hn hk_j (by omega)) q138 rfl (b := true) rfl dX0_laid_21 ?_
    refine b_ifeq (w := true) (tgt := 40) hx hb dX0_laid_24 (by decide) (fun h => absurd (h.symm.trans rfl) (by decide)) (fun _ => ?_)
    refine lv_aload_n hx hb dX0_laid_27 rfl (lv_at hl 0 rfl) ?_
    refine w_cast hC hX (k := 8) (f := 8) (by decide) (by decide) (sy_thRk hC.2.2.2.2 hM hj hn hk_j (by omega)) q138 rfl rfl dX0_laid_28 ?_
    refine lv_iload_n hx hb dX0_laid_31 rfl (lv_at hl 1 rfl) ?_
    refine lv_aload_n hx hb dX0_laid_32 rfl (lv_at hl 2 rfl) ?_
    refine w_cast hC hX (k := kd μ t) (f := 5) (by omega) (by decide) (sy_thR hC.2.2.2.2 hM ht hn ht12) q102 rfl (by have h := hg; rw [hk_j] at h; exact h) dX0_laid_33 ?_
    refine sy_aast hC hX hM hS hj hn hk_j (by omega) h3 ht ht12 (by have h := hh; rw [hk_j] at h; exact h) (by decide) a rfl (by omega) dX0_laid_36 (fun H locs hM hS => ?_)
    refine lv_goto (tgt := 70) hx hb dX0_laid_37 (by decide) ?_
    exact sy_vret hC hr hlk hM hS rfl (Nat.le_of_ble_eq_true rfl) (Nat.le_of_ble_eq_true rfl) dX0_laid_70
  · refine lv_aload_n hx hb dX0_laid_0 rfl (lv_at hl 0 rfl) ?_
    refine w_inst hC hX (k := 9) (f := 4) (by decide) (by decide) (sy_thRk hC.2.2.2.2 hM hj hn hk_j (by omega)) q284 rfl (b := false) rfl dX0_laid_1 ?_
    refine b_ifeq (w := false) (tgt := 20) hx hb dX0_laid_4 (by decide) (fun _ => ?_) (fun h => absurd (h.symm.trans rfl) (by decide))
    refine lv_aload_n hx hb dX0_laid_20 rfl (lv_at hl 0 rfl) ?_
    refine w_inst hC hX (k := 9) (f := 8) (by decide) (by decide) (sy_thRk hC.2.2.2.2 hM hj hn hk_j (by omega)) q138 rfl (b := true) rfl dX0_laid_21 ?_
    refine b_ifeq (w := true) (tgt := 40) hx hb dX0_laid_24 (by decide) (fun h => absurd (h.symm.trans rfl) (by decide)) (fun _ => ?_)
    refine lv_aload_n hx hb dX0_laid_27 rfl (lv_at hl 0 rfl) ?_
    refine w_cast hC hX (k := 9) (f := 8) (by decide) (by decide) (sy_thRk hC.2.2.2.2 hM hj hn hk_j (by omega)) q138 rfl rfl dX0_laid_28 ?_
    refine lv_iload_n hx hb dX0_laid_31 rfl (lv_at hl 1 rfl) ?_
    refine lv_aload_n hx hb dX0_laid_32 rfl (lv_at hl 2 rfl) ?_
    refine w_cast hC hX (k := kd μ t) (f := 5) (by omega) (by decide) (sy_thR hC.2.2.2.2 hM ht hn ht12) q102 rfl (by have h := hg; rw [hk_j] at h; exact h) dX0_laid_33 ?_
    refine sy_aast hC hX hM hS hj hn hk_j (by omega) h3 ht ht12 (by have h := hh; rw [hk_j] at h; exact h) (by decide) a rfl (by omega) dX0_laid_36 (fun H locs hM hS => ?_)
    refine lv_goto (tgt := 70) hx hb dX0_laid_37 (by decide) ?_
    exact sy_vret hC hr hlk hM hS rfl (Nat.le_of_ble_eq_true rfl) (Nat.le_of_ble_eq_true rfl) dX0_laid_70
  · refine lv_aload_n hx hb dX0_laid_0 rfl (lv_at hl 0 rfl) ?_
    refine w_inst hC hX (k := 10) (f := 4) (by decide) (by decide) (sy_thRk hC.2.2.2.2 hM hj hn hk_j (by omega)) q284 rfl (b := false) rfl dX0_laid_1 ?_
    refine b_ifeq (w := false) (tgt := 20) hx hb dX0_laid_4 (by decide) (fun _ => ?_) (fun h => absurd (h.symm.trans rfl) (by decide))
    refine lv_aload_n hx hb dX0_laid_20 rfl (lv_at hl 0 rfl) ?_
    refine w_inst hC hX (k := 10) (f := 8) (by decide) (by decide) (sy_thRk hC.2.2.2.2 hM hj hn hk_j (by omega)) q138 rfl (b := false) rfl dX0_laid_21 ?_
    refine b_ifeq (w := false) (tgt := 40) hx hb dX0_laid_24 (by decide) (fun _ => ?_) (fun h => absurd (h.symm.trans rfl) (by decide))
    refine lv_aload_n hx hb dX0_laid_40 rfl (lv_at hl 0 rfl) ?_
    refine w_inst hC hX (k := 10) (f := 10) (by decide) (by decide) (sy_thRk hC.2.2.2.2 hM hj hn hk_j (by omega)) q285 rfl (b := true) rfl dX0_laid_41 ?_
    refine b_ifeq (w := true) (tgt := 60) hx hb dX0_laid_44 (by decide) (fun h => absurd (h.symm.trans rfl) (by decide)) (fun _ => ?_)
    refine lv_aload_n hx hb dX0_laid_47 rfl (lv_at hl 0 rfl) ?_
    refine w_cast hC hX (k := 10) (f := 10) (by decide) (by decide) (sy_thRk hC.2.2.2.2 hM hj hn hk_j (by omega)) q285 rfl rfl dX0_laid_48 ?_
    refine lv_iload_n hx hb dX0_laid_51 rfl (lv_at hl 1 rfl) ?_
    refine lv_aload_n hx hb dX0_laid_52 rfl (lv_at hl 2 rfl) ?_
    refine w_cast hC hX (k := kd μ t) (f := 13) (by omega) (by decide) (sy_thR hC.2.2.2.2 hM ht hn ht12) q136 rfl (by have h := hg; rw [hk_j] at h; exact h) dX0_laid_53 ?_
    refine sy_aast hC hX hM hS hj hn hk_j (by omega) h3 ht ht12 (by have h := hh; rw [hk_j] at h; exact h) (by decide) a rfl (by omega) dX0_laid_56 (fun H locs hM hS => ?_)
    refine lv_goto (tgt := 70) hx hb dX0_laid_57 (by decide) ?_
    exact sy_vret hC hr hlk hM hS rfl (Nat.le_of_ble_eq_true rfl) (Nat.le_of_ble_eq_true rfl) dX0_laid_70
  · refine lv_aload_n hx hb dX0_laid_0 rfl (lv_at hl 0 rfl) ?_
    refine w_inst hC hX (k := 11) (f := 4) (by decide) (by decide) (sy_thRk hC.2.2.2.2 hM hj hn hk_j (by omega)) q284 rfl (b := false) rfl dX0_laid_1 ?_
    refine b_ifeq (w := false) (tgt := 20) hx hb dX0_laid_4 (by decide) (fun _ => ?_) (fun h => absurd (h.symm.trans rfl) (by decide))
    refine lv_aload_n hx hb dX0_laid_20 rfl (lv_at hl 0 rfl) ?_
    refine w_inst hC hX (k := 11) (f := 8) (by decide) (by decide) (sy_thRk hC.2.2.2.2 hM hj hn hk_j (by omega)) q138 rfl (b := false) rfl dX0_laid_21 ?_
    refine b_ifeq (w := false) (tgt := 40) hx hb dX0_laid_24 (by decide) (fun _ => ?_) (fun h => absurd (h.symm.trans rfl) (by decide))
    refine lv_aload_n hx hb dX0_laid_40 rfl (lv_at hl 0 rfl) ?_
    refine w_inst hC hX (k := 11) (f := 10) (by decide) (by decide) (sy_thRk hC.2.2.2.2 hM hj hn hk_j (by omega)) q285 rfl (b := false) rfl dX0_laid_41 ?_
    refine b_ifeq (w := false) (tgt := 60) hx hb dX0_laid_44 (by decide) (fun _ => ?_) (fun h => absurd (h.symm.trans rfl) (by decide))
    refine lv_aload_n hx hb dX0_laid_60 rfl (lv_at hl 0 rfl) ?_
    refine w_cast hC hX (k := 11) (f := 11) (by decide) (by decide) (sy_thRk hC.2.2.2.2 hM hj hn hk_j (by omega)) q286 rfl rfl dX0_laid_61 ?_
    refine lv_iload_n hx hb dX0_laid_64 rfl (lv_at hl 1 rfl) ?_
    refine lv_aload_n hx hb dX0_laid_65 rfl (lv_at hl 2 rfl) ?_
    refine w_cast hC hX (k := kd μ t) (f := 8) (by omega) (by decide) (sy_thR hC.2.2.2.2 hM ht hn ht12) q138 rfl (by have h := hg; rw [hk_j] at h; exact h) dX0_laid_66 ?_
    refine sy_aast hC hX hM hS hj hn hk_j (by omega) h3 ht ht12 (by have h := hh; rw [hk_j] at h; exact h) (by decide) a rfl (by omega) dX0_laid_69 (fun H locs hM hS => ?_)
    exact sy_vret hC hr hlk hM hS rfl (Nat.le_of_ble_eq_true rfl) (Nat.le_of_ble_eq_true rfl) dX0_laid_70
  · refine lv_aload_n hx hb dX0_laid_0 rfl (lv_at hl 0 rfl) ?_
    refine w_inst hC hX (k := 12) (f := 4) (by decide) (by decide) (sy_thRk hC.2.2.2.2 hM hj hn hk_j (by omega)) q284 rfl (b := false) rfl dX0_laid_1 ?_
    refine b_ifeq (w := false) (tgt := 20) hx hb dX0_laid_4 (by decide) (fun _ => ?_) (fun h => absurd (h.symm.trans rfl) (by decide))
    refine lv_aload_n hx hb dX0_laid_20 rfl (lv_at hl 0 rfl) ?_
    refine w_inst hC hX (k := 12) (f := 8) (by decide) (by decide) (sy_thRk hC.2.2.2.2 hM hj hn hk_j (by omega)) q138 rfl (b := false) rfl dX0_laid_21 ?_
    refine b_ifeq (w := false) (tgt := 40) hx hb dX0_laid_24 (by decide) (fun _ => ?_) (fun h => absurd (h.symm.trans rfl) (by decide))
    refine lv_aload_n hx hb dX0_laid_40 rfl (lv_at hl 0 rfl) ?_
    refine w_inst hC hX (k := 12) (f := 10) (by decide) (by decide) (sy_thRk hC.2.2.2.2 hM hj hn hk_j (by omega)) q285 rfl (b := false) rfl dX0_laid_41 ?_
    refine b_ifeq (w := false) (tgt := 60) hx hb dX0_laid_44 (by decide) (fun _ => ?_) (fun h => absurd (h.symm.trans rfl) (by decide))
    refine lv_aload_n hx hb dX0_laid_60 rfl (lv_at hl 0 rfl) ?_
    refine w_cast hC hX (k := 12) (f := 11) (by decide) (by decide) (sy_thRk hC.2.2.2.2 hM hj hn hk_j (by omega)) q286 rfl rfl dX0_laid_61 ?_
    refine lv_iload_n hx hb dX0_laid_64 rfl (lv_at hl 1 rfl) ?_
    refine lv_aload_n hx hb dX0_laid_65 rfl (lv_at hl 2 rfl) ?_
    refine w_cast hC hX (k := kd μ t) (f := 8) (by omega) (by decide) (sy_thR hC.2.2.2.2 hM ht hn ht12) q138 rfl (by have h := hg; rw [hk_j] at h; exact h) dX0_laid_66 ?_
    refine sy_aast hC hX hM hS hj hn hk_j (by omega) h3 ht ht12 (by have h := hh; rw [hk_j] at h; exact h) (by decide) a rfl (by omega) dX0_laid_69 (fun H locs hM hS => ?_)
    exact sy_vret hC hr hlk hM hS rfl (Nat.le_of_ble_eq_true rfl) (Nat.le_of_ble_eq_true rfl) dX0_laid_70
theorem k_X0_laid_cce (l : Launch) (hst : l.stackTraces = false) (D : va_G) (tc : Nat → ClassId) (x mo : Nat) (β : Nat → Nat) (μ : MS) (j : Nat) (hj : j < nn μ) (hn : nn μ ≤ 60) (hk : thgN (kd μ j) = false) (h12 : kd μ j ≤ 12) (i : Int32) (o : Option Nat) : YX l yX0_laid cX0_laid 3 none 8 10300 D tc x mo β [.ref (β (64 + j)), .int i, va_rf o] μ 0 := by
  refine YX.of (by decide) rfl (by cases o <;> exact Nat.le_of_ble_eq_true rfl) ?_
  intro p e s m below meth c hC hX hZ hlk hml htab hM hS ls hl
  have hx := hC.1
  have hb := hC.2.1
  have hts := hC.2.2.1
  have hown := hC.2.2.2.1
  have hl : lv_has ls 3 [(0, .ref (β (64 + j))), (1, .int i), (2, va_rf o)] := hl
  rcases (by simp [thgN] at hk; omega : kd μ j = 0 ∨ kd μ j = 1 ∨ kd μ j = 2 ∨ kd μ j = 3 ∨ kd μ j = 5 ∨ kd μ j = 6 ∨ kd μ j = 7) with hk_j | hk_j | hk_j | hk_j | hk_j | hk_j | hk_j
  · refine lv_aload_n hx hb dX0_laid_0 rfl (lv_at hl 0 rfl) ?_
    refine w_inst hC hX (k := 0) (f := 4) (by decide) (by decide) (sy_thRk hC.2.2.2.2 hM hj hn hk_j (by omega)) q284 rfl (b := false) rfl dX0_laid_1 ?_
    refine b_ifeq (w := false) (tgt := 20) hx hb dX0_laid_4 (by decide) (fun _ => ?_) (fun h => absurd (h.symm.trans rfl) (by decide))
    refine lv_aload_n hx hb dX0_laid_20 rfl (lv_at hl 0 rfl) ?_
    refine w_inst hC hX (k := 0) (f := 8) (by decide) (by decide) (sy_thRk hC.2.2.2.2 hM hj hn hk_j (by omega)) q138 rfl (b := false) rfl dX0_laid_21 ?_
    refine b_ifeq (w := false) (tgt := 40) hx hb dX0_laid_24 (by decide) (fun _ => ?_) (fun h => absurd (h.symm.trans rfl) (by decide))
    refine lv_aload_n hx hb dX0_laid_40 rfl (lv_at hl 0 rfl) ?_
    refine w_inst hC hX (k := 0) (f := 10) (by decide) (by decide) (sy_thRk hC.2.2.2.2 hM hj hn hk_j (by omega)) q285 rfl (b := false) rfl dX0_laid_41 ?_
    refine b_ifeq (w := false) (tgt := 60) hx hb dX0_laid_44 (by decide) (fun _ => ?_) (fun h => absurd (h.symm.trans rfl) (by decide))
    refine lv_aload_n hx hb dX0_laid_60 rfl (lv_at hl 0 rfl) ?_
    exact w_castNo hC hX (k := 0) (f := 11) (by decide) (by decide) (sy_thRk hC.2.2.2.2 hM hj hn hk_j (by omega)) q286 rfl rfl dX0_laid_61 (fun tx b1 b2 => sy_throw hC hX hst hZ hS (hl.1.trans hml.symm) hlk htab 0 (by decide) b1 b2 (Nat.le_of_ble_eq_true rfl) (Nat.le_of_ble_eq_true rfl) (Nat.le_of_ble_eq_true rfl) (Nat.le_of_ble_eq_true rfl))
  · refine lv_aload_n hx hb dX0_laid_0 rfl (lv_at hl 0 rfl) ?_
    refine w_inst hC hX (k := 1) (f := 4) (by decide) (by decide) (sy_thRk hC.2.2.2.2 hM hj hn hk_j (by omega)) q284 rfl (b := false) rfl dX0_laid_1 ?_
    refine b_ifeq (w := false) (tgt := 20) hx hb dX0_laid_4 (by decide) (fun _ => ?_) (fun h => absurd (h.symm.trans rfl) (by decide))
    refine lv_aload_n hx hb dX0_laid_20 rfl (lv_at hl 0 rfl) ?_
    refine w_inst hC hX (k := 1) (f := 8) (by decide) (by decide) (sy_thRk hC.2.2.2.2 hM hj hn hk_j (by omega)) q138 rfl (b := false) rfl dX0_laid_21 ?_
    refine b_ifeq (w := false) (tgt := 40) hx hb dX0_laid_24 (by decide) (fun _ => ?_) (fun h => absurd (h.symm.trans rfl) (by decide))
    refine lv_aload_n hx hb dX0_laid_40 rfl (lv_at hl 0 rfl) ?_
    refine w_inst hC hX (k := 1) (f := 10) (by decide) (by decide) (sy_thRk hC.2.2.2.2 hM hj hn hk_j (by omega)) q285 rfl (b := false) rfl dX0_laid_41 ?_
    refine b_ifeq (w := false) (tgt := 60) hx hb dX0_laid_44 (by decide) (fun _ => ?_) (fun h => absurd (h.symm.trans rfl) (by decide))
    refine lv_aload_n hx hb dX0_laid_60 rfl (lv_at hl 0 rfl) ?_
    exact w_castNo hC hX (k := 1) (f := 11) (by decide) (by decide) (sy_thRk hC.2.2.2.2 hM hj hn hk_j (by omega)) q286 rfl rfl dX0_laid_61 (fun tx b1 b2 => sy_throw hC hX hst hZ hS (hl.1.trans hml.symm) hlk htab 0 (by decide) b1 b2 (Nat.le_of_ble_eq_true rfl) (Nat.le_of_ble_eq_true rfl) (Nat.le_of_ble_eq_true rfl) (Nat.le_of_ble_eq_true rfl))
  · refine lv_aload_n hx hb dX0_laid_0 rfl (lv_at hl 0 rfl) ?_
    refine w_inst hC hX (k := 2) (f := 4) (by decide) (by decide) (sy_thRk hC.2.2.2.2 hM hj hn hk_j (by omega)) q284 rfl (b := false) rfl dX0_laid_1 ?_
    refine b_ifeq (w := false) (tgt := 20) hx hb dX0_laid_4 (by decide) (fun _ => ?_) (fun h => absurd (h.symm.trans rfl) (by decide))
    refine lv_aload_n hx hb dX0_laid_20 rfl (lv_at hl 0 rfl) ?_
    refine w_inst hC hX (k := 2) (f := 8) (by decide) (by decide) (sy_thRk hC.2.2.2.2 hM hj hn hk_j (by omega)) q138 rfl (b := false) rfl dX0_laid_21 ?_
    refine b_ifeq (w := false) (tgt := 40) hx hb dX0_laid_24 (by decide) (fun _ => ?_) (fun h => absurd (h.symm.trans rfl) (by decide))
    refine lv_aload_n hx hb dX0_laid_40 rfl (lv_at hl 0 rfl) ?_
    refine w_inst hC hX (k := 2) (f := 10) (by decide) (by decide) (sy_thRk hC.2.2.2.2 hM hj hn hk_j (by omega)) q285 rfl (b := false) rfl dX0_laid_41 ?_
    refine b_ifeq (w := false) (tgt := 60) hx hb dX0_laid_44 (by decide) (fun _ => ?_) (fun h => absurd (h.symm.trans rfl) (by decide))
    refine lv_aload_n hx hb dX0_laid_60 rfl (lv_at hl 0 rfl) ?_
    exact w_castNo hC hX (k := 2) (f := 11) (by decide) (by decide) (sy_thRk hC.2.2.2.2 hM hj hn hk_j (by omega)) q286 rfl rfl dX0_laid_61 (fun tx b1 b2 => sy_throw hC hX hst hZ hS (hl.1.trans hml.symm) hlk htab 0 (by decide) b1 b2 (Nat.le_of_ble_eq_true rfl) (Nat.le_of_ble_eq_true rfl) (Nat.le_of_ble_eq_true rfl) (Nat.le_of_ble_eq_true rfl))
  · refine lv_aload_n hx hb dX0_laid_0 rfl (lv_at hl 0 rfl) ?_
    refine w_inst hC hX (k := 3) (f := 4) (by decide) (by decide) (sy_thRk hC.2.2.2.2 hM hj hn hk_j (by omega)) q284 rfl (b := false) rfl dX0_laid_1 ?_
    refine b_ifeq (w := false) (tgt := 20) hx hb dX0_laid_4 (by decide) (fun _ => ?_) (fun h => absurd (h.symm.trans rfl) (by decide))
    refine lv_aload_n hx hb dX0_laid_20 rfl (lv_at hl 0 rfl) ?_
    refine w_inst hC hX (k := 3) (f := 8) (by decide) (by decide) (sy_thRk hC.2.2.2.2 hM hj hn hk_j (by omega)) q138 rfl (b := false) rfl dX0_laid_21 ?_
    refine b_ifeq (w := false) (tgt := 40) hx hb dX0_laid_24 (by decide) (fun _ => ?_) (fun h => absurd (h.symm.trans rfl) (by decide))
    refine lv_aload_n hx hb dX0_laid_40 rfl (lv_at hl 0 rfl) ?_
    refine w_inst hC hX (k := 3) (f := 10) (by decide) (by decide) (sy_thRk hC.2.2.2.2 hM hj hn hk_j (by omega)) q285 rfl (b := false) rfl dX0_laid_41 ?_
    refine b_ifeq (w := false) (tgt := 60) hx hb dX0_laid_44 (by decide) (fun _ => ?_) (fun h => absurd (h.symm.trans rfl) (by decide))
    refine lv_aload_n hx hb dX0_laid_60 rfl (lv_at hl 0 rfl) ?_
    exact w_castNo hC hX (k := 3) (f := 11) (by decide) (by decide) (sy_thRk hC.2.2.2.2 hM hj hn hk_j (by omega)) q286 rfl rfl dX0_laid_61 (fun tx b1 b2 => sy_throw hC hX hst hZ hS (hl.1.trans hml.symm) hlk htab 0 (by decide) b1 b2 (Nat.le_of_ble_eq_true rfl) (Nat.le_of_ble_eq_true rfl) (Nat.le_of_ble_eq_true rfl) (Nat.le_of_ble_eq_true rfl))
  · refine lv_aload_n hx hb dX0_laid_0 rfl (lv_at hl 0 rfl) ?_
    refine w_inst hC hX (k := 5) (f := 4) (by decide) (by decide) (sy_thRk hC.2.2.2.2 hM hj hn hk_j (by omega)) q284 rfl (b := false) rfl dX0_laid_1 ?_
    refine b_ifeq (w := false) (tgt := 20) hx hb dX0_laid_4 (by decide) (fun _ => ?_) (fun h => absurd (h.symm.trans rfl) (by decide))
    refine lv_aload_n hx hb dX0_laid_20 rfl (lv_at hl 0 rfl) ?_
    refine w_inst hC hX (k := 5) (f := 8) (by decide) (by decide) (sy_thRk hC.2.2.2.2 hM hj hn hk_j (by omega)) q138 rfl (b := false) rfl dX0_laid_21 ?_
    refine b_ifeq (w := false) (tgt := 40) hx hb dX0_laid_24 (by decide) (fun _ => ?_) (fun h => absurd (h.symm.trans rfl) (by decide))
    refine lv_aload_n hx hb dX0_laid_40 rfl (lv_at hl 0 rfl) ?_
    refine w_inst hC hX (k := 5) (f := 10) (by decide) (by decide) (sy_thRk hC.2.2.2.2 hM hj hn hk_j (by omega)) q285 rfl (b := false) rfl dX0_laid_41 ?_
    refine b_ifeq (w := false) (tgt := 60) hx hb dX0_laid_44 (by decide) (fun _ => ?_) (fun h => absurd (h.symm.trans rfl) (by decide))
    refine lv_aload_n hx hb dX0_laid_60 rfl (lv_at hl 0 rfl) ?_
    exact w_castNo hC hX (k := 5) (f := 11) (by decide) (by decide) (sy_thRk hC.2.2.2.2 hM hj hn hk_j (by omega)) q286 rfl rfl dX0_laid_61 (fun tx b1 b2 => sy_throw hC hX hst hZ hS (hl.1.trans hml.symm) hlk htab 0 (by decide) b1 b2 (Nat.le_of_ble_eq_true rfl) (Nat.le_of_ble_eq_true rfl) (Nat.le_of_ble_eq_true rfl) (Nat.le_of_ble_eq_true rfl))
  · refine lv_aload_n hx hb dX0_laid_0 rfl (lv_at hl 0 rfl) ?_
    refine w_inst hC hX (k := 6) (f := 4) (by decide) (by decide) (sy_thRk hC.2.2.2.2 hM hj hn hk_j (by omega)) q284 rfl (b := false) rfl dX0_laid_1 ?_
    refine b_ifeq (w := false) (tgt := 20) hx hb dX0_laid_4 (by decide) (fun _ => ?_) (fun h => absurd (h.symm.trans rfl) (by decide))
    refine lv_aload_n hx hb dX0_laid_20 rfl (lv_at hl 0 rfl) ?_
    refine w_inst hC hX (k := 6) (f := 8) (by decide) (by decide) (sy_thRk hC.2.2.2.2 hM hj hn hk_j (by omega)) q138 rfl (b := false) rfl dX0_laid_21 ?_
    refine b_ifeq (w := false) (tgt := 40) hx hb dX0_laid_24 (by decide) (fun _ => ?_) (fun h => absurd (h.symm.trans rfl) (by decide))
    refine lv_aload_n hx hb dX0_laid_40 rfl (lv_at hl 0 rfl) ?_
    refine w_inst hC hX (k := 6) (f := 10) (by decide) (by decide) (sy_thRk hC.2.2.2.2 hM hj hn hk_j (by omega)) q285 rfl (b := false) rfl dX0_laid_41 ?_
    refine b_ifeq (w := false) (tgt := 60) hx hb dX0_laid_44 (by decide) (fun _ => ?_) (fun h => absurd (h.symm.trans rfl) (by decide))
    refine lv_aload_n hx hb dX0_laid_60 rfl (lv_at hl 0 rfl) ?_
    exact w_castNo hC hX (k := 6) (f := 11) (by decide) (by decide) (sy_thRk hC.2.2.2.2 hM hj hn hk_j (by omega)) q286 rfl rfl dX0_laid_61 (fun tx b1 b2 => sy_throw hC hX hst hZ hS (hl.1.trans hml.symm) hlk htab 0 (by decide) b1 b2 (Nat.le_of_ble_eq_true rfl) (Nat.le_of_ble_eq_true rfl) (Nat.le_of_ble_eq_true rfl) (Nat.le_of_ble_eq_true rfl))
  · refine lv_aload_n hx hb dX0_laid_0 rfl (lv_at hl 0 rfl) ?_
    refine w_inst hC hX (k := 7) (f := 4) (by decide) (by decide) (sy_thRk hC.2.2.2.2 hM hj hn hk_j (by omega)) q284 rfl (b := false) rfl dX0_laid_1 ?_
    refine b_ifeq (w := false) (tgt := 20) hx hb dX0_laid_4 (by decide) (fun _ => ?_) (fun h => absurd (h.symm.trans rfl) (by decide))
    refine lv_aload_n hx hb dX0_laid_20 rfl (lv_at hl 0 rfl) ?_
    refine w_inst hC hX (k := 7) (f := 8) (by decide) (by decide) (sy_thRk hC.2.2.2.2 hM hj hn hk_j (by omega)) q138 rfl (b := false) rfl dX0_laid_21 ?_
    refine b_ifeq (w := false) (tgt := 40) hx hb dX0_laid_24 (by decide) (fun _ => ?_) (fun h => absurd (h.symm.trans rfl) (by decide))
    refine lv_aload_n hx hb dX0_laid_40 rfl (lv_at hl 0 rfl) ?_
    refine w_inst hC hX (k := 7) (f := 10) (by decide) (by decide) (sy_thRk hC.2.2.2.2 hM hj hn hk_j (by omega)) q285 rfl (b := false) rfl dX0_laid_41 ?_
    refine b_ifeq (w := false) (tgt := 60) hx hb dX0_laid_44 (by decide) (fun _ => ?_) (fun h => absurd (h.symm.trans rfl) (by decide))
    refine lv_aload_n hx hb dX0_laid_60 rfl (lv_at hl 0 rfl) ?_
    exact w_castNo hC hX (k := 7) (f := 11) (by decide) (by decide) (sy_thRk hC.2.2.2.2 hM hj hn hk_j (by omega)) q286 rfl rfl dX0_laid_61 (fun tx b1 b2 => sy_throw hC hX hst hZ hS (hl.1.trans hml.symm) hlk htab 0 (by decide) b1 b2 (Nat.le_of_ble_eq_true rfl) (Nat.le_of_ble_eq_true rfl) (Nat.le_of_ble_eq_true rfl) (Nat.le_of_ble_eq_true rfl))
theorem k_X0_laid_ccet (l : Launch) (hst : l.stackTraces = false) (D : va_G) (tc : Nat → ClassId) (x mo : Nat) (β : Nat → Nat) (μ : MS) (j : Nat) (hj : j < nn μ) (hn : nn μ ≤ 60) (hk : thgN (kd μ j) = true) (h12 : kd μ j ≤ 12) (t : Nat) (ht : t < nn μ) (ht12 : kd μ t ≤ 12) (hg : goesN (kd μ t) (wantN (kd μ j)) = false) (i : Int32) : YX l yX0_laid cX0_laid 3 none 8 10300 D tc x mo β [.ref (β (64 + j)), .int i, .ref (β (64 + t))] μ 0 := by
  refine YX.of (by decide) rfl (Nat.le_of_ble_eq_true rfl) ?_
  intro p e s m below meth c hC hX hZ hlk hml htab hM hS ls hl
  have hx := hC.1
  have hb := hC.2.1
  have hts := hC.2.2.1
  have hown := hC.2.2.2.1
  have hl : lv_has ls 3 [(0, .ref (β (64 + j))), (1, .int i), (2, .ref (β (64 + t)))] := hl
  rcases (by simp [thgN] at hk; omega : kd μ j = 4 ∨ kd μ j = 8 ∨ kd μ j = 9 ∨ kd μ j = 10 ∨ kd μ j = 11 ∨ kd μ j = 12) with hk_j | hk_j | hk_j | hk_j | hk_j | hk_j
  · refine lv_aload_n hx hb dX0_laid_0 rfl (lv_at hl 0 rfl) ?_
    refine w_inst hC hX (k := 4) (f := 4) (by decide) (by decide) (sy_thRk hC.2.2.2.2 hM hj hn hk_j (by omega)) q284 rfl (b := true) rfl dX0_laid_1 ?_
    refine b_ifeq (w := true) (tgt := 20) hx hb dX0_laid_4 (by decide) (fun h => absurd (h.symm.trans rfl) (by decide)) (fun _ => ?_)
    refine lv_aload_n hx hb dX0_laid_7 rfl (lv_at hl 0 rfl) ?_
    refine w_cast hC hX (k := 4) (f := 4) (by decide) (by decide) (sy_thRk hC.2.2.2.2 hM hj hn hk_j (by omega)) q284 rfl rfl dX0_laid_8 ?_
    refine lv_iload_n hx hb dX0_laid_11 rfl (lv_at hl 1 rfl) ?_
    refine lv_aload_n hx hb dX0_laid_12 rfl (lv_at hl 2 rfl) ?_
    exact w_castNo hC hX (k := kd μ t) (f := 0) (by omega) (by decide) (sy_thR hC.2.2.2.2 hM ht hn ht12) q100 rfl (by have h := hg; rw [hk_j] at h; exact h) dX0_laid_13 (fun tx b1 b2 => sy_throw hC hX hst hZ hS (hl.1.trans hml.symm) hlk htab 0 (by decide) b1 b2 (Nat.le_of_ble_eq_true rfl) (Nat.le_of_ble_eq_true rfl) (Nat.le_of_ble_eq_true rfl) (Nat.le_of_ble_eq_true rfl))
  · refine lv_aload_n hx hb dX0_laid_0 rfl (lv_at hl 0 rfl) ?_
    refine w_inst hC hX (k := 8) (f := 4) (by decide) (by decide) (sy_thRk hC.2.2.2.2 hM hj hn hk_j (by omega)) q284 rfl (b := false) rfl dX0_laid_1 ?_
    refine b_ifeq (w := false) (tgt := 20) hx hb dX0_laid_4 (by decide) (fun _ => ?_) (fun h => absurd (h.symm.trans rfl) (by decide))
    refine lv_aload_n hx hb dX0_laid_20 rfl (lv_at hl 0 rfl) ?_
    refine w_inst hC hX (k := 8) (f := 8) (by decide) (by decide) (sy_thRk hC.2.2.2.2 hM hj hn hk_j (by omega)) q138 rfl (b := true) rfl dX0_laid_21 ?_
    refine b_ifeq (w := true) (tgt := 40) hx hb dX0_laid_24 (by decide) (fun h => absurd (h.symm.trans rfl) (by decide)) (fun _ => ?_)
    refine lv_aload_n hx hb dX0_laid_27 rfl (lv_at hl 0 rfl) ?_
    refine w_cast hC hX (k := 8) (f := 8) (by decide) (by decide) (sy_thRk hC.2.2.2.2 hM hj hn hk_j (by omega)) q138 rfl rfl dX0_laid_28 ?_
    refine lv_iload_n hx hb dX0_laid_31 rfl (lv_at hl 1 rfl) ?_
    refine lv_aload_n hx hb dX0_laid_32 rfl (lv_at hl 2 rfl) ?_
    exact w_castNo hC hX (k := kd μ t) (f := 5) (by omega) (by decide) (sy_thR hC.2.2.2.2 hM ht hn ht12) q102 rfl (by have h := hg; rw [hk_j] at h; exact h) dX0_laid_33 (fun tx b1 b2 => sy_throw hC hX hst hZ hS (hl.1.trans hml.symm) hlk htab 0 (by decide) b1 b2 (Nat.le_of_ble_eq_true rfl) (Nat.le_of_ble_eq_true rfl) (Nat.le_of_ble_eq_true rfl) (Nat.le_of_ble_eq_true rfl))
  · refine lv_aload_n hx hb dX0_laid_0 rfl (lv_at hl 0 rfl) ?_
    refine w_inst hC hX (k := 9) (f := 4) (by decide) (by decide) (sy_thRk hC.2.2.2.2 hM hj hn hk_j (by omega)) q284 rfl (b := false) rfl dX0_laid_1 ?_
    refine b_ifeq (w := false) (tgt := 20) hx hb dX0_laid_4 (by decide) (fun _ => ?_) (fun h => absurd (h.symm.trans rfl) (by decide))
    refine lv_aload_n hx hb dX0_laid_20 rfl (lv_at hl 0 rfl) ?_
    refine w_inst hC hX (k := 9) (f := 8) (by decide) (by decide) (sy_thRk hC.2.2.2.2 hM hj hn hk_j (by omega)) q138 rfl (b := true) rfl dX0_laid_21 ?_
    refine b_ifeq (w := true) (tgt := 40) hx hb dX0_laid_24 (by decide) (fun h => absurd (h.symm.trans rfl) (by decide)) (fun _ => ?_)
    refine lv_aload_n hx hb dX0_laid_27 rfl (lv_at hl 0 rfl) ?_
    refine w_cast hC hX (k := 9) (f := 8) (by decide) (by decide) (sy_thRk hC.2.2.2.2 hM hj hn hk_j (by omega)) q138 rfl rfl dX0_laid_28 ?_
    refine lv_iload_n hx hb dX0_laid_31 rfl (lv_at hl 1 rfl) ?_
    refine lv_aload_n hx hb dX0_laid_32 rfl (lv_at hl 2 rfl) ?_
    exact w_castNo hC hX (k := kd μ t) (f := 5) (by omega) (by decide) (sy_thR hC.2.2.2.2 hM ht hn ht12) q102 rfl (by have h := hg; rw [hk_j] at h; exact h) dX0_laid_33 (fun tx b1 b2 => sy_throw hC hX hst hZ hS (hl.1.trans hml.symm) hlk htab 0 (by decide) b1 b2 (Nat.le_of_ble_eq_true rfl) (Nat.le_of_ble_eq_true rfl) (Nat.le_of_ble_eq_true rfl) (Nat.le_of_ble_eq_true rfl))
  · refine lv_aload_n hx hb dX0_laid_0 rfl (lv_at hl 0 rfl) ?_
    refine w_inst hC hX (k := 10) (f := 4) (by decide) (by decide) (sy_thRk hC.2.2.2.2 hM hj hn hk_j (by omega)) q284 rfl (b := false) rfl dX0_laid_1 ?_
    refine b_ifeq (w := false) (tgt := 20) hx hb dX0_laid_4 (by decide) (fun _ => ?_) (fun h => absurd (h.symm.trans rfl) (by decide))
    refine lv_aload_n hx hb dX0_laid_20 rfl (lv_at hl 0 rfl) ?_
    refine w_inst hC hX (k := 10) (f := 8) (by decide) (by decide) (sy_thRk hC.2.2.2.2 hM hj hn hk_j (by omega)) q138 rfl (b := false) rfl dX0_laid_21 ?_
    refine b_ifeq (w := false) (tgt := 40) hx hb dX0_laid_24 (by decide) (fun _ => ?_) (fun h => absurd (h.symm.trans rfl) (by decide))
    refine lv_aload_n hx hb dX0_laid_40 rfl (lv_at hl 0 rfl) ?_
    refine w_inst hC hX (k := 10) (f := 10) (by decide) (by decide) (sy_thRk hC.2.2.2.2 hM hj hn hk_j (by omega)) q285 rfl (b := true) rfl dX0_laid_41 ?_
    refine b_ifeq (w := true) (tgt := 60) hx hb dX0_laid_44 (by decide) (fun h => absurd (h.symm.trans rfl) (by decide)) (fun _ => ?_)
    refine lv_aload_n hx hb dX0_laid_47 rfl (lv_at hl 0 rfl) ?_
    refine w_cast hC hX (k := 10) (f := 10) (by decide) (by decide) (sy_thRk hC.2.2.2.2 hM hj hn hk_j (by omega)) q285 rfl rfl dX0_laid_48 ?_
    refine lv_iload_n hx hb dX0_laid_51 rfl (lv_at hl 1 rfl) ?_
    refine lv_aload_n hx hb dX0_laid_52 rfl (lv_at hl 2 rfl) ?_
    exact w_castNo hC hX (k := kd μ t) (f := 13) (by omega) (by decide) (sy_thR hC.2.2.2.2 hM ht hn ht12) q136 rfl (by have h := hg; rw [hk_j] at h; exact h) dX0_laid_53 (fun tx b1 b2 => sy_throw hC hX hst hZ hS (hl.1.trans hml.symm) hlk htab 0 (by decide) b1 b2 (Nat.le_of_ble_eq_true rfl) (Nat.le_of_ble_eq_true rfl) (Nat.le_of_ble_eq_true rfl) (Nat.le_of_ble_eq_true rfl))
  · refine lv_aload_n hx hb dX0_laid_0 rfl (lv_at hl 0 rfl) ?_
    refine w_inst hC hX (k := 11) (f := 4) (by decide) (by decide) (sy_thRk hC.2.2.2.2 hM hj hn hk_j (by omega)) q284 rfl (b := false) rfl dX0_laid_1 ?_
    refine b_ifeq (w := false) (tgt := 20) hx hb dX0_laid_4 (by decide) (fun _ => ?_) (fun h => absurd (h.symm.trans rfl) (by decide))
    refine lv_aload_n hx hb dX0_laid_20 rfl (lv_at hl 0 rfl) ?_
    refine w_inst hC hX (k := 11) (f := 8) (by decide) (by decide) (sy_thRk hC.2.2.2.2 hM hj hn hk_j (by omega)) q138 rfl (b := false) rfl dX0_laid_21 ?_
    refine b_ifeq (w := false) (tgt := 40) hx hb dX0_laid_24 (by decide) (fun _ => ?_) (fun h => absurd (h.symm.trans rfl) (by decide))
    refine lv_aload_n hx hb dX0_laid_40 rfl (lv_at hl 0 rfl) ?_
    refine w_inst hC hX (k := 11) (f := 10) (by decide) (by decide) (sy_thRk hC.2.2.2.2 hM hj hn hk_j (by omega)) q285 rfl (b := false) rfl dX0_laid_41 ?_
    refine b_ifeq (w := false) (tgt := 60) hx hb dX0_laid_44 (by decide) (fun _ => ?_) (fun h => absurd (h.symm.trans rfl) (by decide))
    refine lv_aload_n hx hb dX0_laid_60 rfl (lv_at hl 0 rfl) ?_
    refine w_cast hC hX (k := 11) (f := 11) (by decide) (by decide) (sy_thRk hC.2.2.2.2 hM hj hn hk_j (by omega)) q286 rfl rfl dX0_laid_61 ?_
    refine lv_iload_n hx hb dX0_laid_64 rfl (lv_at hl 1 rfl) ?_
    refine lv_aload_n hx hb dX0_laid_65 rfl (lv_at hl 2 rfl) ?_
    exact w_castNo hC hX (k := kd μ t) (f := 8) (by omega) (by decide) (sy_thR hC.2.2.2.2 hM ht hn ht12) q138 rfl (by have h := hg; rw [hk_j] at h; exact h) dX0_laid_66 (fun tx b1 b2 => sy_throw hC hX hst hZ hS (hl.1.trans hml.symm) hlk htab 0 (by decide) b1 b2 (Nat.le_of_ble_eq_true rfl) (Nat.le_of_ble_eq_true rfl) (Nat.le_of_ble_eq_true rfl) (Nat.le_of_ble_eq_true rfl))
  · refine lv_aload_n hx hb dX0_laid_0 rfl (lv_at hl 0 rfl) ?_
    refine w_inst hC hX (k := 12) (f := 4) (by decide) (by decide) (sy_thRk hC.2.2.2.2 hM hj hn hk_j (by omega)) q284 rfl (b := false) rfl dX0_laid_1 ?_
    refine b_ifeq (w := false) (tgt := 20) hx hb dX0_laid_4 (by decide) (fun _ => ?_) (fun h => absurd (h.symm.trans rfl) (by decide))
    refine lv_aload_n hx hb dX0_laid_20 rfl (lv_at hl 0 rfl) ?_
    refine w_inst hC hX (k := 12) (f := 8) (by decide) (by decide) (sy_thRk hC.2.2.2.2 hM hj hn hk_j (by omega)) q138 rfl (b := false) rfl dX0_laid_21 ?_
    refine b_ifeq (w := false) (tgt := 40) hx hb dX0_laid_24 (by decide) (fun _ => ?_) (fun h => absurd (h.symm.trans rfl) (by decide))
    refine lv_aload_n hx hb dX0_laid_40 rfl (lv_at hl 0 rfl) ?_
    refine w_inst hC hX (k := 12) (f := 10) (by decide) (by decide) (sy_thRk hC.2.2.2.2 hM hj hn hk_j (by omega)) q285 rfl (b := false) rfl dX0_laid_41 ?_
    refine b_ifeq (w := false) (tgt := 60) hx hb dX0_laid_44 (by decide) (fun _ => ?_) (fun h => absurd (h.symm.trans rfl) (by decide))
    refine lv_aload_n hx hb dX0_laid_60 rfl (lv_at hl 0 rfl) ?_
    refine w_cast hC hX (k := 12) (f := 11) (by decide) (by decide) (sy_thRk hC.2.2.2.2 hM hj hn hk_j (by omega)) q286 rfl rfl dX0_laid_61 ?_
    refine lv_iload_n hx hb dX0_laid_64 rfl (lv_at hl 1 rfl) ?_
    refine lv_aload_n hx hb dX0_laid_65 rfl (lv_at hl 2 rfl) ?_
    exact w_castNo hC hX (k := kd μ t) (f := 8) (by omega) (by decide) (sy_thR hC.2.2.2.2 hM ht hn ht12) q138 rfl (by have h := hg; rw [hk_j] at h; exact h) dX0_laid_66 (fun tx b1 b2 => sy_throw hC hX hst hZ hS (hl.1.trans hml.symm) hlk htab 0 (by decide) b1 b2 (Nat.le_of_ble_eq_true rfl) (Nat.le_of_ble_eq_true rfl) (Nat.le_of_ble_eq_true rfl) (Nat.le_of_ble_eq_true rfl))
theorem k_X0_laid_noob (l : Launch) (hst : l.stackTraces = false) (D : va_G) (tc : Nat → ClassId) (x mo : Nat) (β : Nat → Nat) (μ : MS) (j : Nat) (hj : j < nn μ) (hn : nn μ ≤ 60) (hk : thgN (kd μ j) = true) (h12 : kd μ j ≤ 12) (h3 : sz μ j ≤ 3) (i : Int32) (hout : ¬ vp_in i (sz μ j)) : YX l yX0_laid cX0_laid 3 none 8 10300 D tc x mo β [.ref (β (64 + j)), .int i, .null] μ 1 := by
  refine YX.of (by decide) rfl (Nat.le_of_ble_eq_true rfl) ?_
  intro p e s m below meth c hC hX hZ hlk hml htab hM hS ls hl
  have hx := hC.1
  have hb := hC.2.1
  have hts := hC.2.2.1
  have hown := hC.2.2.2.1
  have hl : lv_has ls 3 [(0, .ref (β (64 + j))), (1, .int i), (2, .null)] := hl
  rcases (by simp [thgN] at hk; omega : kd μ j = 4 ∨ kd μ j = 8 ∨ kd μ j = 9 ∨ kd μ j = 10 ∨ kd μ j = 11 ∨ kd μ j = 12) with hk_j | hk_j | hk_j | hk_j | hk_j | hk_j
  · refine lv_aload_n hx hb dX0_laid_0 rfl (lv_at hl 0 rfl) ?_
    refine w_inst hC hX (k := 4) (f := 4) (by decide) (by decide) (sy_thRk hC.2.2.2.2 hM hj hn hk_j (by omega)) q284 rfl (b := true) rfl dX0_laid_1 ?_
    refine b_ifeq (w := true) (tgt := 20) hx hb dX0_laid_4 (by decide) (fun h => absurd (h.symm.trans rfl) (by decide)) (fun _ => ?_)
    refine lv_aload_n hx hb dX0_laid_7 rfl (lv_at hl 0 rfl) ?_
    refine w_cast hC hX (k := 4) (f := 4) (by decide) (by decide) (sy_thRk hC.2.2.2.2 hM hj hn hk_j (by omega)) q284 rfl rfl dX0_laid_8 ?_
    refine lv_iload_n hx hb dX0_laid_11 rfl (lv_at hl 1 rfl) ?_
    refine lv_aload_nN hx hb dX0_laid_12 rfl (lv_at hl 2 rfl) ?_
    refine lv_castN hx hb dX0_laid_13 ?_
    exact sy_aastZ (o := none) hC hM hj hn hk_j (by omega) h3 hout dX0_laid_16 (fun tx b1 b2 => sy_throw hC hX hst hZ hS (hl.1.trans hml.symm) hlk htab 1 (by decide) b1 b2 (Nat.le_of_ble_eq_true rfl) (Nat.le_of_ble_eq_true rfl) (Nat.le_of_ble_eq_true rfl) (Nat.le_of_ble_eq_true rfl))
  · refine lv_aload_n hx hb dX0_laid_0 rfl (lv_at hl 0 rfl) ?_
    refine w_inst hC hX (k := 8) (f := 4) (by decide) (by decide) (sy_thRk hC.2.2.2.2 hM hj hn hk_j (by omega)) q284 rfl (b := false) rfl dX0_laid_1 ?_
    refine b_ifeq (w := false) (tgt := 20) hx hb dX0_laid_4 (by decide) (fun _ => ?_) (fun h => absurd (h.symm.trans rfl) (by decide))
    refine lv_aload_n hx hb dX0_laid_20 rfl (lv_at hl 0 rfl) ?_
    refine w_inst hC hX (k := 8) (f := 8) (by decide) (by decide) (sy_thRk hC.2.2.2.2 hM hj hn hk_j (by omega)) q138 rfl (b := true) rfl dX0_laid_21 ?_
    refine b_ifeq (w := true) (tgt := 40) hx hb dX0_laid_24 (by decide) (fun h => absurd (h.symm.trans rfl) (by decide)) (fun _ => ?_)
    refine lv_aload_n hx hb dX0_laid_27 rfl (lv_at hl 0 rfl) ?_
    refine w_cast hC hX (k := 8) (f := 8) (by decide) (by decide) (sy_thRk hC.2.2.2.2 hM hj hn hk_j (by omega)) q138 rfl rfl dX0_laid_28 ?_
    refine lv_iload_n hx hb dX0_laid_31 rfl (lv_at hl 1 rfl) ?_
    refine lv_aload_nN hx hb dX0_laid_32 rfl (lv_at hl 2 rfl) ?_
    refine lv_castN hx hb dX0_laid_33 ?_
    exact sy_aastZ (o := none) hC hM hj hn hk_j (by omega) h3 hout dX0_laid_36 (fun tx b1 b2 => sy_throw hC hX hst hZ hS (hl.1.trans hml.symm) hlk htab 1 (by decide) b1 b2 (Nat.le_of_ble_eq_true rfl) (Nat.le_of_ble_eq_true rfl) (Nat.le_of_ble_eq_true rfl) (Nat.le_of_ble_eq_true rfl))
  · refine lv_aload_n hx hb dX0_laid_0 rfl (lv_at hl 0 rfl) ?_
    refine w_inst hC hX (k := 9) (f := 4) (by decide) (by decide) (sy_thRk hC.2.2.2.2 hM hj hn hk_j (by omega)) q284 rfl (b := false) rfl dX0_laid_1 ?_
    refine b_ifeq (w := false) (tgt := 20) hx hb dX0_laid_4 (by decide) (fun _ => ?_) (fun h => absurd (h.symm.trans rfl) (by decide))
    refine lv_aload_n hx hb dX0_laid_20 rfl (lv_at hl 0 rfl) ?_
    refine w_inst hC hX (k := 9) (f := 8) (by decide) (by decide) (sy_thRk hC.2.2.2.2 hM hj hn hk_j (by omega)) q138 rfl (b := true) rfl dX0_laid_21 ?_
    refine b_ifeq (w := true) (tgt := 40) hx hb dX0_laid_24 (by decide) (fun h => absurd (h.symm.trans rfl) (by decide)) (fun _ => ?_)
    refine lv_aload_n hx hb dX0_laid_27 rfl (lv_at hl 0 rfl) ?_
    refine w_cast hC hX (k := 9) (f := 8) (by decide) (by decide) (sy_thRk hC.2.2.2.2 hM hj hn hk_j (by omega)) q138 rfl rfl dX0_laid_28 ?_
    refine lv_iload_n hx hb dX0_laid_31 rfl (lv_at hl 1 rfl) ?_
    refine lv_aload_nN hx hb dX0_laid_32 rfl (lv_at hl 2 rfl) ?_
    refine lv_castN hx hb dX0_laid_33 ?_
    exact sy_aastZ (o := none) hC hM hj hn hk_j (by omega) h3 hout dX0_laid_36 (fun tx b1 b2 => sy_throw hC hX hst hZ hS (hl.1.trans hml.symm) hlk htab 1 (by decide) b1 b2 (Nat.le_of_ble_eq_true rfl) (Nat.le_of_ble_eq_true rfl) (Nat.le_of_ble_eq_true rfl) (Nat.le_of_ble_eq_true rfl))
  · refine lv_aload_n hx hb dX0_laid_0 rfl (lv_at hl 0 rfl) ?_
    refine w_inst hC hX (k := 10) (f := 4) (by decide) (by decide) (sy_thRk hC.2.2.2.2 hM hj hn hk_j (by omega)) q284 rfl (b := false) rfl dX0_laid_1 ?_
    refine b_ifeq (w := false) (tgt := 20) hx hb dX0_laid_4 (by decide) (fun _ => ?_) (fun h => absurd (h.symm.trans rfl) (by decide))
    refine lv_aload_n hx hb dX0_laid_20 rfl (lv_at hl 0 rfl) ?_
    refine w_inst hC hX (k := 10) (f := 8) (by decide) (by decide) (sy_thRk hC.2.2.2.2 hM hj hn hk_j (by omega)) q138 rfl (b := false) rfl dX0_laid_21 ?_
    refine b_ifeq (w := false) (tgt := 40) hx hb dX0_laid_24 (by decide) (fun _ => ?_) (fun h => absurd (h.symm.trans rfl) (by decide))
    refine lv_aload_n hx hb dX0_laid_40 rfl (lv_at hl 0 rfl) ?_
    refine w_inst hC hX (k := 10) (f := 10) (by decide) (by decide) (sy_thRk hC.2.2.2.2 hM hj hn hk_j (by omega)) q285 rfl (b := true) rfl dX0_laid_41 ?_
    refine b_ifeq (w := true) (tgt := 60) hx hb dX0_laid_44 (by decide) (fun h => absurd (h.symm.trans rfl) (by decide)) (fun _ => ?_)
    refine lv_aload_n hx hb dX0_laid_47 rfl (lv_at hl 0 rfl) ?_
    refine w_cast hC hX (k := 10) (f := 10) (by decide) (by decide) (sy_thRk hC.2.2.2.2 hM hj hn hk_j (by omega)) q285 rfl rfl dX0_laid_48 ?_
    refine lv_iload_n hx hb dX0_laid_51 rfl (lv_at hl 1 rfl) ?_
    refine lv_aload_nN hx hb dX0_laid_52 rfl (lv_at hl 2 rfl) ?_
    refine lv_castN hx hb dX0_laid_53 ?_
    exact sy_aastZ (o := none) hC hM hj hn hk_j (by omega) h3 hout dX0_laid_56 (fun tx b1 b2 => sy_throw hC hX hst hZ hS (hl.1.trans hml.symm) hlk htab 1 (by decide) b1 b2 (Nat.le_of_ble_eq_true rfl) (Nat.le_of_ble_eq_true rfl) (Nat.le_of_ble_eq_true rfl) (Nat.le_of_ble_eq_true rfl))
  · refine lv_aload_n hx hb dX0_laid_0 rfl (lv_at hl 0 rfl) ?_
    refine w_inst hC hX (k := 11) (f := 4) (by decide) (by decide) (sy_thRk hC.2.2.2.2 hM hj hn hk_j (by omega)) q284 rfl (b := false) rfl dX0_laid_1 ?_
    refine b_ifeq (w := false) (tgt := 20) hx hb dX0_laid_4 (by decide) (fun _ => ?_) (fun h => absurd (h.symm.trans rfl) (by decide))
    refine lv_aload_n hx hb dX0_laid_20 rfl (lv_at hl 0 rfl) ?_
    refine w_inst hC hX (k := 11) (f := 8) (by decide) (by decide) (sy_thRk hC.2.2.2.2 hM hj hn hk_j (by omega)) q138 rfl (b := false) rfl dX0_laid_21 ?_
    refine b_ifeq (w := false) (tgt := 40) hx hb dX0_laid_24 (by decide) (fun _ => ?_) (fun h => absurd (h.symm.trans rfl) (by decide))
    refine lv_aload_n hx hb dX0_laid_40 rfl (lv_at hl 0 rfl) ?_
    refine w_inst hC hX (k := 11) (f := 10) (by decide) (by decide) (sy_thRk hC.2.2.2.2 hM hj hn hk_j (by omega)) q285 rfl (b := false) rfl dX0_laid_41 ?_
    refine b_ifeq (w := false) (tgt := 60) hx hb dX0_laid_44 (by decide) (fun _ => ?_) (fun h => absurd (h.symm.trans rfl) (by decide))
    refine lv_aload_n hx hb dX0_laid_60 rfl (lv_at hl 0 rfl) ?_
    refine w_cast hC hX (k := 11) (f := 11) (by decide) (by decide) (sy_thRk hC.2.2.2.2 hM hj hn hk_j (by omega)) q286 rfl rfl dX0_laid_61 ?_
    refine lv_iload_n hx hb dX0_laid_64 rfl (lv_at hl 1 rfl) ?_
    refine lv_aload_nN hx hb dX0_laid_65 rfl (lv_at hl 2 rfl) ?_
    refine lv_castN hx hb dX0_laid_66 ?_
    exact sy_aastZ (o := none) hC hM hj hn hk_j (by omega) h3 hout dX0_laid_69 (fun tx b1 b2 => sy_throw hC hX hst hZ hS (hl.1.trans hml.symm) hlk htab 1 (by decide) b1 b2 (Nat.le_of_ble_eq_true rfl) (Nat.le_of_ble_eq_true rfl) (Nat.le_of_ble_eq_true rfl) (Nat.le_of_ble_eq_true rfl))
  · refine lv_aload_n hx hb dX0_laid_0 rfl (lv_at hl 0 rfl) ?_
    refine w_inst hC hX (k := 12) (f := 4) (by decide) (by decide) (sy_thRk hC.2.2.2.2 hM hj hn hk_j (by omega)) q284 rfl (b := false) rfl dX0_laid_1 ?_
    refine b_ifeq (w := false) (tgt := 20) hx hb dX0_laid_4 (by decide) (fun _ => ?_) (fun h => absurd (h.symm.trans rfl) (by decide))
    refine lv_aload_n hx hb dX0_laid_20 rfl (lv_at hl 0 rfl) ?_
    refine w_inst hC hX (k := 12) (f := 8) (by decide) (by decide) (sy_thRk hC.2.2.2.2 hM hj hn hk_j (by omega)) q138 rfl (b := false) rfl dX0_laid_21 ?_
    refine b_ifeq (w := false) (tgt := 40) hx hb dX0_laid_24 (by decide) (fun _ => ?_) (fun h => absurd (h.symm.trans rfl) (by decide))
    refine lv_aload_n hx hb dX0_laid_40 rfl (lv_at hl 0 rfl) ?_
    refine w_inst hC hX (k := 12) (f := 10) (by decide) (by decide) (sy_thRk hC.2.2.2.2 hM hj hn hk_j (by omega)) q285 rfl (b := false) rfl dX0_laid_41 ?_
    refine b_ifeq (w := false) (tgt := 60) hx hb dX0_laid_44 (by decide) (fun _ => ?_) (fun h => absurd (h.symm.trans rfl) (by decide))
    refine lv_aload_n hx hb dX0_laid_60 rfl (lv_at hl 0 rfl) ?_
    refine w_cast hC hX (k := 12) (f := 11) (by decide) (by decide) (sy_thRk hC.2.2.2.2 hM hj hn hk_j (by omega)) q286 rfl rfl dX0_laid_61 ?_
    refine lv_iload_n hx hb dX0_laid_64 rfl (lv_at hl 1 rfl) ?_
    refine lv_aload_nN hx hb dX0_laid_65 rfl (lv_at hl 2 rfl) ?_
    refine lv_castN hx hb dX0_laid_66 ?_
    exact sy_aastZ (o := none) hC hM hj hn hk_j (by omega) h3 hout dX0_laid_69 (fun tx b1 b2 => sy_throw hC hX hst hZ hS (hl.1.trans hml.symm) hlk htab 1 (by decide) b1 b2 (Nat.le_of_ble_eq_true rfl) (Nat.le_of_ble_eq_true rfl) (Nat.le_of_ble_eq_true rfl) (Nat.le_of_ble_eq_true rfl))
theorem k_X0_laid_toob (l : Launch) (hst : l.stackTraces = false) (D : va_G) (tc : Nat → ClassId) (x mo : Nat) (β : Nat → Nat) (μ : MS) (j : Nat) (hj : j < nn μ) (hn : nn μ ≤ 60) (hk : thgN (kd μ j) = true) (h12 : kd μ j ≤ 12) (h3 : sz μ j ≤ 3) (t : Nat) (ht : t < nn μ) (ht12 : kd μ t ≤ 12) (hg : goesN (kd μ t) (wantN (kd μ j)) = true) (i : Int32) (hout : ¬ vp_in i (sz μ j)) : YX l yX0_laid cX0_laid 3 none 8 10300 D tc x mo β [.ref (β (64 + j)), .int i, .ref (β (64 + t))] μ 1 := by
  refine YX.of (by decide) rfl (Nat.le_of_ble_eq_true rfl) ?_
  intro p e s m below meth c hC hX hZ hlk hml htab hM hS ls hl
  have hx := hC.1
  have hb := hC.2.1
  have hts := hC.2.2.1
  have hown := hC.2.2.2.1
  have hl : lv_has ls 3 [(0, .ref (β (64 + j))), (1, .int i), (2, .ref (β (64 + t)))] := hl
  rcases (by simp [thgN] at hk; omega : kd μ j = 4 ∨ kd μ j = 8 ∨ kd μ j = 9 ∨ kd μ j = 10 ∨ kd μ j = 11 ∨ kd μ j = 12) with hk_j | hk_j | hk_j | hk_j | hk_j | hk_j
  · refine lv_aload_n hx hb dX0_laid_0 rfl (lv_at hl 0 rfl) ?_
    refine w_inst hC hX (k := 4) (f := 4) (by decide) (by decide) (sy_thRk hC.2.2.2.2 hM hj hn hk_j (by omega)) q284 rfl (b := true) rfl dX0_laid_1 ?_
    refine b_ifeq (w := true) (tgt := 20) hx hb dX0_laid_4 (by decide) (fun h => absurd (h.symm.trans rfl) (by decide)) (fun _ => ?_)
    refine lv_aload_n hx hb dX0_laid_7 rfl (lv_at hl 0 rfl) ?_
    refine w_cast hC hX (k := 4) (f := 4) (by decide) (by decide) (sy_thRk hC.2.2.2.2 hM hj hn hk_j (by omega)) q284 rfl rfl dX0_laid_8 ?_
    refine lv_iload_n hx hb dX0_laid_11 rfl (lv_at hl 1 rfl) ?_
    refine lv_aload_n hx hb dX0_laid_12 rfl (lv_at hl 2 rfl) ?_
    refine w_cast hC hX (k := kd μ t) (f := 0) (by omega) (by decide) (sy_thR hC.2.2.2.2 hM ht hn ht12) q100 rfl (by have h := hg; rw [hk_j] at h; exact h) dX0_laid_13 ?_
    exact sy_aastZ (o := some (β (64 + t))) hC hM hj hn hk_j (by omega) h3 hout dX0_laid_16 (fun tx b1 b2 => sy_throw hC hX hst hZ hS (hl.1.trans hml.symm) hlk htab 1 (by decide) b1 b2 (Nat.le_of_ble_eq_true rfl) (Nat.le_of_ble_eq_true rfl) (Nat.le_of_ble_eq_true rfl) (Nat.le_of_ble_eq_true rfl))
  · refine lv_aload_n hx hb dX0_laid_0 rfl (lv_at hl 0 rfl) ?_
    refine w_inst hC hX (k := 8) (f := 4) (by decide) (by decide) (sy_thRk hC.2.2.2.2 hM hj hn hk_j (by omega)) q284 rfl (b := false) rfl dX0_laid_1 ?_
    refine b_ifeq (w := false) (tgt := 20) hx hb dX0_laid_4 (by decide) (fun _ => ?_) (fun h => absurd (h.symm.trans rfl) (by decide))
    refine lv_aload_n hx hb dX0_laid_20 rfl (lv_at hl 0 rfl) ?_
    refine w_inst hC hX (k := 8) (f := 8) (by decide) (by decide) (sy_thRk hC.2.2.2.2 hM hj hn hk_j (by omega)) q138 rfl (b := true) rfl dX0_laid_21 ?_
    refine b_ifeq (w := true) (tgt := 40) hx hb dX0_laid_24 (by decide) (fun h => absurd (h.symm.trans rfl) (by decide)) (fun _ => ?_)
    refine lv_aload_n hx hb dX0_laid_27 rfl (lv_at hl 0 rfl) ?_
    refine w_cast hC hX (k := 8) (f := 8) (by decide) (by decide) (sy_thRk hC.2.2.2.2 hM hj hn hk_j (by omega)) q138 rfl rfl dX0_laid_28 ?_
    refine lv_iload_n hx hb dX0_laid_31 rfl (lv_at hl 1 rfl) ?_
    refine lv_aload_n hx hb dX0_laid_32 rfl (lv_at hl 2 rfl) ?_
    refine w_cast hC hX (k := kd μ t) (f := 5) (by omega) (by decide) (sy_thR hC.2.2.2.2 hM ht hn ht12) q102 rfl (by have h := hg; rw [hk_j] at h; exact h) dX0_laid_33 ?_
    exact sy_aastZ (o := some (β (64 + t))) hC hM hj hn hk_j (by omega) h3 hout dX0_laid_36 (fun tx b1 b2 => sy_throw hC hX hst hZ hS (hl.1.trans hml.symm) hlk htab 1 (by decide) b1 b2 (Nat.le_of_ble_eq_true rfl) (Nat.le_of_ble_eq_true rfl) (Nat.le_of_ble_eq_true rfl) (Nat.le_of_ble_eq_true rfl))
  · refine lv_aload_n hx hb dX0_laid_0 rfl (lv_at hl 0 rfl) ?_
    refine w_inst hC hX (k := 9) (f := 4) (by decide) (by decide) (sy_thRk hC.2.2.2.2 hM hj hn hk_j (by omega)) q284 rfl (b := false) rfl dX0_laid_1 ?_
    refine b_ifeq (w := false) (tgt := 20) hx hb dX0_laid_4 (by decide) (fun _ => ?_) (fun h => absurd (h.symm.trans rfl) (by decide))
    refine lv_aload_n hx hb dX0_laid_20 rfl (lv_at hl 0 rfl) ?_
    refine w_inst hC hX (k := 9) (f := 8) (by decide) (by decide) (sy_thRk hC.2.2.2.2 hM hj hn hk_j (by omega)) q138 rfl (b := true) rfl dX0_laid_21 ?_
    refine b_ifeq (w := true) (tgt := 40) hx hb dX0_laid_24 (by decide) (fun h => absurd (h.symm.trans rfl) (by decide)) (fun _ => ?_)
    refine lv_aload_n hx hb dX0_laid_27 rfl (lv_at hl 0 rfl) ?_
    refine w_cast hC hX (k := 9) (f := 8) (by decide) (by decide) (sy_thRk hC.2.2.2.2 hM hj hn hk_j (by omega)) q138 rfl rfl dX0_laid_28 ?_
    refine lv_iload_n hx hb dX0_laid_31 rfl (lv_at hl 1 rfl) ?_
    refine lv_aload_n hx hb dX0_laid_32 rfl (lv_at hl 2 rfl) ?_
    refine w_cast hC hX (k := kd μ t) (f := 5) (by omega) (by decide) (sy_thR hC.2.2.2.2 hM ht hn ht12) q102 rfl (by have h := hg; rw [hk_j] at h; exact h) dX0_laid_33 ?_
    exact sy_aastZ (o := some (β (64 + t))) hC hM hj hn hk_j (by omega) h3 hout dX0_laid_36 (fun tx b1 b2 => sy_throw hC hX hst hZ hS (hl.1.trans hml.symm) hlk htab 1 (by decide) b1 b2 (Nat.le_of_ble_eq_true rfl) (Nat.le_of_ble_eq_true rfl) (Nat.le_of_ble_eq_true rfl) (Nat.le_of_ble_eq_true rfl))
  · refine lv_aload_n hx hb dX0_laid_0 rfl (lv_at hl 0 rfl) ?_
    refine w_inst hC hX (k := 10) (f := 4) (by decide) (by decide) (sy_thRk hC.2.2.2.2 hM hj hn hk_j (by omega)) q284 rfl (b := false) rfl dX0_laid_1 ?_
    refine b_ifeq (w := false) (tgt := 20) hx hb dX0_laid_4 (by decide) (fun _ => ?_) (fun h => absurd (h.symm.trans rfl) (by decide))
    refine lv_aload_n hx hb dX0_laid_20 rfl (lv_at hl 0 rfl) ?_
    refine w_inst hC hX (k := 10) (f := 8) (by decide) (by decide) (sy_thRk hC.2.2.2.2 hM hj hn hk_j (by omega)) q138 rfl (b := false) rfl dX0_laid_21 ?_
    refine b_ifeq (w := false) (tgt := 40) hx hb dX0_laid_24 (by decide) (fun _ => ?_) (fun h => absurd (h.symm.trans rfl) (by decide))
    refine lv_aload_n hx hb dX0_laid_40 rfl (lv_at hl 0 rfl) ?_
    refine w_inst hC hX (k := 10) (f := 10) (by decide) (by decide) (sy_thRk hC.2.2.2.2 hM hj hn hk_j (by omega)) q285 rfl (b := true) rfl dX0_laid_41 ?_
    refine b_ifeq (w := true) (tgt := 60) hx hb dX0_laid_44 (by decide) (fun h => absurd (h.symm.trans rfl) (by decide)) (fun _ => ?_)
    refine lv_aload_n hx hb dX0_laid_47 rfl (lv_at hl 0 rfl) ?_
    refine w_cast hC hX (k := 10) (f := 10) (by decide) (by decide) (sy_thRk hC.2.2.2.2 hM hj hn hk_j (by omega)) q285 rfl rfl dX0_laid_48 ?_
    refine lv_iload_n hx hb dX0_laid_51 rfl (lv_at hl 1 rfl) ?_
    refine lv_aload_n hx hb dX0_laid_52 rfl (lv_at hl 2 rfl) ?_
    refine w_cast hC hX (k := kd μ t) (f := 13) (by omega) (by decide) (sy_thR hC.2.2.2.2 hM ht hn ht12) q136 rfl (by have h := hg; rw [hk_j] at h; exact h) dX0_laid_53 ?_
    exact sy_aastZ (o := some (β (64 + t))) hC hM hj hn hk_j (by omega) h3 hout dX0_laid_56 (fun tx b1 b2 => sy_throw hC hX hst hZ hS (hl.1.trans hml.symm) hlk htab 1 (by decide) b1 b2 (Nat.le_of_ble_eq_true rfl) (Nat.le_of_ble_eq_true rfl) (Nat.le_of_ble_eq_true rfl) (Nat.le_of_ble_eq_true rfl))
  · refine lv_aload_n hx hb dX0_laid_0 rfl (lv_at hl 0 rfl) ?_
    refine w_inst hC hX (k := 11) (f := 4) (by decide) (by decide) (sy_thRk hC.2.2.2.2 hM hj hn hk_j (by omega)) q284 rfl (b := false) rfl dX0_laid_1 ?_
    refine b_ifeq (w := false) (tgt := 20) hx hb dX0_laid_4 (by decide) (fun _ => ?_) (fun h => absurd (h.symm.trans rfl) (by decide))
    refine lv_aload_n hx hb dX0_laid_20 rfl (lv_at hl 0 rfl) ?_
    refine w_inst hC hX (k := 11) (f := 8) (by decide) (by decide) (sy_thRk hC.2.2.2.2 hM hj hn hk_j (by omega)) q138 rfl (b := false) rfl dX0_laid_21 ?_
    refine b_ifeq (w := false) (tgt := 40) hx hb dX0_laid_24 (by decide) (fun _ => ?_) (fun h => absurd (h.symm.trans rfl) (by decide))
    refine lv_aload_n hx hb dX0_laid_40 rfl (lv_at hl 0 rfl) ?_
    refine w_inst hC hX (k := 11) (f := 10) (by decide) (by decide) (sy_thRk hC.2.2.2.2 hM hj hn hk_j (by omega)) q285 rfl (b := false) rfl dX0_laid_41 ?_
    refine b_ifeq (w := false) (tgt := 60) hx hb dX0_laid_44 (by decide) (fun _ => ?_) (fun h => absurd (h.symm.trans rfl) (by decide))
    refine lv_aload_n hx hb dX0_laid_60 rfl (lv_at hl 0 rfl) ?_
    refine w_cast hC hX (k := 11) (f := 11) (by decide) (by decide) (sy_thRk hC.2.2.2.2 hM hj hn hk_j (by omega)) q286 rfl rfl dX0_laid_61 ?_
    refine lv_iload_n hx hb dX0_laid_64 rfl (lv_at hl 1 rfl) ?_
    refine lv_aload_n hx hb dX0_laid_65 rfl (lv_at hl 2 rfl) ?_
    refine w_cast hC hX (k := kd μ t) (f := 8) (by omega) (by decide) (sy_thR hC.2.2.2.2 hM ht hn ht12) q138 rfl (by have h := hg; rw [hk_j] at h; exact h) dX0_laid_66 ?_
    exact sy_aastZ (o := some (β (64 + t))) hC hM hj hn hk_j (by omega) h3 hout dX0_laid_69 (fun tx b1 b2 => sy_throw hC hX hst hZ hS (hl.1.trans hml.symm) hlk htab 1 (by decide) b1 b2 (Nat.le_of_ble_eq_true rfl) (Nat.le_of_ble_eq_true rfl) (Nat.le_of_ble_eq_true rfl) (Nat.le_of_ble_eq_true rfl))
  · refine lv_aload_n hx hb dX0_laid_0 rfl (lv_at hl 0 rfl) ?_
    refine w_inst hC hX (k := 12) (f := 4) (by decide) (by decide) (sy_thRk hC.2.2.2.2 hM hj hn hk_j (by omega)) q284 rfl (b := false) rfl dX0_laid_1 ?_
    refine b_ifeq (w := false) (tgt := 20) hx hb dX0_laid_4 (by decide) (fun _ => ?_) (fun h => absurd (h.symm.trans rfl) (by decide))
    refine lv_aload_n hx hb dX0_laid_20 rfl (lv_at hl 0 rfl) ?_
    refine w_inst hC hX (k := 12) (f := 8) (by decide) (by decide) (sy_thRk hC.2.2.2.2 hM hj hn hk_j (by omega)) q138 rfl (b := false) rfl dX0_laid_21 ?_
    refine b_ifeq (w := false) (tgt := 40) hx hb dX0_laid_24 (by decide) (fun _ => ?_) (fun h => absurd (h.symm.trans rfl) (by decide))
    refine lv_aload_n hx hb dX0_laid_40 rfl (lv_at hl 0 rfl) ?_
    refine w_inst hC hX (k := 12) (f := 10) (by decide) (by decide) (sy_thRk hC.2.2.2.2 hM hj hn hk_j (by omega)) q285 rfl (b := false) rfl dX0_laid_41 ?_
    refine b_ifeq (w := false) (tgt := 60) hx hb dX0_laid_44 (by decide) (fun _ => ?_) (fun h => absurd (h.symm.trans rfl) (by decide))
    refine lv_aload_n hx hb dX0_laid_60 rfl (lv_at hl 0 rfl) ?_
    refine w_cast hC hX (k := 12) (f := 11) (by decide) (by decide) (sy_thRk hC.2.2.2.2 hM hj hn hk_j (by omega)) q286 rfl rfl dX0_laid_61 ?_
    refine lv_iload_n hx hb dX0_laid_64 rfl (lv_at hl 1 rfl) ?_
    refine lv_aload_n hx hb dX0_laid_65 rfl (lv_at hl 2 rfl) ?_
    refine w_cast hC hX (k := kd μ t) (f := 8) (by omega) (by decide) (sy_thR hC.2.2.2.2 hM ht hn ht12) q138 rfl (by have h := hg; rw [hk_j] at h; exact h) dX0_laid_66 ?_
    exact sy_aastZ (o := some (β (64 + t))) hC hM hj hn hk_j (by omega) h3 hout dX0_laid_69 (fun tx b1 b2 => sy_throw hC hX hst hZ hS (hl.1.trans hml.symm) hlk htab 1 (by decide) b1 b2 (Nat.le_of_ble_eq_true rfl) (Nat.le_of_ble_eq_true rfl) (Nat.le_of_ble_eq_true rfl) (Nat.le_of_ble_eq_true rfl))
theorem k_X0_laid_ase (l : Launch) (hst : l.stackTraces = false) (D : va_G) (tc : Nat → ClassId) (x mo : Nat) (β : Nat → Nat) (μ : MS) (j : Nat) (hj : j < nn μ) (hn : nn μ ≤ 60) (hk : thgN (kd μ j) = true) (h12 : kd μ j ≤ 12) (h3 : sz μ j ≤ 3) (t : Nat) (ht : t < nn μ) (ht12 : kd μ t ≤ 12) (hg : goesN (kd μ t) (wantN (kd μ j)) = true) (hh : goesN (kd μ t) (holdN (kd μ j)) = false) (a : Nat) (ha : a < sz μ j) : YX l yX0_laid cX0_laid 3 none 8 10300 D tc x mo β [.ref (β (64 + j)), .int (nI a), .ref (β (64 + t))] μ 2 := by
  refine YX.of (by decide) rfl (Nat.le_of_ble_eq_true rfl) ?_
  intro p e s m below meth c hC hX hZ hlk hml htab hM hS ls hl
  have hx := hC.1
  have hb := hC.2.1
  have hts := hC.2.2.1
  have hown := hC.2.2.2.1
  have hl : lv_has ls 3 [(0, .ref (β (64 + j))), (1, .int (nI a)), (2, .ref (β (64 + t)))] := hl
  rcases (by simp [thgN] at hk; omega : kd μ j = 4 ∨ kd μ j = 8 ∨ kd μ j = 9 ∨ kd μ j = 10 ∨ kd μ j = 11 ∨ kd μ j = 12) with hk_j | hk_j | hk_j | hk_j | hk_j | hk_j
  · refine lv_aload_n hx hb dX0_laid_0 rfl (lv_at hl 0 rfl) ?_
    refine w_inst hC hX (k := 4) (f := 4) (by decide) (by decide) (sy_thRk hC.2.2.2.2 hM hj hn hk_j (by omega)) q284 rfl (b := true) rfl dX0_laid_1 ?_
    refine b_ifeq (w := true) (tgt := 20) hx hb dX0_laid_4 (by decide) (fun h => absurd (h.symm.trans rfl) (by decide)) (fun _ => ?_)
    refine lv_aload_n hx hb dX0_laid_7 rfl (lv_at hl 0 rfl) ?_
    refine w_cast hC hX (k := 4) (f := 4) (by decide) (by decide) (sy_thRk hC.2.2.2.2 hM hj hn hk_j (by omega)) q284 rfl rfl dX0_laid_8 ?_
    refine lv_iload_n hx hb dX0_laid_11 rfl (lv_at hl 1 rfl) ?_
    refine lv_aload_n hx hb dX0_laid_12 rfl (lv_at hl 2 rfl) ?_
    refine w_cast hC hX (k := kd μ t) (f := 0) (by omega) (by decide) (sy_thR hC.2.2.2.2 hM ht hn ht12) q100 rfl (by have h := hg; rw [hk_j] at h; exact h) dX0_laid_13 ?_
    exact sy_aastB hC hX hM hj hn hk_j (by omega) h3 ht ht12 (by have h := hh; rw [hk_j] at h; exact h) (by decide) a rfl (by omega) dX0_laid_16 (fun tx b1 b2 => sy_throw hC hX hst hZ hS (hl.1.trans hml.symm) hlk htab 2 (by decide) b1 b2 (Nat.le_of_ble_eq_true rfl) (Nat.le_of_ble_eq_true rfl) (Nat.le_of_ble_eq_true rfl) (Nat.le_of_ble_eq_true rfl))
  · refine lv_aload_n hx hb dX0_laid_0 rfl (lv_at hl 0 rfl) ?_
    refine w_inst hC hX (k := 8) (f := 4) (by decide) (by decide) (sy_thRk hC.2.2.2.2 hM hj hn hk_j (by omega)) q284 rfl (b := false) rfl dX0_laid_1 ?_
    refine b_ifeq (w := false) (tgt := 20) hx hb dX0_laid_4 (by decide) (fun _ => ?_) (fun h => absurd (h.symm.trans rfl) (by decide))
    refine lv_aload_n hx hb dX0_laid_20 rfl (lv_at hl 0 rfl) ?_
    refine w_inst hC hX (k := 8) (f := 8) (by decide) (by decide) (sy_thRk hC.2.2.2.2 hM hj hn hk_j (by omega)) q138 rfl (b := true) rfl dX0_laid_21 ?_
    refine b_ifeq (w := true) (tgt := 40) hx hb dX0_laid_24 (by decide) (fun h => absurd (h.symm.trans rfl) (by decide)) (fun _ => ?_)
    refine lv_aload_n hx hb dX0_laid_27 rfl (lv_at hl 0 rfl) ?_
    refine w_cast hC hX (k := 8) (f := 8) (by decide) (by decide) (sy_thRk hC.2.2.2.2 hM hj hn hk_j (by omega)) q138 rfl rfl dX0_laid_28 ?_
    refine lv_iload_n hx hb dX0_laid_31 rfl (lv_at hl 1 rfl) ?_
    refine lv_aload_n hx hb dX0_laid_32 rfl (lv_at hl 2 rfl) ?_
    refine w_cast hC hX (k := kd μ t) (f := 5) (by omega) (by decide) (sy_thR hC.2.2.2.2 hM ht hn ht12) q102 rfl (by have h := hg; rw [hk_j] at h; exact h) dX0_laid_33 ?_
    exact sy_aastB hC hX hM hj hn hk_j (by omega) h3 ht ht12 (by have h := hh; rw [hk_j] at h; exact h) (by decide) a rfl (by omega) dX0_laid_36 (fun tx b1 b2 => sy_throw hC hX hst hZ hS (hl.1.trans hml.symm) hlk htab 2 (by decide) b1 b2 (Nat.le_of_ble_eq_true rfl) (Nat.le_of_ble_eq_true rfl) (Nat.le_of_ble_eq_true rfl) (Nat.le_of_ble_eq_true rfl))
  · refine lv_aload_n hx hb dX0_laid_0 rfl (lv_at hl 0 rfl) ?_
    refine w_inst hC hX (k := 9) (f := 4) (by decide) (by decide) (sy_thRk hC.2.2.2.2 hM hj hn hk_j (by omega)) q284 rfl (b := false) rfl dX0_laid_1 ?_
    refine b_ifeq (w := false) (tgt := 20) hx hb dX0_laid_4 (by decide) (fun _ => ?_) (fun h => absurd (h.symm.trans rfl) (by decide))
    refine lv_aload_n hx hb dX0_laid_20 rfl (lv_at hl 0 rfl) ?_
    refine w_inst hC hX (k := 9) (f := 8) (by decide) (by decide) (sy_thRk hC.2.2.2.2 hM hj hn hk_j (by omega)) q138 rfl (b := true) rfl dX0_laid_21 ?_
    refine b_ifeq (w := true) (tgt := 40) hx hb dX0_laid_24 (by decide) (fun h => absurd (h.symm.trans rfl) (by decide)) (fun _ => ?_)
    refine lv_aload_n hx hb dX0_laid_27 rfl (lv_at hl 0 rfl) ?_
    refine w_cast hC hX (k := 9) (f := 8) (by decide) (by decide) (sy_thRk hC.2.2.2.2 hM hj hn hk_j (by omega)) q138 rfl rfl dX0_laid_28 ?_
    refine lv_iload_n hx hb dX0_laid_31 rfl (lv_at hl 1 rfl) ?_
    refine lv_aload_n hx hb dX0_laid_32 rfl (lv_at hl 2 rfl) ?_
    refine w_cast hC hX (k := kd μ t) (f := 5) (by omega) (by decide) (sy_thR hC.2.2.2.2 hM ht hn ht12) q102 rfl (by have h := hg; rw [hk_j] at h; exact h) dX0_laid_33 ?_
    exact sy_aastB hC hX hM hj hn hk_j (by omega) h3 ht ht12 (by have h := hh; rw [hk_j] at h; exact h) (by decide) a rfl (by omega) dX0_laid_36 (fun tx b1 b2 => sy_throw hC hX hst hZ hS (hl.1.trans hml.symm) hlk htab 2 (by decide) b1 b2 (Nat.le_of_ble_eq_true rfl) (Nat.le_of_ble_eq_true rfl) (Nat.le_of_ble_eq_true rfl) (Nat.le_of_ble_eq_true rfl))
  · refine lv_aload_n hx hb dX0_laid_0 rfl (lv_at hl 0 rfl) ?_
    refine w_inst hC hX (k := 10) (f := 4) (by decide) (by decide) (sy_thRk hC.2.2.2.2 hM hj hn hk_j (by omega)) q284 rfl (b := false) rfl dX0_laid_1 ?_
    refine b_ifeq (w := false) (tgt := 20) hx hb dX0_laid_4 (by decide) (fun _ => ?_) (fun h => absurd (h.symm.trans rfl) (by decide))
    refine lv_aload_n hx hb dX0_laid_20 rfl (lv_at hl 0 rfl) ?_
    refine w_inst hC hX (k := 10) (f := 8) (by decide) (by decide) (sy_thRk hC.2.2.2.2 hM hj hn hk_j (by omega)) q138 rfl (b := false) rfl dX0_laid_21 ?_
    refine b_ifeq (w := false) (tgt := 40) hx hb dX0_laid_24 (by decide) (fun _ => ?_) (fun h => absurd (h.symm.trans rfl) (by decide))
    refine lv_aload_n hx hb dX0_laid_40 rfl (lv_at hl 0 rfl) ?_
    refine w_inst hC hX (k := 10) (f := 10) (by decide) (by decide) (sy_thRk hC.2.2.2.2 hM hj hn hk_j (by omega)) q285 rfl (b := true) rfl dX0_laid_41 ?_
    refine b_ifeq (w := true) (tgt := 60) hx hb dX0_laid_44 (by decide) (fun h => absurd (h.symm.trans rfl) (by decide)) (fun _ => ?_)
    refine lv_aload_n hx hb dX0_laid_47 rfl (lv_at hl 0 rfl) ?_
    refine w_cast hC hX (k := 10) (f := 10) (by decide) (by decide) (sy_thRk hC.2.2.2.2 hM hj hn hk_j (by omega)) q285 rfl rfl dX0_laid_48 ?_
    refine lv_iload_n hx hb dX0_laid_51 rfl (lv_at hl 1 rfl) ?_
    refine lv_aload_n hx hb dX0_laid_52 rfl (lv_at hl 2 rfl) ?_
    refine w_cast hC hX (k := kd μ t) (f := 13) (by omega) (by decide) (sy_thR hC.2.2.2.2 hM ht hn ht12) q136 rfl (by have h := hg; rw [hk_j] at h; exact h) dX0_laid_53 ?_
    exact sy_aastB hC hX hM hj hn hk_j (by omega) h3 ht ht12 (by have h := hh; rw [hk_j] at h; exact h) (by decide) a rfl (by omega) dX0_laid_56 (fun tx b1 b2 => sy_throw hC hX hst hZ hS (hl.1.trans hml.symm) hlk htab 2 (by decide) b1 b2 (Nat.le_of_ble_eq_true rfl) (Nat.le_of_ble_eq_true rfl) (Nat.le_of_ble_eq_true rfl) (Nat.le_of_ble_eq_true rfl))
  · refine lv_aload_n hx hb dX0_laid_0 rfl (lv_at hl 0 rfl) ?_
    refine w_inst hC hX (k := 11) (f := 4) (by decide) (by decide) (sy_thRk hC.2.2.2.2 hM hj hn hk_j (by omega)) q284 rfl (b := false) rfl dX0_laid_1 ?_
    refine b_ifeq (w := false) (tgt := 20) hx hb dX0_laid_4 (by decide) (fun _ => ?_) (fun h => absurd (h.symm.trans rfl) (by decide))
    refine lv_aload_n hx hb dX0_laid_20 rfl (lv_at hl 0 rfl) ?_
    refine w_inst hC hX (k := 11) (f := 8) (by decide) (by decide) (sy_thRk hC.2.2.2.2 hM hj hn hk_j (by omega)) q138 rfl (b := false) rfl dX0_laid_21 ?_
    refine b_ifeq (w := false) (tgt := 40) hx hb dX0_laid_24 (by decide) (fun _ => ?_) (fun h => absurd (h.symm.trans rfl) (by decide))
    refine lv_aload_n hx hb dX0_laid_40 rfl (lv_at hl 0 rfl) ?_
    refine w_inst hC hX (k := 11) (f := 10) (by decide) (by decide) (sy_thRk hC.2.2.2.2 hM hj hn hk_j (by omega)) q285 rfl (b := false) rfl dX0_laid_41 ?_
    refine b_ifeq (w := false) (tgt := 60) hx hb dX0_laid_44 (by decide) (fun _ => ?_) (fun h => absurd (h.symm.trans rfl) (by decide))
    refine lv_aload_n hx hb dX0_laid_60 rfl (lv_at hl 0 rfl) ?_
    refine w_cast hC hX (k := 11) (f := 11) (by decide) (by decide) (sy_thRk hC.2.2.2.2 hM hj hn hk_j (by omega)) q286 rfl rfl dX0_laid_61 ?_
    refine lv_iload_n hx hb dX0_laid_64 rfl (lv_at hl 1 rfl) ?_
    refine lv_aload_n hx hb dX0_laid_65 rfl (lv_at hl 2 rfl) ?_
    refine w_cast hC hX (k := kd μ t) (f := 8) (by omega) (by decide) (sy_thR hC.2.2.2.2 hM ht hn ht12) q138 rfl (by have h := hg; rw [hk_j] at h; exact h) dX0_laid_66 ?_
    exact sy_aastB hC hX hM hj hn hk_j (by omega) h3 ht ht12 (by have h := hh; rw [hk_j] at h; exact h) (by decide) a rfl (by omega) dX0_laid_69 (fun tx b1 b2 => sy_throw hC hX hst hZ hS (hl.1.trans hml.symm) hlk htab 2 (by decide) b1 b2 (Nat.le_of_ble_eq_true rfl) (Nat.le_of_ble_eq_true rfl) (Nat.le_of_ble_eq_true rfl) (Nat.le_of_ble_eq_true rfl))
  · refine lv_aload_n hx hb dX0_laid_0 rfl (lv_at hl 0 rfl) ?_
    refine w_inst hC hX (k := 12) (f := 4) (by decide) (by decide) (sy_thRk hC.2.2.2.2 hM hj hn hk_j (by omega)) q284 rfl (b := false) rfl dX0_laid_1 ?_
    refine b_ifeq (w := false) (tgt := 20) hx hb dX0_laid_4 (by decide) (fun _ => ?_) (fun h => absurd (h.symm.trans rfl) (by decide))
    refine lv_aload_n hx hb dX0_laid_20 rfl (lv_at hl 0 rfl) ?_
    refine w_inst hC hX (k := 12) (f := 8) (by decide) (by decide) (sy_thRk hC.2.2.2.2 hM hj hn hk_j (by omega)) q138 rfl (b := false) rfl dX0_laid_21 ?_
    refine b_ifeq (w := false) (tgt := 40) hx hb dX0_laid_24 (by decide) (fun _ => ?_) (fun h => absurd (h.symm.trans rfl) (by decide))
    refine lv_aload_n hx hb dX0_laid_40 rfl (lv_at hl 0 rfl) ?_
    refine w_inst hC hX (k := 12) (f := 10) (by decide) (by decide) (sy_thRk hC.2.2.2.2 hM hj hn hk_j (by omega)) q285 rfl (b := false) rfl dX0_laid_41 ?_
    refine b_ifeq (w := false) (tgt := 60) hx hb dX0_laid_44 (by decide) (fun _ => ?_) (fun h => absurd (h.symm.trans rfl) (by decide))
    refine lv_aload_n hx hb dX0_laid_60 rfl (lv_at hl 0 rfl) ?_
    refine w_cast hC hX (k := 12) (f := 11) (by decide) (by decide) (sy_thRk hC.2.2.2.2 hM hj hn hk_j (by omega)) q286 rfl rfl dX0_laid_61 ?_
    refine lv_iload_n hx hb dX0_laid_64 rfl (lv_at hl 1 rfl) ?_
    refine lv_aload_n hx hb dX0_laid_65 rfl (lv_at hl 2 rfl) ?_
    refine w_cast hC hX (k := kd μ t) (f := 8) (by omega) (by decide) (sy_thR hC.2.2.2.2 hM ht hn ht12) q138 rfl (by have h := hg; rw [hk_j] at h; exact h) dX0_laid_66 ?_
    exact sy_aastB hC hX hM hj hn hk_j (by omega) h3 ht ht12 (by have h := hh; rw [hk_j] at h; exact h) (by decide) a rfl (by omega) dX0_laid_69 (fun tx b1 b2 => sy_throw hC hX hst hZ hS (hl.1.trans hml.symm) hlk htab 2 (by decide) b1 b2 (Nat.le_of_ble_eq_true rfl) (Nat.le_of_ble_eq_true rfl) (Nat.le_of_ble_eq_true rfl) (Nat.le_of_ble_eq_true rfl))
theorem k_X0_numberOf_t (l : Launch) (hst : l.stackTraces = false) (D : va_G) (tc : Nat → ClassId) (x mo : Nat) (β : Nat → Nat) (μ : MS) (hn : nn μ ≤ 60) (hn0 : sS μ 0 = nI (nn μ)) (t : Nat) (ht : t < nn μ) : YC l yX0_numberOf cX0_numberOf 3 (some .int) 0 0 0 0 D tc x mo β [.ref (β 0), .ref (β (64 + t))] μ μ (some (.int (nI t))) := by
  refine YC.of (by decide) rfl (Nat.le_of_ble_eq_true rfl) ?_
  intro p e s m below meth c hC hX hZ hr hlk hml hM hS ls hl
  have hx := hC.1
  have hb := hC.2.1
  have hts := hC.2.2.1
  have hown := hC.2.2.2.1
  have hl : lv_has ls 3 [(0, .ref (β 0)), (1, .ref (β (64 + t)))] := hl
  have h0 : sS μ 0 = nI (nn μ) := hn0
  refine lv_iconst (v := 0) hx hb dX0_numberOf_0 (by decide) ?_
  refine lv_istore_n (lv' := [(2, .int 0), (0, .ref (β 0)), (1, .ref (β (64 + t)))]) hx hb dX0_numberOf_1 rfl hl (by decide) rfl (fun ls hl => ?_)
  refine w_loop (σ := Nat × MS) (fun y9 H locs ls => y9.1 ≤ nn μ ∧ (y9.2 = μ) ∧ (y9.1 ≤ t) ∧ Sys D tc x mo β y9.2 H ∧ va_S (sy_A x mo) s.heap H locs ∧ lv_has ls 3 [(2, .int (nI y9.1)), (0, .ref (β 0)), (1, .ref (β (64 + t)))]) (fun y9 => nn μ - y9.1) ?_ (0, μ) ⟨Nat.zero_le _, rfl, Nat.zero_le _, hM, hS, lv_sub hl [0, 1, 2] rfl⟩
  intro y9 H locs ls hI9 ih
  obtain ⟨i, ν⟩ := y9
  obtain ⟨hi, eν, hit, hM, hS, hl⟩ := hI9
  have hi : i ≤ nn μ := hi
  have eν : ν = μ := eν
  have hit : i ≤ t := hit
  have hM : Sys D tc x mo β ν H := hM
  have hl : lv_has ls 3 [(2, .int (nI i)), (0, .ref (β 0)), (1, .ref (β (64 + t)))] := hl
  rw [eν] at hM
  refine lv_iload_n hx hb dX0_numberOf_2 rfl (lv_at hl 0 rfl) ?_
  refine lv_aload_n hx hb dX0_numberOf_3 rfl (lv_at hl 1 rfl) ?_
  refine sy_mget (v := .int (sS μ 0)) hC hM 1 (by decide) rfl rfl q51 rfl dX0_numberOf_4 ?_
  refine w_top (congrArg Value.int (h0)) ?_
  refine n_icmp_ge (a := i) (b := (nn μ)) (tgt := 31) hx hb dX0_numberOf_7 (by decide) (by omega) (by omega) (fun c_7 => ?_) (fun c_7 => ?_)
  · exfalso; omega
  · have hi9 : i < nn μ := by omega
    refine lv_aload_n hx hb dX0_numberOf_10 rfl (lv_at hl 1 rfl) ?_
    refine sy_mget (v := .ref (β 1)) hC hM 0 (by decide) rfl rfl q50 rfl dX0_numberOf_11 ?_
    refine lv_iload_n hx hb dX0_numberOf_14 rfl (lv_at hl 0 rfl) ?_
    refine sy_itald hC hM i rfl hi9 hn dX0_numberOf_15 ?_
    refine sy_iget hC hM hi9 hn q147 dX0_numberOf_16 ?_
    refine lv_aload_n hx hb dX0_numberOf_19 rfl (lv_at hl 2 rfl) ?_
    refine lv_acmp_ne (rx := some (β (64 + i))) (ry := some (β (64 + t))) (tgt := 25) hx hb dX0_numberOf_20 (by decide) (fun c_20 => ?_) (fun c_20 => ?_)
    · have hne : i ≠ t := fun q => c_20 (by rw [q])
      refine lv_iinc (v := (nI (i + 1))) (lv' := [(2, .int (nI (i + 1))), (0, .ref (β 0)), (1, .ref (β (64 + t)))]) hx hb dX0_numberOf_25 hl (k := 0) rfl (nI_1 i) (by decide) rfl (fun ls hl => ?_)
      refine lv_goto (tgt := 2) hx hb dX0_numberOf_28 (by decide) ?_
      exact ih (i + 1, μ) H locs ls ⟨by show i + 1 ≤ nn μ; omega, rfl, by show i + 1 ≤ t; omega, hM, hS, lv_sub hl [0, 1, 2] rfl⟩ (by show nn μ - (i + 1) < nn μ - i; omega)
    · have e9 : i = t := by have := hM.2 (64 + i) (64 + t) (live_th hi9 hn) (live_th ht hn) (Option.some.inj c_20); omega
      refine lv_iload_n hx hb dX0_numberOf_23 rfl (lv_at hl 0 rfl) ?_
      exact sy_iret hC hr hlk hM hS rfl (by rw [e9]) (Nat.le_of_ble_eq_true rfl) (Nat.le_of_ble_eq_true rfl) dX0_numberOf_24
theorem k_X0_numberOf_n (l : Launch) (hst : l.stackTraces = false) (D : va_G) (tc : Nat → ClassId) (x mo : Nat) (β : Nat → Nat) (μ : MS) (hn : nn μ ≤ 60) (hn0 : sS μ 0 = nI (nn μ))  : YC l yX0_numberOf cX0_numberOf 3 (some .int) 0 0 0 0 D tc x mo β [.ref (β 0), .null] μ μ (some (.int (-1))) := by
  refine YC.of (by decide) rfl (Nat.le_of_ble_eq_true rfl) ?_
  intro p e s m below meth c hC hX hZ hr hlk hml hM hS ls hl
  have hx := hC.1
  have hb := hC.2.1
  have hts := hC.2.2.1
  have hown := hC.2.2.2.1
  have hl : lv_has ls 3 [(0, .ref (β 0)), (1, .null)] := hl
  have h0 : sS μ 0 = nI (nn μ) := hn0
  refine lv_iconst (v := 0) hx hb dX0_numberOf_0 (by decide) ?_
  refine lv_istore_n (lv' := [(2, .int 0), (0, .ref (β 0)), (1, .null)]) hx hb dX0_numberOf_1 rfl hl (by decide) rfl (fun ls hl => ?_)
  refine w_loop (σ := Nat × MS) (fun y9 H locs ls => y9.1 ≤ nn μ ∧ (y9.2 = μ) ∧ Sys D tc x mo β y9.2 H ∧ va_S (sy_A x mo) s.heap H locs ∧ lv_has ls 3 [(2, .int (nI y9.1)), (0, .ref (β 0)), (1, .null)]) (fun y9 => nn μ - y9.1) ?_ (0, μ) ⟨Nat.zero_le _, rfl, hM, hS, lv_sub hl [0, 1, 2] rfl⟩
  intro y9 H locs ls hI9 ih
  obtain ⟨i, ν⟩ := y9
  obtain ⟨hi, eν, hM, hS, hl⟩ := hI9
  have hi : i ≤ nn μ := hi
  have eν : ν = μ := eν
  have hM : Sys D tc x mo β ν H := hM
  have hl : lv_has ls 3 [(2, .int (nI i)), (0, .ref (β 0)), (1, .null)] := hl
  rw [eν] at hM
  refine lv_iload_n hx hb dX0_numberOf_2 rfl (lv_at hl 0 rfl) ?_
  refine lv_aload_n hx hb dX0_numberOf_3 rfl (lv_at hl 1 rfl) ?_
  refine sy_mget (v := .int (sS μ 0)) hC hM 1 (by decide) rfl rfl q51 rfl dX0_numberOf_4 ?_
  refine w_top (congrArg Value.int (h0)) ?_
  refine n_icmp_ge (a := i) (b := (nn μ)) (tgt := 31) hx hb dX0_numberOf_7 (by decide) (by omega) (by omega) (fun c_7 => ?_) (fun c_7 => ?_)
  · refine lv_iconst (v := (-1)) hx hb dX0_numberOf_31 (by decide) ?_
    exact sy_iret hC hr hlk hM hS rfl rfl (Nat.le_of_ble_eq_true rfl) (Nat.le_of_ble_eq_true rfl) dX0_numberOf_32
  · have hi9 : i < nn μ := by omega
    refine lv_aload_n hx hb dX0_numberOf_10 rfl (lv_at hl 1 rfl) ?_
    refine sy_mget (v := .ref (β 1)) hC hM 0 (by decide) rfl rfl q50 rfl dX0_numberOf_11 ?_
    refine lv_iload_n hx hb dX0_numberOf_14 rfl (lv_at hl 0 rfl) ?_
    refine sy_itald hC hM i rfl hi9 hn dX0_numberOf_15 ?_
    refine sy_iget hC hM hi9 hn q147 dX0_numberOf_16 ?_
    refine lv_aload_nN hx hb dX0_numberOf_19 rfl (lv_at hl 2 rfl) ?_
    refine lv_acmp_ne (rx := some (β (64 + i))) (ry := none) (tgt := 25) hx hb dX0_numberOf_20 (by decide) (fun c_20 => ?_) (fun c_20 => ?_)
    · refine lv_iinc (v := (nI (i + 1))) (lv' := [(2, .int (nI (i + 1))), (0, .ref (β 0)), (1, .null)]) hx hb dX0_numberOf_25 hl (k := 0) rfl (nI_1 i) (by decide) rfl (fun ls hl => ?_)
      refine lv_goto (tgt := 2) hx hb dX0_numberOf_28 (by decide) ?_
      exact ih (i + 1, μ) H locs ls ⟨by show i + 1 ≤ nn μ; omega, rfl, hM, hS, lv_sub hl [0, 1, 2] rfl⟩ (by show nn μ - (i + 1) < nn μ - i; omega)
    · cases c_20
theorem k_X0_exchange (l : Launch) (hst : l.stackTraces = false) (D : va_G) (tc : Nat → ClassId) (x mo : Nat) (β : Nat → Nat) (μ : MS) (hI : IV μ) (j : Nat) (hj : j < nn μ) (hk : thgN (kd μ j) = true) (a b : Nat) (ha : a < sz μ j) (hbz : b < sz μ j) : YC l yX0_exchange cX0_exchange 5 none 0 0 0 0 D tc x mo β [.ref (β (64 + j)), .int (nI a), .int (nI b)] μ (p_swap μ (3 * j + a) (3 * j + b)) none := by
  refine YC.of (by decide) rfl (Nat.le_of_ble_eq_true rfl) ?_
  intro p e s m below meth c hC hX hZ hr hlk hml hM hS ls hl
  have hx := hC.1
  have hb := hC.2.1
  have hts := hC.2.2.1
  have hown := hC.2.2.2.1
  have hl : lv_has ls 5 [(0, .ref (β (64 + j))), (1, .int (nI a)), (2, .int (nI b))] := hl
  have hn := hI.1.1.2
  have h12 := (hI.1.2.1 j (by omega)).2.1
  have h3 := (hI.1.2.1 j (by omega)).2.2.2
  rcases (by simp [thgN] at hk; omega : kd μ j = 4 ∨ kd μ j = 8 ∨ kd μ j = 9 ∨ kd μ j = 10 ∨ kd μ j = 11 ∨ kd μ j = 12) with hk_j | hk_j | hk_j | hk_j | hk_j | hk_j
  · refine lv_aload_n hx hb dX0_exchange_0 rfl (lv_at hl 0 rfl) ?_
    refine w_inst hC hX (k := 4) (f := 4) (by decide) (by decide) (sy_thRk hC.2.2.2.2 hM hj hn hk_j (by omega)) q284 rfl (b := true) rfl dX0_exchange_1 ?_
    refine b_ifeq (w := true) (tgt := 31) hx hb dX0_exchange_4 (by decide) (fun h => absurd (h.symm.trans rfl) (by decide)) (fun _ => ?_)
    refine lv_aload_n hx hb dX0_exchange_7 rfl (lv_at hl 0 rfl) ?_
    refine w_cast hC hX (k := 4) (f := 4) (by decide) (by decide) (sy_thRk hC.2.2.2.2 hM hj hn hk_j (by omega)) q284 rfl rfl dX0_exchange_8 ?_
    refine lv_astore_n (lv' := [(3, .ref (β (64 + j))), (0, .ref (β (64 + j))), (1, .int (nI a)), (2, .int (nI b))]) hx hb dX0_exchange_11 rfl hl (by decide) rfl (fun ls hl => ?_)
    refine lv_aload_n hx hb dX0_exchange_12 rfl (lv_at hl 0 rfl) ?_
    refine lv_iload_n hx hb dX0_exchange_13 rfl (lv_at hl 2 rfl) ?_
    refine sy_aald hC hM hj hn hk_j (by omega) h3 a rfl (by omega) dX0_exchange_14 ?_
    rcases CV_thg hI (by omega) (show a < 3 by omega) hk with ea | ⟨ya, hya, ea, ga⟩
    · refine w_top (y := .null) (by rw [ea]; rfl) ?_
      refine lv_astoreN (lv' := [(4, .null), (3, .ref (β (64 + j))), (0, .ref (β (64 + j))), (1, .int (nI a)), (2, .int (nI b))]) hx hb dX0_exchange_15 hl (by decide) rfl (fun ls hl => ?_)
      refine lv_aload_n hx hb dX0_exchange_17 rfl (lv_at hl 1 rfl) ?_
      refine lv_iload_n hx hb dX0_exchange_18 rfl (lv_at hl 3 rfl) ?_
      refine lv_aload_n hx hb dX0_exchange_19 rfl (lv_at hl 1 rfl) ?_
      refine lv_iload_n hx hb dX0_exchange_20 rfl (lv_at hl 4 rfl) ?_
      refine sy_aald hC hM hj hn hk_j (by omega) h3 b rfl (by omega) dX0_exchange_21 ?_
      rcases CV_thg hI (by omega) (show b < 3 by omega) hk with eb | ⟨yb, hyb, eb, gb⟩
      · refine w_top (y := .null) (by rw [eb]; rfl) ?_
        refine sy_aastN hC hM hS hj hn hk_j (by omega) h3 a rfl (show a < sz μ j by omega) dX0_exchange_22 (fun H locs hM hS => ?_)
        refine lv_aload_n hx hb dX0_exchange_23 rfl (lv_at hl 1 rfl) ?_
        refine lv_iload_n hx hb dX0_exchange_24 rfl (lv_at hl 4 rfl) ?_
        refine lv_aloadN hx hb dX0_exchange_25 (lv_at hl 0 rfl) ?_
        refine sy_aastN hC hM hS hj hn hk_j (by omega) h3 b rfl (show b < sz μ j by omega) dX0_exchange_27 (fun H locs hM hS => ?_)
        refine lv_goto (tgt := 90) hx hb dX0_exchange_28 (by decide) ?_
        exact sy_vret hC hr hlk hM hS (p_swap_eq ea eb) (Nat.le_of_ble_eq_true rfl) (Nat.le_of_ble_eq_true rfl) dX0_exchange_90
      · refine w_top (y := .ref (β (64 + yb))) (by rw [eb, qT_N (by omega)]; rfl) ?_
        refine sy_aast hC hX hM hS hj hn hk_j (by omega) h3 hyb (hI.1.2.1 yb (by omega)).2.1 (by have h := gb; rw [hk_j] at h; exact h) (by decide) a rfl (show a < sz μ j by omega) dX0_exchange_22 (fun H locs hM hS => ?_)
        refine lv_aload_n hx hb dX0_exchange_23 rfl (lv_at hl 1 rfl) ?_
        refine lv_iload_n hx hb dX0_exchange_24 rfl (lv_at hl 4 rfl) ?_
        refine lv_aloadN hx hb dX0_exchange_25 (lv_at hl 0 rfl) ?_
        refine sy_aastN hC hM hS hj hn hk_j (by omega) h3 b rfl (show b < sz μ j by omega) dX0_exchange_27 (fun H locs hM hS => ?_)
        refine lv_goto (tgt := 90) hx hb dX0_exchange_28 (by decide) ?_
        exact sy_vret hC hr hlk hM hS (p_swap_eq ea eb) (Nat.le_of_ble_eq_true rfl) (Nat.le_of_ble_eq_true rfl) dX0_exchange_90
    · refine w_top (y := .ref (β (64 + ya))) (by rw [ea, qT_N (by omega)]; rfl) ?_
      refine lv_astore (lv' := [(4, .ref (β (64 + ya))), (3, .ref (β (64 + j))), (0, .ref (β (64 + j))), (1, .int (nI a)), (2, .int (nI b))]) hx hb dX0_exchange_15 hl (by decide) rfl (fun ls hl => ?_)
      refine lv_aload_n hx hb dX0_exchange_17 rfl (lv_at hl 1 rfl) ?_
      refine lv_iload_n hx hb dX0_exchange_18 rfl (lv_at hl 3 rfl) ?_
      refine lv_aload_n hx hb dX0_exchange_19 rfl (lv_at hl 1 rfl) ?_
      refine lv_iload_n hx hb dX0_exchange_20 rfl (lv_at hl 4 rfl) ?_
      refine sy_aald hC hM hj hn hk_j (by omega) h3 b rfl (by omega) dX0_exchange_21 ?_
      rcases CV_thg hI (by omega) (show b < 3 by omega) hk with eb | ⟨yb, hyb, eb, gb⟩
      · refine w_top (y := .null) (by rw [eb]; rfl) ?_
        refine sy_aastN hC hM hS hj hn hk_j (by omega) h3 a rfl (show a < sz μ j by omega) dX0_exchange_22 (fun H locs hM hS => ?_)
        refine lv_aload_n hx hb dX0_exchange_23 rfl (lv_at hl 1 rfl) ?_
        refine lv_iload_n hx hb dX0_exchange_24 rfl (lv_at hl 4 rfl) ?_
        refine lv_aload hx hb dX0_exchange_25 (lv_at hl 0 rfl) ?_
        refine sy_aast hC hX hM hS hj hn hk_j (by omega) h3 hya (hI.1.2.1 ya (by omega)).2.1 (by have h := ga; rw [hk_j] at h; exact h) (by decide) b rfl (show b < sz μ j by omega) dX0_exchange_27 (fun H locs hM hS => ?_)
        refine lv_goto (tgt := 90) hx hb dX0_exchange_28 (by decide) ?_
        exact sy_vret hC hr hlk hM hS (p_swap_eq ea eb) (Nat.le_of_ble_eq_true rfl) (Nat.le_of_ble_eq_true rfl) dX0_exchange_90
      · refine w_top (y := .ref (β (64 + yb))) (by rw [eb, qT_N (by omega)]; rfl) ?_
        refine sy_aast hC hX hM hS hj hn hk_j (by omega) h3 hyb (hI.1.2.1 yb (by omega)).2.1 (by have h := gb; rw [hk_j] at h; exact h) (by decide) a rfl (show a < sz μ j by omega) dX0_exchange_22 (fun H locs hM hS => ?_)
        refine lv_aload_n hx hb dX0_exchange_23 rfl (lv_at hl 1 rfl) ?_
        refine lv_iload_n hx hb dX0_exchange_24 rfl (lv_at hl 4 rfl) ?_
        refine lv_aload hx hb dX0_exchange_25 (lv_at hl 0 rfl) ?_
        refine sy_aast hC hX hM hS hj hn hk_j (by omega) h3 hya (hI.1.2.1 ya (by omega)).2.1 (by have h := ga; rw [hk_j] at h; exact h) (by decide) b rfl (show b < sz μ j by omega) dX0_exchange_27 (fun H locs hM hS => ?_)
        refine lv_goto (tgt := 90) hx hb dX0_exchange_28 (by decide) ?_
        exact sy_vret hC hr hlk hM hS (p_swap_eq ea eb) (Nat.le_of_ble_eq_true rfl) (Nat.le_of_ble_eq_true rfl) dX0_exchange_90
  · refine lv_aload_n hx hb dX0_exchange_0 rfl (lv_at hl 0 rfl) ?_
    refine w_inst hC hX (k := 8) (f := 4) (by decide) (by decide) (sy_thRk hC.2.2.2.2 hM hj hn hk_j (by omega)) q284 rfl (b := false) rfl dX0_exchange_1 ?_
    refine b_ifeq (w := false) (tgt := 31) hx hb dX0_exchange_4 (by decide) (fun _ => ?_) (fun h => absurd (h.symm.trans rfl) (by decide))
    refine lv_aload_n hx hb dX0_exchange_31 rfl (lv_at hl 0 rfl) ?_
    refine w_inst hC hX (k := 8) (f := 10) (by decide) (by decide) (sy_thRk hC.2.2.2.2 hM hj hn hk_j (by omega)) q285 rfl (b := true) rfl dX0_exchange_32 ?_
    refine b_ifeq (w := true) (tgt := 62) hx hb dX0_exchange_35 (by decide) (fun h => absurd (h.symm.trans rfl) (by decide)) (fun _ => ?_)
    refine lv_aload_n hx hb dX0_exchange_38 rfl (lv_at hl 0 rfl) ?_
    refine w_cast hC hX (k := 8) (f := 10) (by decide) (by decide) (sy_thRk hC.2.2.2.2 hM hj hn hk_j (by omega)) q285 rfl rfl dX0_exchange_39 ?_
    refine lv_astore_n (lv' := [(3, .ref (β (64 + j))), (0, .ref (β (64 + j))), (1, .int (nI a)), (2, .int (nI b))]) hx hb dX0_exchange_42 rfl hl (by decide) rfl (fun ls hl => ?_)
    refine lv_aload_n hx hb dX0_exchange_43 rfl (lv_at hl 0 rfl) ?_
    refine lv_iload_n hx hb dX0_exchange_44 rfl (lv_at hl 2 rfl) ?_
    refine sy_aald hC hM hj hn hk_j (by omega) h3 a rfl (by omega) dX0_exchange_45 ?_
    rcases CV_thg hI (by omega) (show a < 3 by omega) hk with ea | ⟨ya, hya, ea, ga⟩
    · refine w_top (y := .null) (by rw [ea]; rfl) ?_
      refine lv_astoreN (lv' := [(4, .null), (3, .ref (β (64 + j))), (0, .ref (β (64 + j))), (1, .int (nI a)), (2, .int (nI b))]) hx hb dX0_exchange_46 hl (by decide) rfl (fun ls hl => ?_)
      refine lv_aload_n hx hb dX0_exchange_48 rfl (lv_at hl 1 rfl) ?_
      refine lv_iload_n hx hb dX0_exchange_49 rfl (lv_at hl 3 rfl) ?_
      refine lv_aload_n hx hb dX0_exchange_50 rfl (lv_at hl 1 rfl) ?_
      refine lv_iload_n hx hb dX0_exchange_51 rfl (lv_at hl 4 rfl) ?_
      refine sy_aald hC hM hj hn hk_j (by omega) h3 b rfl (by omega) dX0_exchange_52 ?_
      rcases CV_thg hI (by omega) (show b < 3 by omega) hk with eb | ⟨yb, hyb, eb, gb⟩
      · refine w_top (y := .null) (by rw [eb]; rfl) ?_
        refine sy_aastN hC hM hS hj hn hk_j (by omega) h3 a rfl (show a < sz μ j by omega) dX0_exchange_53 (fun H locs hM hS => ?_)
        refine lv_aload_n hx hb dX0_exchange_54 rfl (lv_at hl 1 rfl) ?_
        refine lv_iload_n hx hb dX0_exchange_55 rfl (lv_at hl 4 rfl) ?_
        refine lv_aloadN hx hb dX0_exchange_56 (lv_at hl 0 rfl) ?_
        refine sy_aastN hC hM hS hj hn hk_j (by omega) h3 b rfl (show b < sz μ j by omega) dX0_exchange_58 (fun H locs hM hS => ?_)
        refine lv_goto (tgt := 90) hx hb dX0_exchange_59 (by decide) ?_
        exact sy_vret hC hr hlk hM hS (p_swap_eq ea eb) (Nat.le_of_ble_eq_true rfl) (Nat.le_of_ble_eq_true rfl) dX0_exchange_90
      · refine w_top (y := .ref (β (64 + yb))) (by rw [eb, qT_N (by omega)]; rfl) ?_
        refine sy_aast hC hX hM hS hj hn hk_j (by omega) h3 hyb (hI.1.2.1 yb (by omega)).2.1 (by have h := gb; rw [hk_j] at h; exact h) (by decide) a rfl (show a < sz μ j by omega) dX0_exchange_53 (fun H locs hM hS => ?_)
        refine lv_aload_n hx hb dX0_exchange_54 rfl (lv_at hl 1 rfl) ?_
        refine lv_iload_n hx hb dX0_exchange_55 rfl (lv_at hl 4 rfl) ?_
        refine lv_aloadN hx hb dX0_exchange_56 (lv_at hl 0 rfl) ?_
        refine sy_aastN hC hM hS hj hn hk_j (by omega) h3 b rfl (show b < sz μ j by omega) dX0_exchange_58 (fun H locs hM hS => ?_)
        refine lv_goto (tgt := 90) hx hb dX0_exchange_59 (by decide) ?_
        exact sy_vret hC hr hlk hM hS (p_swap_eq ea eb) (Nat.le_of_ble_eq_true rfl) (Nat.le_of_ble_eq_true rfl) dX0_exchange_90
    · refine w_top (y := .ref (β (64 + ya))) (by rw [ea, qT_N (by omega)]; rfl) ?_
      refine lv_astore (lv' := [(4, .ref (β (64 + ya))), (3, .ref (β (64 + j))), (0, .ref (β (64 + j))), (1, .int (nI a)), (2, .int (nI b))]) hx hb dX0_exchange_46 hl (by decide) rfl (fun ls hl => ?_)
      refine lv_aload_n hx hb dX0_exchange_48 rfl (lv_at hl 1 rfl) ?_
      refine lv_iload_n hx hb dX0_exchange_49 rfl (lv_at hl 3 rfl) ?_
      refine lv_aload_n hx hb dX0_exchange_50 rfl (lv_at hl 1 rfl) ?_
      refine lv_iload_n hx hb dX0_exchange_51 rfl (lv_at hl 4 rfl) ?_
      refine sy_aald hC hM hj hn hk_j (by omega) h3 b rfl (by omega) dX0_exchange_52 ?_
      rcases CV_thg hI (by omega) (show b < 3 by omega) hk with eb | ⟨yb, hyb, eb, gb⟩
      · refine w_top (y := .null) (by rw [eb]; rfl) ?_
        refine sy_aastN hC hM hS hj hn hk_j (by omega) h3 a rfl (show a < sz μ j by omega) dX0_exchange_53 (fun H locs hM hS => ?_)
        refine lv_aload_n hx hb dX0_exchange_54 rfl (lv_at hl 1 rfl) ?_
        refine lv_iload_n hx hb dX0_exchange_55 rfl (lv_at hl 4 rfl) ?_
        refine lv_aload hx hb dX0_exchange_56 (lv_at hl 0 rfl) ?_
        refine sy_aast hC hX hM hS hj hn hk_j (by omega) h3 hya (hI.1.2.1 ya (by omega)).2.1 (by have h := ga; rw [hk_j] at h; exact h) (by decide) b rfl (show b < sz μ j by omega) dX0_exchange_58 (fun H locs hM hS => ?_)
        refine lv_goto (tgt := 90) hx hb dX0_exchange_59 (by decide) ?_
        exact sy_vret hC hr hlk hM hS (p_swap_eq ea eb) (Nat.le_of_ble_eq_true rfl) (Nat.le_of_ble_eq_true rfl) dX0_exchange_90
      · refine w_top (y := .ref (β (64 + yb))) (by rw [eb, qT_N (by omega)]; rfl) ?_
        refine sy_aast hC hX hM hS hj hn hk_j (by omega) h3 hyb (hI.1.2.1 yb (by omega)).2.1 (by have h := gb; rw [hk_j] at h; exact h) (by decide) a rfl (show a < sz μ j by omega) dX0_exchange_53 (fun H locs hM hS => ?_)
        refine lv_aload_n hx hb dX0_exchange_54 rfl (lv_at hl 1 rfl) ?_
        refine lv_iload_n hx hb dX0_exchange_55 rfl (lv_at hl 4 rfl) ?_
        refine lv_aload hx hb dX0_exchange_56 (lv_at hl 0 rfl) ?_
        refine sy_aast hC hX hM hS hj hn hk_j (by omega) h3 hya (hI.1.2.1 ya (by omega)).2.1 (by have h := ga; rw [hk_j] at h; exact h) (by decide) b rfl (show b < sz μ j by omega) dX0_exchange_58 (fun H locs hM hS => ?_)
        refine lv_goto (tgt := 90) hx hb dX0_exchange_59 (by decide) ?_
        exact sy_vret hC hr hlk hM hS (p_swap_eq ea eb) (Nat.le_of_ble_eq_true rfl) (Nat.le_of_ble_eq_true rfl) dX0_exchange_90
  · refine lv_aload_n hx hb dX0_exchange_0 rfl (lv_at hl 0 rfl) ?_
    refine w_inst hC hX (k := 9) (f := 4) (by decide) (by decide) (sy_thRk hC.2.2.2.2 hM hj hn hk_j (by omega)) q284 rfl (b := false) rfl dX0_exchange_1 ?_
    refine b_ifeq (w := false) (tgt := 31) hx hb dX0_exchange_4 (by decide) (fun _ => ?_) (fun h => absurd (h.symm.trans rfl) (by decide))
    refine lv_aload_n hx hb dX0_exchange_31 rfl (lv_at hl 0 rfl) ?_
    refine w_inst hC hX (k := 9) (f := 10) (by decide) (by decide) (sy_thRk hC.2.2.2.2 hM hj hn hk_j (by omega)) q285 rfl (b := true) rfl dX0_exchange_32 ?_
    refine b_ifeq (w := true) (tgt := 62) hx hb dX0_exchange_35 (by decide) (fun h => absurd (h.symm.trans rfl) (by decide)) (fun _ => ?_)
    refine lv_aload_n hx hb dX0_exchange_38 rfl (lv_at hl 0 rfl) ?_
    refine w_cast hC hX (k := 9) (f := 10) (by decide) (by decide) (sy_thRk hC.2.2.2.2 hM hj hn hk_j (by omega)) q285 rfl rfl dX0_exchange_39 ?_
    refine lv_astore_n (lv' := [(3, .ref (β (64 + j))), (0, .ref (β (64 + j))), (1, .int (nI a)), (2, .int (nI b))]) hx hb dX0_exchange_42 rfl hl (by decide) rfl (fun ls hl => ?_)
    refine lv_aload_n hx hb dX0_exchange_43 rfl (lv_at hl 0 rfl) ?_
    refine lv_iload_n hx hb dX0_exchange_44 rfl (lv_at hl 2 rfl) ?_
    refine sy_aald hC hM hj hn hk_j (by omega) h3 a rfl (by omega) dX0_exchange_45 ?_
    rcases CV_thg hI (by omega) (show a < 3 by omega) hk with ea | ⟨ya, hya, ea, ga⟩
    · refine w_top (y := .null) (by rw [ea]; rfl) ?_
      refine lv_astoreN (lv' := [(4, .null), (3, .ref (β (64 + j))), (0, .ref (β (64 + j))), (1, .int (nI a)), (2, .int (nI b))]) hx hb dX0_exchange_46 hl (by decide) rfl (fun ls hl => ?_)
      refine lv_aload_n hx hb dX0_exchange_48 rfl (lv_at hl 1 rfl) ?_
      refine lv_iload_n hx hb dX0_exchange_49 rfl (lv_at hl 3 rfl) ?_
      refine lv_aload_n hx hb dX0_exchange_50 rfl (lv_at hl 1 rfl) ?_
      refine lv_iload_n hx hb dX0_exchange_51 rfl (lv_at hl 4 rfl) ?_
      refine sy_aald hC hM hj hn hk_j (by omega) h3 b rfl (by omega) dX0_exchange_52 ?_
      rcases CV_thg hI (by omega) (show b < 3 by omega) hk with eb | ⟨yb, hyb, eb, gb⟩
      · refine w_top (y := .null) (by rw [eb]; rfl) ?_
        refine sy_aastN hC hM hS hj hn hk_j (by omega) h3 a rfl (show a < sz μ j by omega) dX0_exchange_53 (fun H locs hM hS => ?_)
        refine lv_aload_n hx hb dX0_exchange_54 rfl (lv_at hl 1 rfl) ?_
        refine lv_iload_n hx hb dX0_exchange_55 rfl (lv_at hl 4 rfl) ?_
        refine lv_aloadN hx hb dX0_exchange_56 (lv_at hl 0 rfl) ?_
        refine sy_aastN hC hM hS hj hn hk_j (by omega) h3 b rfl (show b < sz μ j by omega) dX0_exchange_58 (fun H locs hM hS => ?_)
        refine lv_goto (tgt := 90) hx hb dX0_exchange_59 (by decide) ?_
        exact sy_vret hC hr hlk hM hS (p_swap_eq ea eb) (Nat.le_of_ble_eq_true rfl) (Nat.le_of_ble_eq_true rfl) dX0_exchange_90
      · refine w_top (y := .ref (β (64 + yb))) (by rw [eb, qT_N (by omega)]; rfl) ?_
        refine sy_aast hC hX hM hS hj hn hk_j (by omega) h3 hyb (hI.1.2.1 yb (by omega)).2.1 (by have h := gb; rw [hk_j] at h; exact h) (by decide) a rfl (show a < sz μ j by omega) dX0_exchange_53 (fun H locs hM hS => ?_)
        refine lv_aload_n hx hb dX0_exchange_54 rfl (lv_at hl 1 rfl) ?_
        refine lv_iload_n hx hb dX0_exchange_55 rfl (lv_at hl 4 rfl) ?_
        refine lv_aloadN hx hb dX0_exchange_56 (lv_at hl 0 rfl) ?_
        refine sy_aastN hC hM hS hj hn hk_j (by omega) h3 b rfl (show b < sz μ j by omega) dX0_exchange_58 (fun H locs hM hS => ?_)
        refine lv_goto (tgt := 90) hx hb dX0_exchange_59 (by decide) ?_
        exact sy_vret hC hr hlk hM hS (p_swap_eq ea eb) (Nat.le_of_ble_eq_true rfl) (Nat.le_of_ble_eq_true rfl) dX0_exchange_90
    · refine w_top (y := .ref (β (64 + ya))) (by rw [ea, qT_N (by omega)]; rfl) ?_
      refine lv_astore (lv' := [(4, .ref (β (64 + ya))), (3, .ref (β (64 + j))), (0, .ref (β (64 + j))), (1, .int (nI a)), (2, .int (nI b))]) hx hb dX0_exchange_46 hl (by decide) rfl (fun ls hl => ?_)
      refine lv_aload_n hx hb dX0_exchange_48 rfl (lv_at hl 1 rfl) ?_
      refine lv_iload_n hx hb dX0_exchange_49 rfl (lv_at hl 3 rfl) ?_
      refine lv_aload_n hx hb dX0_exchange_50 rfl (lv_at hl 1 rfl) ?_
      refine lv_iload_n hx hb dX0_exchange_51 rfl (lv_at hl 4 rfl) ?_
      refine sy_aald hC hM hj hn hk_j (by omega) h3 b rfl (by omega) dX0_exchange_52 ?_
      rcases CV_thg hI (by omega) (show b < 3 by omega) hk with eb | ⟨yb, hyb, eb, gb⟩
      · refine w_top (y := .null) (by rw [eb]; rfl) ?_
        refine sy_aastN hC hM hS hj hn hk_j (by omega) h3 a rfl (show a < sz μ j by omega) dX0_exchange_53 (fun H locs hM hS => ?_)
        refine lv_aload_n hx hb dX0_exchange_54 rfl (lv_at hl 1 rfl) ?_
        refine lv_iload_n hx hb dX0_exchange_55 rfl (lv_at hl 4 rfl) ?_
        refine lv_aload hx hb dX0_exchange_56 (lv_at hl 0 rfl) ?_
        refine sy_aast hC hX hM hS hj hn hk_j (by omega) h3 hya (hI.1.2.1 ya (by omega)).2.1 (by have h := ga; rw [hk_j] at h; exact h) (by decide) b rfl (show b < sz μ j by omega) dX0_exchange_58 (fun H locs hM hS => ?_)
        refine lv_goto (tgt := 90) hx hb dX0_exchange_59 (by decide) ?_
        exact sy_vret hC hr hlk hM hS (p_swap_eq ea eb) (Nat.le_of_ble_eq_true rfl) (Nat.le_of_ble_eq_true rfl) dX0_exchange_90
      · refine w_top (y := .ref (β (64 + yb))) (by rw [eb, qT_N (by omega)]; rfl) ?_
        refine sy_aast hC hX hM hS hj hn hk_j (by omega) h3 hyb (hI.1.2.1 yb (by omega)).2.1 (by have h := gb; rw [hk_j] at h; exact h) (by decide) a rfl (show a < sz μ j by omega) dX0_exchange_53 (fun H locs hM hS => ?_)
        refine lv_aload_n hx hb dX0_exchange_54 rfl (lv_at hl 1 rfl) ?_
        refine lv_iload_n hx hb dX0_exchange_55 rfl (lv_at hl 4 rfl) ?_
        refine lv_aload hx hb dX0_exchange_56 (lv_at hl 0 rfl) ?_
        refine sy_aast hC hX hM hS hj hn hk_j (by omega) h3 hya (hI.1.2.1 ya (by omega)).2.1 (by have h := ga; rw [hk_j] at h; exact h) (by decide) b rfl (show b < sz μ j by omega) dX0_exchange_58 (fun H locs hM hS => ?_)
        refine lv_goto (tgt := 90) hx hb dX0_exchange_59 (by decide) ?_
        exact sy_vret hC hr hlk hM hS (p_swap_eq ea eb) (Nat.le_of_ble_eq_true rfl) (Nat.le_of_ble_eq_true rfl) dX0_exchange_90
  · refine lv_aload_n hx hb dX0_exchange_0 rfl (lv_at hl 0 rfl) ?_
    refine w_inst hC hX (k := 10) (f := 4) (by decide) (by decide) (sy_thRk hC.2.2.2.2 hM hj hn hk_j (by omega)) q284 rfl (b := false) rfl dX0_exchange_1 ?_
    refine b_ifeq (w := false) (tgt := 31) hx hb dX0_exchange_4 (by decide) (fun _ => ?_) (fun h => absurd (h.symm.trans rfl) (by decide))
    refine lv_aload_n hx hb dX0_exchange_31 rfl (lv_at hl 0 rfl) ?_
    refine w_inst hC hX (k := 10) (f := 10) (by decide) (by decide) (sy_thRk hC.2.2.2.2 hM hj hn hk_j (by omega)) q285 rfl (b := true) rfl dX0_exchange_32 ?_
    refine b_ifeq (w := true) (tgt := 62) hx hb dX0_exchange_35 (by decide) (fun h => absurd (h.symm.trans rfl) (by decide)) (fun _ => ?_)
    refine lv_aload_n hx hb dX0_exchange_38 rfl (lv_at hl 0 rfl) ?_
    refine w_cast hC hX (k := 10) (f := 10) (by decide) (by decide) (sy_thRk hC.2.2.2.2 hM hj hn hk_j (by omega)) q285 rfl rfl dX0_exchange_39 ?_
    refine lv_astore_n (lv' := [(3, .ref (β (64 + j))), (0, .ref (β (64 + j))), (1, .int (nI a)), (2, .int (nI b))]) hx hb dX0_exchange_42 rfl hl (by decide) rfl (fun ls hl => ?_)
    refine lv_aload_n hx hb dX0_exchange_43 rfl (lv_at hl 0 rfl) ?_
    refine lv_iload_n hx hb dX0_exchange_44 rfl (lv_at hl 2 rfl) ?_
    refine sy_aald hC hM hj hn hk_j (by omega) h3 a rfl (by omega) dX0_exchange_45 ?_
    rcases CV_thg hI (by omega) (show a < 3 by omega) hk with ea | ⟨ya, hya, ea, ga⟩
    · refine w_top (y := .null) (by rw [ea]; rfl) ?_
      refine lv_astoreN (lv' := [(4, .null), (3, .ref (β (64 + j))), (0, .ref (β (64 + j))), (1, .int (nI a)), (2, .int (nI b))]) hx hb dX0_exchange_46 hl (by decide) rfl (fun ls hl => ?_)
      refine lv_aload_n hx hb dX0_exchange_48 rfl (lv_at hl 1 rfl) ?_
      refine lv_iload_n hx hb dX0_exchange_49 rfl (lv_at hl 3 rfl) ?_
      refine lv_aload_n hx hb dX0_exchange_50 rfl (lv_at hl 1 rfl) ?_
      refine lv_iload_n hx hb dX0_exchange_51 rfl (lv_at hl 4 rfl) ?_
      refine sy_aald hC hM hj hn hk_j (by omega) h3 b rfl (by omega) dX0_exchange_52 ?_
      rcases CV_thg hI (by omega) (show b < 3 by omega) hk with eb | ⟨yb, hyb, eb, gb⟩
      · refine w_top (y := .null) (by rw [eb]; rfl) ?_
        refine sy_aastN hC hM hS hj hn hk_j (by omega) h3 a rfl (show a < sz μ j by omega) dX0_exchange_53 (fun H locs hM hS => ?_)
        refine lv_aload_n hx hb dX0_exchange_54 rfl (lv_at hl 1 rfl) ?_
        refine lv_iload_n hx hb dX0_exchange_55 rfl (lv_at hl 4 rfl) ?_
        refine lv_aloadN hx hb dX0_exchange_56 (lv_at hl 0 rfl) ?_
        refine sy_aastN hC hM hS hj hn hk_j (by omega) h3 b rfl (show b < sz μ j by omega) dX0_exchange_58 (fun H locs hM hS => ?_)
        refine lv_goto (tgt := 90) hx hb dX0_exchange_59 (by decide) ?_
        exact sy_vret hC hr hlk hM hS (p_swap_eq ea eb) (Nat.le_of_ble_eq_true rfl) (Nat.le_of_ble_eq_true rfl) dX0_exchange_90
      · refine w_top (y := .ref (β (64 + yb))) (by rw [eb, qT_N (by omega)]; rfl) ?_
        refine sy_aast hC hX hM hS hj hn hk_j (by omega) h3 hyb (hI.1.2.1 yb (by omega)).2.1 (by have h := gb; rw [hk_j] at h; exact h) (by decide) a rfl (show a < sz μ j by omega) dX0_exchange_53 (fun H locs hM hS => ?_)
        refine lv_aload_n hx hb dX0_exchange_54 rfl (lv_at hl 1 rfl) ?_
        refine lv_iload_n hx hb dX0_exchange_55 rfl (lv_at hl 4 rfl) ?_
        refine lv_aloadN hx hb dX0_exchange_56 (lv_at hl 0 rfl) ?_
        refine sy_aastN hC hM hS hj hn hk_j (by omega) h3 b rfl (show b < sz μ j by omega) dX0_exchange_58 (fun H locs hM hS => ?_)
        refine lv_goto (tgt := 90) hx hb dX0_exchange_59 (by decide) ?_
        exact sy_vret hC hr hlk hM hS (p_swap_eq ea eb) (Nat.le_of_ble_eq_true rfl) (Nat.le_of_ble_eq_true rfl) dX0_exchange_90
    · refine w_top (y := .ref (β (64 + ya))) (by rw [ea, qT_N (by omega)]; rfl) ?_
      refine lv_astore (lv' := [(4, .ref (β (64 + ya))), (3, .ref (β (64 + j))), (0, .ref (β (64 + j))), (1, .int (nI a)), (2, .int (nI b))]) hx hb dX0_exchange_46 hl (by decide) rfl (fun ls hl => ?_)
      refine lv_aload_n hx hb dX0_exchange_48 rfl (lv_at hl 1 rfl) ?_
      refine lv_iload_n hx hb dX0_exchange_49 rfl (lv_at hl 3 rfl) ?_
      refine lv_aload_n hx hb dX0_exchange_50 rfl (lv_at hl 1 rfl) ?_
      refine lv_iload_n hx hb dX0_exchange_51 rfl (lv_at hl 4 rfl) ?_
      refine sy_aald hC hM hj hn hk_j (by omega) h3 b rfl (by omega) dX0_exchange_52 ?_
      rcases CV_thg hI (by omega) (show b < 3 by omega) hk with eb | ⟨yb, hyb, eb, gb⟩
      · refine w_top (y := .null) (by rw [eb]; rfl) ?_
        refine sy_aastN hC hM hS hj hn hk_j (by omega) h3 a rfl (show a < sz μ j by omega) dX0_exchange_53 (fun H locs hM hS => ?_)
        refine lv_aload_n hx hb dX0_exchange_54 rfl (lv_at hl 1 rfl) ?_
        refine lv_iload_n hx hb dX0_exchange_55 rfl (lv_at hl 4 rfl) ?_
        refine lv_aload hx hb dX0_exchange_56 (lv_at hl 0 rfl) ?_
        refine sy_aast hC hX hM hS hj hn hk_j (by omega) h3 hya (hI.1.2.1 ya (by omega)).2.1 (by have h := ga; rw [hk_j] at h; exact h) (by decide) b rfl (show b < sz μ j by omega) dX0_exchange_58 (fun H locs hM hS => ?_)
        refine lv_goto (tgt := 90) hx hb dX0_exchange_59 (by decide) ?_
        exact sy_vret hC hr hlk hM hS (p_swap_eq ea eb) (Nat.le_of_ble_eq_true rfl) (Nat.le_of_ble_eq_true rfl) dX0_exchange_90
      · refine w_top (y := .ref (β (64 + yb))) (by rw [eb, qT_N (by omega)]; rfl) ?_
        refine sy_aast hC hX hM hS hj hn hk_j (by omega) h3 hyb (hI.1.2.1 yb (by omega)).2.1 (by have h := gb; rw [hk_j] at h; exact h) (by decide) a rfl (show a < sz μ j by omega) dX0_exchange_53 (fun H locs hM hS => ?_)
        refine lv_aload_n hx hb dX0_exchange_54 rfl (lv_at hl 1 rfl) ?_
        refine lv_iload_n hx hb dX0_exchange_55 rfl (lv_at hl 4 rfl) ?_
        refine lv_aload hx hb dX0_exchange_56 (lv_at hl 0 rfl) ?_
        refine sy_aast hC hX hM hS hj hn hk_j (by omega) h3 hya (hI.1.2.1 ya (by omega)).2.1 (by have h := ga; rw [hk_j] at h; exact h) (by decide) b rfl (show b < sz μ j by omega) dX0_exchange_58 (fun H locs hM hS => ?_)
        refine lv_goto (tgt := 90) hx hb dX0_exchange_59 (by decide) ?_
        exact sy_vret hC hr hlk hM hS (p_swap_eq ea eb) (Nat.le_of_ble_eq_true rfl) (Nat.le_of_ble_eq_true rfl) dX0_exchange_90
  · refine lv_aload_n hx hb dX0_exchange_0 rfl (lv_at hl 0 rfl) ?_
    refine w_inst hC hX (k := 11) (f := 4) (by decide) (by decide) (sy_thRk hC.2.2.2.2 hM hj hn hk_j (by omega)) q284 rfl (b := false) rfl dX0_exchange_1 ?_
    refine b_ifeq (w := false) (tgt := 31) hx hb dX0_exchange_4 (by decide) (fun _ => ?_) (fun h => absurd (h.symm.trans rfl) (by decide))
    refine lv_aload_n hx hb dX0_exchange_31 rfl (lv_at hl 0 rfl) ?_
    refine w_inst hC hX (k := 11) (f := 10) (by decide) (by decide) (sy_thRk hC.2.2.2.2 hM hj hn hk_j (by omega)) q285 rfl (b := false) rfl dX0_exchange_32 ?_
    refine b_ifeq (w := false) (tgt := 62) hx hb dX0_exchange_35 (by decide) (fun _ => ?_) (fun h => absurd (h.symm.trans rfl) (by decide))
    refine lv_aload_n hx hb dX0_exchange_62 rfl (lv_at hl 0 rfl) ?_
    refine w_inst hC hX (k := 11) (f := 11) (by decide) (by decide) (sy_thRk hC.2.2.2.2 hM hj hn hk_j (by omega)) q286 rfl (b := true) rfl dX0_exchange_63 ?_
    refine b_ifeq (w := true) (tgt := 90) hx hb dX0_exchange_66 (by decide) (fun h => absurd (h.symm.trans rfl) (by decide)) (fun _ => ?_)
    refine lv_aload_n hx hb dX0_exchange_69 rfl (lv_at hl 0 rfl) ?_
    refine w_cast hC hX (k := 11) (f := 11) (by decide) (by decide) (sy_thRk hC.2.2.2.2 hM hj hn hk_j (by omega)) q286 rfl rfl dX0_exchange_70 ?_
    refine lv_astore_n (lv' := [(3, .ref (β (64 + j))), (0, .ref (β (64 + j))), (1, .int (nI a)), (2, .int (nI b))]) hx hb dX0_exchange_73 rfl hl (by decide) rfl (fun ls hl => ?_)
    refine lv_aload_n hx hb dX0_exchange_74 rfl (lv_at hl 0 rfl) ?_
    refine lv_iload_n hx hb dX0_exchange_75 rfl (lv_at hl 2 rfl) ?_
    refine sy_aald hC hM hj hn hk_j (by omega) h3 a rfl (by omega) dX0_exchange_76 ?_
    rcases CV_thg hI (by omega) (show a < 3 by omega) hk with ea | ⟨ya, hya, ea, ga⟩
    · refine w_top (y := .null) (by rw [ea]; rfl) ?_
      refine lv_astoreN (lv' := [(4, .null), (3, .ref (β (64 + j))), (0, .ref (β (64 + j))), (1, .int (nI a)), (2, .int (nI b))]) hx hb dX0_exchange_77 hl (by decide) rfl (fun ls hl => ?_)
      refine lv_aload_n hx hb dX0_exchange_79 rfl (lv_at hl 1 rfl) ?_
      refine lv_iload_n hx hb dX0_exchange_80 rfl (lv_at hl 3 rfl) ?_
      refine lv_aload_n hx hb dX0_exchange_81 rfl (lv_at hl 1 rfl) ?_
      refine lv_iload_n hx hb dX0_exchange_82 rfl (lv_at hl 4 rfl) ?_
      refine sy_aald hC hM hj hn hk_j (by omega) h3 b rfl (by omega) dX0_exchange_83 ?_
      rcases CV_thg hI (by omega) (show b < 3 by omega) hk with eb | ⟨yb, hyb, eb, gb⟩
      · refine w_top (y := .null) (by rw [eb]; rfl) ?_
        refine sy_aastN hC hM hS hj hn hk_j (by omega) h3 a rfl (show a < sz μ j by omega) dX0_exchange_84 (fun H locs hM hS => ?_)
        refine lv_aload_n hx hb dX0_exchange_85 rfl (lv_at hl 1 rfl) ?_
        refine lv_iload_n hx hb dX0_exchange_86 rfl (lv_at hl 4 rfl) ?_
        refine lv_aloadN hx hb dX0_exchange_87 (lv_at hl 0 rfl) ?_
        refine sy_aastN hC hM hS hj hn hk_j (by omega) h3 b rfl (show b < sz μ j by omega) dX0_exchange_89 (fun H locs hM hS => ?_)
        exact sy_vret hC hr hlk hM hS (p_swap_eq ea eb) (Nat.le_of_ble_eq_true rfl) (Nat.le_of_ble_eq_true rfl) dX0_exchange_90
      · refine w_top (y := .ref (β (64 + yb))) (by rw [eb, qT_N (by omega)]; rfl) ?_
        refine sy_aast hC hX hM hS hj hn hk_j (by omega) h3 hyb (hI.1.2.1 yb (by omega)).2.1 (by have h := gb; rw [hk_j] at h; exact h) (by decide) a rfl (show a < sz μ j by omega) dX0_exchange_84 (fun H locs hM hS => ?_)
        refine lv_aload_n hx hb dX0_exchange_85 rfl (lv_at hl 1 rfl) ?_
        refine lv_iload_n hx hb dX0_exchange_86 rfl (lv_at hl 4 rfl) ?_
        refine lv_aloadN hx hb dX0_exchange_87 (lv_at hl 0 rfl) ?_
        refine sy_aastN hC hM hS hj hn hk_j (by omega) h3 b rfl (show b < sz μ j by omega) dX0_exchange_89 (fun H locs hM hS => ?_)
        exact sy_vret hC hr hlk hM hS (p_swap_eq ea eb) (Nat.le_of_ble_eq_true rfl) (Nat.le_of_ble_eq_true rfl) dX0_exchange_90
    · refine w_top (y := .ref (β (64 + ya))) (by rw [ea, qT_N (by omega)]; rfl) ?_
      refine lv_astore (lv' := [(4, .ref (β (64 + ya))), (3, .ref (β (64 + j))), (0, .ref (β (64 + j))), (1, .int (nI a)), (2, .int (nI b))]) hx hb dX0_exchange_77 hl (by decide) rfl (fun ls hl => ?_)
      refine lv_aload_n hx hb dX0_exchange_79 rfl (lv_at hl 1 rfl) ?_
      refine lv_iload_n hx hb dX0_exchange_80 rfl (lv_at hl 3 rfl) ?_
      refine lv_aload_n hx hb dX0_exchange_81 rfl (lv_at hl 1 rfl) ?_
      refine lv_iload_n hx hb dX0_exchange_82 rfl (lv_at hl 4 rfl) ?_
      refine sy_aald hC hM hj hn hk_j (by omega) h3 b rfl (by omega) dX0_exchange_83 ?_
      rcases CV_thg hI (by omega) (show b < 3 by omega) hk with eb | ⟨yb, hyb, eb, gb⟩
      · refine w_top (y := .null) (by rw [eb]; rfl) ?_
        refine sy_aastN hC hM hS hj hn hk_j (by omega) h3 a rfl (show a < sz μ j by omega) dX0_exchange_84 (fun H locs hM hS => ?_)
        refine lv_aload_n hx hb dX0_exchange_85 rfl (lv_at hl 1 rfl) ?_
        refine lv_iload_n hx hb dX0_exchange_86 rfl (lv_at hl 4 rfl) ?_
        refine lv_aload hx hb dX0_exchange_87 (lv_at hl 0 rfl) ?_
        refine sy_aast hC hX hM hS hj hn hk_j (by omega) h3 hya (hI.1.2.1 ya (by omega)).2.1 (by have h := ga; rw [hk_j] at h; exact h) (by decide) b rfl (show b < sz μ j by omega) dX0_exchange_89 (fun H locs hM hS => ?_)
        exact sy_vret hC hr hlk hM hS (p_swap_eq ea eb) (Nat.le_of_ble_eq_true rfl) (Nat.le_of_ble_eq_true rfl) dX0_exchange_90
      · refine w_top (y := .ref (β (64 + yb))) (by rw [eb, qT_N (by omega)]; rfl) ?_
        refine sy_aast hC hX hM hS hj hn hk_j (by omega) h3 hyb (hI.1.2.1 yb (by omega)).2.1 (by have h := gb; rw [hk_j] at h; exact h) (by decide) a rfl (show a < sz μ j by omega) dX0_exchange_84 (fun H locs hM hS => ?_)
        refine lv_aload_n hx hb dX0_exchange_85 rfl (lv_at hl 1 rfl) ?_
        refine lv_iload_n hx hb dX0_exchange_86 rfl (lv_at hl 4 rfl) ?_
        refine lv_aload hx hb dX0_exchange_87 (lv_at hl 0 rfl) ?_
        refine sy_aast hC hX hM hS hj hn hk_j (by omega) h3 hya (hI.1.2.1 ya (by omega)).2.1 (by have h := ga; rw [hk_j] at h; exact h) (by decide) b rfl (show b < sz μ j by omega) dX0_exchange_89 (fun H locs hM hS => ?_)
        exact sy_vret hC hr hlk hM hS (p_swap_eq ea eb) (Nat.le_of_ble_eq_true rfl) (Nat.le_of_ble_eq_true rfl) dX0_exchange_90
  · refine lv_aload_n hx hb dX0_exchange_0 rfl (lv_at hl 0 rfl) ?_
    refine w_inst hC hX (k := 12) (f := 4) (by decide) (by decide) (sy_thRk hC.2.2.2.2 hM hj hn hk_j (by omega)) q284 rfl (b := false) rfl dX0_exchange_1 ?_
    refine b_ifeq (w := false) (tgt := 31) hx hb dX0_exchange_4 (by decide) (fun _ => ?_) (fun h => absurd (h.symm.trans rfl) (by decide))
    refine lv_aload_n hx hb dX0_exchange_31 rfl (lv_at hl 0 rfl) ?_
    refine w_inst hC hX (k := 12) (f := 10) (by decide) (by decide) (sy_thRk hC.2.2.2.2 hM hj hn hk_j (by omega)) q285 rfl (b := false) rfl dX0_exchange_32 ?_
    refine b_ifeq (w := false) (tgt := 62) hx hb dX0_exchange_35 (by decide) (fun _ => ?_) (fun h => absurd (h.symm.trans rfl) (by decide))
    refine lv_aload_n hx hb dX0_exchange_62 rfl (lv_at hl 0 rfl) ?_
    refine w_inst hC hX (k := 12) (f := 11) (by decide) (by decide) (sy_thRk hC.2.2.2.2 hM hj hn hk_j (by omega)) q286 rfl (b := true) rfl dX0_exchange_63 ?_
    refine b_ifeq (w := true) (tgt := 90) hx hb dX0_exchange_66 (by decide) (fun h => absurd (h.symm.trans rfl) (by decide)) (fun _ => ?_)
    refine lv_aload_n hx hb dX0_exchange_69 rfl (lv_at hl 0 rfl) ?_
    refine w_cast hC hX (k := 12) (f := 11) (by decide) (by decide) (sy_thRk hC.2.2.2.2 hM hj hn hk_j (by omega)) q286 rfl rfl dX0_exchange_70 ?_
    refine lv_astore_n (lv' := [(3, .ref (β (64 + j))), (0, .ref (β (64 + j))), (1, .int (nI a)), (2, .int (nI b))]) hx hb dX0_exchange_73 rfl hl (by decide) rfl (fun ls hl => ?_)
    refine lv_aload_n hx hb dX0_exchange_74 rfl (lv_at hl 0 rfl) ?_
    refine lv_iload_n hx hb dX0_exchange_75 rfl (lv_at hl 2 rfl) ?_
    refine sy_aald hC hM hj hn hk_j (by omega) h3 a rfl (by omega) dX0_exchange_76 ?_
    rcases CV_thg hI (by omega) (show a < 3 by omega) hk with ea | ⟨ya, hya, ea, ga⟩
    · refine w_top (y := .null) (by rw [ea]; rfl) ?_
      refine lv_astoreN (lv' := [(4, .null), (3, .ref (β (64 + j))), (0, .ref (β (64 + j))), (1, .int (nI a)), (2, .int (nI b))]) hx hb dX0_exchange_77 hl (by decide) rfl (fun ls hl => ?_)
      refine lv_aload_n hx hb dX0_exchange_79 rfl (lv_at hl 1 rfl) ?_
      refine lv_iload_n hx hb dX0_exchange_80 rfl (lv_at hl 3 rfl) ?_
      refine lv_aload_n hx hb dX0_exchange_81 rfl (lv_at hl 1 rfl) ?_
      refine lv_iload_n hx hb dX0_exchange_82 rfl (lv_at hl 4 rfl) ?_
      refine sy_aald hC hM hj hn hk_j (by omega) h3 b rfl (by omega) dX0_exchange_83 ?_
      rcases CV_thg hI (by omega) (show b < 3 by omega) hk with eb | ⟨yb, hyb, eb, gb⟩
      · refine w_top (y := .null) (by rw [eb]; rfl) ?_
        refine sy_aastN hC hM hS hj hn hk_j (by omega) h3 a rfl (show a < sz μ j by omega) dX0_exchange_84 (fun H locs hM hS => ?_)
        refine lv_aload_n hx hb dX0_exchange_85 rfl (lv_at hl 1 rfl) ?_
        refine lv_iload_n hx hb dX0_exchange_86 rfl (lv_at hl 4 rfl) ?_
        refine lv_aloadN hx hb dX0_exchange_87 (lv_at hl 0 rfl) ?_
        refine sy_aastN hC hM hS hj hn hk_j (by omega) h3 b rfl (show b < sz μ j by omega) dX0_exchange_89 (fun H locs hM hS => ?_)
        exact sy_vret hC hr hlk hM hS (p_swap_eq ea eb) (Nat.le_of_ble_eq_true rfl) (Nat.le_of_ble_eq_true rfl) dX0_exchange_90
      · refine w_top (y := .ref (β (64 + yb))) (by rw [eb, qT_N (by omega)]; rfl) ?_
        refine sy_aast hC hX hM hS hj hn hk_j (by omega) h3 hyb (hI.1.2.1 yb (by omega)).2.1 (by have h := gb; rw [hk_j] at h; exact h) (by decide) a rfl (show a < sz μ j by omega) dX0_exchange_84 (fun H locs hM hS => ?_)
        refine lv_aload_n hx hb dX0_exchange_85 rfl (lv_at hl 1 rfl) ?_
        refine lv_iload_n hx hb dX0_exchange_86 rfl (lv_at hl 4 rfl) ?_
        refine lv_aloadN hx hb dX0_exchange_87 (lv_at hl 0 rfl) ?_
        refine sy_aastN hC hM hS hj hn hk_j (by omega) h3 b rfl (show b < sz μ j by omega) dX0_exchange_89 (fun H locs hM hS => ?_)
        exact sy_vret hC hr hlk hM hS (p_swap_eq ea eb) (Nat.le_of_ble_eq_true rfl) (Nat.le_of_ble_eq_true rfl) dX0_exchange_90
    · refine w_top (y := .ref (β (64 + ya))) (by rw [ea, qT_N (by omega)]; rfl) ?_
      refine lv_astore (lv' := [(4, .ref (β (64 + ya))), (3, .ref (β (64 + j))), (0, .ref (β (64 + j))), (1, .int (nI a)), (2, .int (nI b))]) hx hb dX0_exchange_77 hl (by decide) rfl (fun ls hl => ?_)
      refine lv_aload_n hx hb dX0_exchange_79 rfl (lv_at hl 1 rfl) ?_
      refine lv_iload_n hx hb dX0_exchange_80 rfl (lv_at hl 3 rfl) ?_
      refine lv_aload_n hx hb dX0_exchange_81 rfl (lv_at hl 1 rfl) ?_
      refine lv_iload_n hx hb dX0_exchange_82 rfl (lv_at hl 4 rfl) ?_
      refine sy_aald hC hM hj hn hk_j (by omega) h3 b rfl (by omega) dX0_exchange_83 ?_
      rcases CV_thg hI (by omega) (show b < 3 by omega) hk with eb | ⟨yb, hyb, eb, gb⟩
      · refine w_top (y := .null) (by rw [eb]; rfl) ?_
        refine sy_aastN hC hM hS hj hn hk_j (by omega) h3 a rfl (show a < sz μ j by omega) dX0_exchange_84 (fun H locs hM hS => ?_)
        refine lv_aload_n hx hb dX0_exchange_85 rfl (lv_at hl 1 rfl) ?_
        refine lv_iload_n hx hb dX0_exchange_86 rfl (lv_at hl 4 rfl) ?_
        refine lv_aload hx hb dX0_exchange_87 (lv_at hl 0 rfl) ?_
        refine sy_aast hC hX hM hS hj hn hk_j (by omega) h3 hya (hI.1.2.1 ya (by omega)).2.1 (by have h := ga; rw [hk_j] at h; exact h) (by decide) b rfl (show b < sz μ j by omega) dX0_exchange_89 (fun H locs hM hS => ?_)
        exact sy_vret hC hr hlk hM hS (p_swap_eq ea eb) (Nat.le_of_ble_eq_true rfl) (Nat.le_of_ble_eq_true rfl) dX0_exchange_90
      · refine w_top (y := .ref (β (64 + yb))) (by rw [eb, qT_N (by omega)]; rfl) ?_
        refine sy_aast hC hX hM hS hj hn hk_j (by omega) h3 hyb (hI.1.2.1 yb (by omega)).2.1 (by have h := gb; rw [hk_j] at h; exact h) (by decide) a rfl (show a < sz μ j by omega) dX0_exchange_84 (fun H locs hM hS => ?_)
        refine lv_aload_n hx hb dX0_exchange_85 rfl (lv_at hl 1 rfl) ?_
        refine lv_iload_n hx hb dX0_exchange_86 rfl (lv_at hl 4 rfl) ?_
        refine lv_aload hx hb dX0_exchange_87 (lv_at hl 0 rfl) ?_
        refine sy_aast hC hX hM hS hj hn hk_j (by omega) h3 hya (hI.1.2.1 ya (by omega)).2.1 (by have h := ga; rw [hk_j] at h; exact h) (by decide) b rfl (show b < sz μ j by omega) dX0_exchange_89 (fun H locs hM hS => ?_)
        exact sy_vret hC hr hlk hM hS (p_swap_eq ea eb) (Nat.le_of_ble_eq_true rfl) (Nat.le_of_ble_eq_true rfl) dX0_exchange_90
theorem k_X0_change_2 (l : Launch) (hst : l.stackTraces = false) (D : va_G) (tc : Nat → ClassId) (x mo : Nat) (β : Nat → Nat) (μ : MS) (hI : IV μ) (j : Nat) (hj : j < nn μ) (hk : oneN (kd μ j) = false) (a b : Nat) (ha : a < sz μ j) (hbz : b < sz μ j) : YC l yX0_change_2 cX0_change_2 6 none 1 24 0 0 D tc x mo β [.ref (β (64 + j)), .int (nI a), .int (nI b)] μ (p_swap μ (3 * j + a) (3 * j + b)) none := by
  refine YC.of (by decide) rfl (Nat.le_of_ble_eq_true rfl) ?_
  intro p e s m below meth c hC hX hZ hr hlk hml hM hS ls hl
  have hx := hC.1
  have hb := hC.2.1
  have hts := hC.2.2.1
  have hown := hC.2.2.2.1
  have hl : lv_has ls 6 [(0, .ref (β (64 + j))), (1, .int (nI a)), (2, .int (nI b))] := hl
  have hn := hI.1.1.2
  have h12 := (hI.1.2.1 j (by omega)).2.1
  have h3 := (hI.1.2.1 j (by omega)).2.2.2
  rcases (by simp [oneN] at hk; omega : kd μ j = 0 ∨ kd μ j = 1 ∨ kd μ j = 2 ∨ kd μ j = 3 ∨ kd μ j = 4 ∨ kd μ j = 8 ∨ kd μ j = 9 ∨ kd μ j = 10 ∨ kd μ j = 11 ∨ kd μ j = 12) with hk_j | hk_j | hk_j | hk_j | hk_j | hk_j | hk_j | hk_j | hk_j | hk_j
  · refine lv_aload_n hx hb dX0_change_2_0 rfl (lv_at hl 0 rfl) ?_
    refine w_inst hC hX (k := 0) (f := 0) (by decide) (by decide) (sy_thRk hC.2.2.2.2 hM hj hn hk_j (by omega)) q100 rfl (b := true) rfl dX0_change_2_1 ?_
    refine b_ifeq (w := true) (tgt := 31) hx hb dX0_change_2_4 (by decide) (fun h => absurd (h.symm.trans rfl) (by decide)) (fun _ => ?_)
    refine lv_aload_n hx hb dX0_change_2_7 rfl (lv_at hl 0 rfl) ?_
    refine w_cast hC hX (k := 0) (f := 0) (by decide) (by decide) (sy_thRk hC.2.2.2.2 hM hj hn hk_j (by omega)) q100 rfl rfl dX0_change_2_8 ?_
    refine lv_astore_n (lv' := [(3, .ref (β (64 + j))), (0, .ref (β (64 + j))), (1, .int (nI a)), (2, .int (nI b))]) hx hb dX0_change_2_11 rfl hl (by decide) rfl (fun ls hl => ?_)
    refine lv_aload_n hx hb dX0_change_2_12 rfl (lv_at hl 0 rfl) ?_
    refine lv_iload_n hx hb dX0_change_2_13 rfl (lv_at hl 2 rfl) ?_
    refine sy_cald hC hM hj hn hk_j h3 a rfl (show a < sz μ j by omega) dX0_change_2_14 ?_
    refine lv_istore (lv' := [(4, .int ((sC μ (3 * j + a)).toInt32)), (3, .ref (β (64 + j))), (0, .ref (β (64 + j))), (1, .int (nI a)), (2, .int (nI b))]) hx hb dX0_change_2_15 hl (by decide) rfl (fun ls hl => ?_)
    refine lv_aload_n hx hb dX0_change_2_17 rfl (lv_at hl 1 rfl) ?_
    refine lv_iload_n hx hb dX0_change_2_18 rfl (lv_at hl 3 rfl) ?_
    refine lv_aload_n hx hb dX0_change_2_19 rfl (lv_at hl 1 rfl) ?_
    refine lv_iload_n hx hb dX0_change_2_20 rfl (lv_at hl 4 rfl) ?_
    refine sy_cald hC hM hj hn hk_j h3 b rfl (show b < sz μ j by omega) dX0_change_2_21 ?_
    refine sy_cast hC hM hS hj hn hk_j h3 (w := (sC μ (3 * j + b))) a rfl (show a < sz μ j by omega) (cv_c (hI.2 j (by omega) b (by omega)) hk_j) dX0_change_2_22 (fun H locs hM hS => ?_)
    refine lv_aload_n hx hb dX0_change_2_23 rfl (lv_at hl 1 rfl) ?_
    refine lv_iload_n hx hb dX0_change_2_24 rfl (lv_at hl 4 rfl) ?_
    refine lv_iload hx hb dX0_change_2_25 (lv_at hl 0 rfl) ?_
    refine sy_cast hC hM hS hj hn hk_j h3 (w := (sC μ (3 * j + a))) b rfl (show b < sz μ j by omega) (cv_c (hI.2 j (by omega) a (by omega)) hk_j) dX0_change_2_27 (fun H locs hM hS => ?_)
    refine lv_goto (tgt := 130) hx hb dX0_change_2_28 (by decide) ?_
    exact sy_vret hC hr hlk hM hS rfl (Nat.le_of_ble_eq_true rfl) (Nat.le_of_ble_eq_true rfl) dX0_change_2_130
  · refine lv_aload_n hx hb dX0_change_2_0 rfl (lv_at hl 0 rfl) ?_
    refine w_inst hC hX (k := 1) (f := 0) (by decide) (by decide) (sy_thRk hC.2.2.2.2 hM hj hn hk_j (by omega)) q100 rfl (b := false) rfl dX0_change_2_1 ?_
    refine b_ifeq (w := false) (tgt := 31) hx hb dX0_change_2_4 (by decide) (fun _ => ?_) (fun h => absurd (h.symm.trans rfl) (by decide))
    refine lv_aload_n hx hb dX0_change_2_31 rfl (lv_at hl 0 rfl) ?_
    refine w_inst hC hX (k := 1) (f := 1) (by decide) (by decide) (sy_thRk hC.2.2.2.2 hM hj hn hk_j (by omega)) q252 rfl (b := true) rfl dX0_change_2_32 ?_
    refine b_ifeq (w := true) (tgt := 62) hx hb dX0_change_2_35 (by decide) (fun h => absurd (h.symm.trans rfl) (by decide)) (fun _ => ?_)
    refine lv_aload_n hx hb dX0_change_2_38 rfl (lv_at hl 0 rfl) ?_
    refine w_cast hC hX (k := 1) (f := 1) (by decide) (by decide) (sy_thRk hC.2.2.2.2 hM hj hn hk_j (by omega)) q252 rfl rfl dX0_change_2_39 ?_
    refine lv_astore_n (lv' := [(3, .ref (β (64 + j))), (0, .ref (β (64 + j))), (1, .int (nI a)), (2, .int (nI b))]) hx hb dX0_change_2_42 rfl hl (by decide) rfl (fun ls hl => ?_)
    refine lv_aload_n hx hb dX0_change_2_43 rfl (lv_at hl 0 rfl) ?_
    refine lv_iload_n hx hb dX0_change_2_44 rfl (lv_at hl 2 rfl) ?_
    refine sy_sald hC hM hj hn hk_j h3 a rfl (show a < sz μ j by omega) dX0_change_2_45 ?_
    refine lv_istore (lv' := [(4, .int ((sC μ (3 * j + a)).toInt32)), (3, .ref (β (64 + j))), (0, .ref (β (64 + j))), (1, .int (nI a)), (2, .int (nI b))]) hx hb dX0_change_2_46 hl (by decide) rfl (fun ls hl => ?_)
    refine lv_aload_n hx hb dX0_change_2_48 rfl (lv_at hl 1 rfl) ?_
    refine lv_iload_n hx hb dX0_change_2_49 rfl (lv_at hl 3 rfl) ?_
    refine lv_aload_n hx hb dX0_change_2_50 rfl (lv_at hl 1 rfl) ?_
    refine lv_iload_n hx hb dX0_change_2_51 rfl (lv_at hl 4 rfl) ?_
    refine sy_sald hC hM hj hn hk_j h3 b rfl (show b < sz μ j by omega) dX0_change_2_52 ?_
    refine sy_sast hC hM hS hj hn hk_j h3 (w := (sC μ (3 * j + b))) a rfl (show a < sz μ j by omega) (cv_s (hI.2 j (by omega) b (by omega)) hk_j) dX0_change_2_53 (fun H locs hM hS => ?_)
    refine lv_aload_n hx hb dX0_change_2_54 rfl (lv_at hl 1 rfl) ?_
    refine lv_iload_n hx hb dX0_change_2_55 rfl (lv_at hl 4 rfl) ?_
    refine lv_iload hx hb dX0_change_2_56 (lv_at hl 0 rfl) ?_
    refine sy_sast hC hM hS hj hn hk_j h3 (w := (sC μ (3 * j + a))) b rfl (show b < sz μ j by omega) (cv_s (hI.2 j (by omega) a (by omega)) hk_j) dX0_change_2_58 (fun H locs hM hS => ?_)
    refine lv_goto (tgt := 130) hx hb dX0_change_2_59 (by decide) ?_
    exact sy_vret hC hr hlk hM hS rfl (Nat.le_of_ble_eq_true rfl) (Nat.le_of_ble_eq_true rfl) dX0_change_2_130
  · refine lv_aload_n hx hb dX0_change_2_0 rfl (lv_at hl 0 rfl) ?_
    refine w_inst hC hX (k := 2) (f := 0) (by decide) (by decide) (sy_thRk hC.2.2.2.2 hM hj hn hk_j (by omega)) q100 rfl (b := false) rfl dX0_change_2_1 ?_
    refine b_ifeq (w := false) (tgt := 31) hx hb dX0_change_2_4 (by decide) (fun _ => ?_) (fun h => absurd (h.symm.trans rfl) (by decide))
    refine lv_aload_n hx hb dX0_change_2_31 rfl (lv_at hl 0 rfl) ?_
    refine w_inst hC hX (k := 2) (f := 1) (by decide) (by decide) (sy_thRk hC.2.2.2.2 hM hj hn hk_j (by omega)) q252 rfl (b := false) rfl dX0_change_2_32 ?_
    refine b_ifeq (w := false) (tgt := 62) hx hb dX0_change_2_35 (by decide) (fun _ => ?_) (fun h => absurd (h.symm.trans rfl) (by decide))
    refine lv_aload_n hx hb dX0_change_2_62 rfl (lv_at hl 0 rfl) ?_
    refine w_inst hC hX (k := 2) (f := 2) (by decide) (by decide) (sy_thRk hC.2.2.2.2 hM hj hn hk_j (by omega)) q253 rfl (b := true) rfl dX0_change_2_63 ?_
    refine b_ifeq (w := true) (tgt := 93) hx hb dX0_change_2_66 (by decide) (fun h => absurd (h.symm.trans rfl) (by decide)) (fun _ => ?_)
    refine lv_aload_n hx hb dX0_change_2_69 rfl (lv_at hl 0 rfl) ?_
    refine w_cast hC hX (k := 2) (f := 2) (by decide) (by decide) (sy_thRk hC.2.2.2.2 hM hj hn hk_j (by omega)) q253 rfl rfl dX0_change_2_70 ?_
    refine lv_astore_n (lv' := [(3, .ref (β (64 + j))), (0, .ref (β (64 + j))), (1, .int (nI a)), (2, .int (nI b))]) hx hb dX0_change_2_73 rfl hl (by decide) rfl (fun ls hl => ?_)
    refine lv_aload_n hx hb dX0_change_2_74 rfl (lv_at hl 0 rfl) ?_
    refine lv_iload_n hx hb dX0_change_2_75 rfl (lv_at hl 2 rfl) ?_
    refine sy_dald hC hM hj hn hk_j h3 a rfl (show a < sz μ j by omega) dX0_change_2_76 ?_
    refine lv_dstore (lv' := [(4, .double (dE (sC μ (3 * j + a)))), (3, .ref (β (64 + j))), (0, .ref (β (64 + j))), (1, .int (nI a)), (2, .int (nI b))]) hx hb dX0_change_2_77 hl (by decide) rfl (fun ls hl => ?_)
    refine lv_aload_n hx hb dX0_change_2_79 rfl (lv_at hl 1 rfl) ?_
    refine lv_iload_n hx hb dX0_change_2_80 rfl (lv_at hl 3 rfl) ?_
    refine lv_aload_n hx hb dX0_change_2_81 rfl (lv_at hl 1 rfl) ?_
    refine lv_iload_n hx hb dX0_change_2_82 rfl (lv_at hl 4 rfl) ?_
    refine sy_dald hC hM hj hn hk_j h3 b rfl (show b < sz μ j by omega) dX0_change_2_83 ?_
    refine sy_dast hC hM hS hj hn hk_j h3 (w := (sC μ (3 * j + b))) a rfl (show a < sz μ j by omega) rfl dX0_change_2_84 (fun H locs hM hS => ?_)
    refine lv_aload_n hx hb dX0_change_2_85 rfl (lv_at hl 1 rfl) ?_
    refine lv_iload_n hx hb dX0_change_2_86 rfl (lv_at hl 4 rfl) ?_
    refine lv_dload hx hb dX0_change_2_87 (lv_at hl 0 rfl) ?_
    refine sy_dast hC hM hS hj hn hk_j h3 (w := (sC μ (3 * j + a))) b rfl (show b < sz μ j by omega) rfl dX0_change_2_89 (fun H locs hM hS => ?_)
    refine lv_goto (tgt := 130) hx hb dX0_change_2_90 (by decide) ?_
    exact sy_vret hC hr hlk hM hS rfl (Nat.le_of_ble_eq_true rfl) (Nat.le_of_ble_eq_true rfl) dX0_change_2_130
  · refine lv_aload_n hx hb dX0_change_2_0 rfl (lv_at hl 0 rfl) ?_
    refine w_inst hC hX (k := 3) (f := 0) (by decide) (by decide) (sy_thRk hC.2.2.2.2 hM hj hn hk_j (by omega)) q100 rfl (b := false) rfl dX0_change_2_1 ?_
    refine b_ifeq (w := false) (tgt := 31) hx hb dX0_change_2_4 (by decide) (fun _ => ?_) (fun h => absurd (h.symm.trans rfl) (by decide))
    refine lv_aload_n hx hb dX0_change_2_31 rfl (lv_at hl 0 rfl) ?_
    refine w_inst hC hX (k := 3) (f := 1) (by decide) (by decide) (sy_thRk hC.2.2.2.2 hM hj hn hk_j (by omega)) q252 rfl (b := false) rfl dX0_change_2_32 ?_
    refine b_ifeq (w := false) (tgt := 62) hx hb dX0_change_2_35 (by decide) (fun _ => ?_) (fun h => absurd (h.symm.trans rfl) (by decide))
    refine lv_aload_n hx hb dX0_change_2_62 rfl (lv_at hl 0 rfl) ?_
    refine w_inst hC hX (k := 3) (f := 2) (by decide) (by decide) (sy_thRk hC.2.2.2.2 hM hj hn hk_j (by omega)) q253 rfl (b := false) rfl dX0_change_2_63 ?_
    refine b_ifeq (w := false) (tgt := 93) hx hb dX0_change_2_66 (by decide) (fun _ => ?_) (fun h => absurd (h.symm.trans rfl) (by decide))
    refine lv_aload_n hx hb dX0_change_2_93 rfl (lv_at hl 0 rfl) ?_
    refine w_inst hC hX (k := 3) (f := 3) (by decide) (by decide) (sy_thRk hC.2.2.2.2 hM hj hn hk_j (by omega)) q255 rfl (b := true) rfl dX0_change_2_94 ?_
    refine b_ifeq (w := true) (tgt := 124) hx hb dX0_change_2_97 (by decide) (fun h => absurd (h.symm.trans rfl) (by decide)) (fun _ => ?_)
    refine lv_aload_n hx hb dX0_change_2_100 rfl (lv_at hl 0 rfl) ?_
    refine w_cast hC hX (k := 3) (f := 3) (by decide) (by decide) (sy_thRk hC.2.2.2.2 hM hj hn hk_j (by omega)) q255 rfl rfl dX0_change_2_101 ?_
    refine lv_astore_n (lv' := [(3, .ref (β (64 + j))), (0, .ref (β (64 + j))), (1, .int (nI a)), (2, .int (nI b))]) hx hb dX0_change_2_104 rfl hl (by decide) rfl (fun ls hl => ?_)
    refine lv_aload_n hx hb dX0_change_2_105 rfl (lv_at hl 0 rfl) ?_
    refine lv_iload_n hx hb dX0_change_2_106 rfl (lv_at hl 2 rfl) ?_
    refine sy_zald hC hM hj hn hk_j h3 a rfl (show a < sz μ j by omega) dX0_change_2_107 ?_
    refine lv_istore (lv' := [(4, .int ((sC μ (3 * j + a)).toInt32)), (3, .ref (β (64 + j))), (0, .ref (β (64 + j))), (1, .int (nI a)), (2, .int (nI b))]) hx hb dX0_change_2_108 hl (by decide) rfl (fun ls hl => ?_)
    refine lv_aload_n hx hb dX0_change_2_110 rfl (lv_at hl 1 rfl) ?_
    refine lv_iload_n hx hb dX0_change_2_111 rfl (lv_at hl 3 rfl) ?_
    refine lv_aload_n hx hb dX0_change_2_112 rfl (lv_at hl 1 rfl) ?_
    refine lv_iload_n hx hb dX0_change_2_113 rfl (lv_at hl 4 rfl) ?_
    refine sy_zald hC hM hj hn hk_j h3 b rfl (show b < sz μ j by omega) dX0_change_2_114 ?_
    refine sy_zast hC hM hS hj hn hk_j h3 (w := (sC μ (3 * j + b))) a rfl (show a < sz μ j by omega) (cv_z (hI.2 j (by omega) b (by omega)) hk_j) dX0_change_2_115 (fun H locs hM hS => ?_)
    refine lv_aload_n hx hb dX0_change_2_116 rfl (lv_at hl 1 rfl) ?_
    refine lv_iload_n hx hb dX0_change_2_117 rfl (lv_at hl 4 rfl) ?_
    refine lv_iload hx hb dX0_change_2_118 (lv_at hl 0 rfl) ?_
    refine sy_zast hC hM hS hj hn hk_j h3 (w := (sC μ (3 * j + a))) b rfl (show b < sz μ j by omega) (cv_z (hI.2 j (by omega) a (by omega)) hk_j) dX0_change_2_120 (fun H locs hM hS => ?_)
    refine lv_goto (tgt := 130) hx hb dX0_change_2_121 (by decide) ?_
    exact sy_vret hC hr hlk hM hS rfl (Nat.le_of_ble_eq_true rfl) (Nat.le_of_ble_eq_true rfl) dX0_change_2_130
  · refine lv_aload_n hx hb dX0_change_2_0 rfl (lv_at hl 0 rfl) ?_
    refine w_inst hC hX (k := 4) (f := 0) (by decide) (by decide) (sy_thRk hC.2.2.2.2 hM hj hn hk_j (by omega)) q100 rfl (b := false) rfl dX0_change_2_1 ?_
    refine b_ifeq (w := false) (tgt := 31) hx hb dX0_change_2_4 (by decide) (fun _ => ?_) (fun h => absurd (h.symm.trans rfl) (by decide))
    refine lv_aload_n hx hb dX0_change_2_31 rfl (lv_at hl 0 rfl) ?_
    refine w_inst hC hX (k := 4) (f := 1) (by decide) (by decide) (sy_thRk hC.2.2.2.2 hM hj hn hk_j (by omega)) q252 rfl (b := false) rfl dX0_change_2_32 ?_
    refine b_ifeq (w := false) (tgt := 62) hx hb dX0_change_2_35 (by decide) (fun _ => ?_) (fun h => absurd (h.symm.trans rfl) (by decide))
    refine lv_aload_n hx hb dX0_change_2_62 rfl (lv_at hl 0 rfl) ?_
    refine w_inst hC hX (k := 4) (f := 2) (by decide) (by decide) (sy_thRk hC.2.2.2.2 hM hj hn hk_j (by omega)) q253 rfl (b := false) rfl dX0_change_2_63 ?_
    refine b_ifeq (w := false) (tgt := 93) hx hb dX0_change_2_66 (by decide) (fun _ => ?_) (fun h => absurd (h.symm.trans rfl) (by decide))
    refine lv_aload_n hx hb dX0_change_2_93 rfl (lv_at hl 0 rfl) ?_
    refine w_inst hC hX (k := 4) (f := 3) (by decide) (by decide) (sy_thRk hC.2.2.2.2 hM hj hn hk_j (by omega)) q255 rfl (b := false) rfl dX0_change_2_94 ?_
    refine b_ifeq (w := false) (tgt := 124) hx hb dX0_change_2_97 (by decide) (fun _ => ?_) (fun h => absurd (h.symm.trans rfl) (by decide))
    refine lv_aload_n hx hb dX0_change_2_124 rfl (lv_at hl 0 rfl) ?_
    refine lv_iload_n hx hb dX0_change_2_125 rfl (lv_at hl 1 rfl) ?_
    refine lv_iload_n hx hb dX0_change_2_126 rfl (lv_at hl 2 rfl) ?_
    refine w_YS (As := [.ref (β (64 + j)), .int (nI a), .int (nI b)]) hC hX hZ hM hS hml hl.1 (k_X0_exchange l hst D tc x mo β μ hI j hj (by rw [hk_j]; rfl) a b (by omega) (by omega)) q408 q409 q23 q410 rfl ⟨by decide, by decide, rfl⟩ (Nat.le_of_ble_eq_true rfl) (Nat.le_of_ble_eq_true rfl) ⟨(Nat.le_of_ble_eq_true rfl), (Nat.le_of_ble_eq_true rfl)⟩ rfl (Nat.le_of_ble_eq_true rfl) dX0_change_2_127 (fun H locs hM hS => ?_)
    exact sy_vret hC hr hlk hM hS rfl (Nat.le_of_ble_eq_true rfl) (Nat.le_of_ble_eq_true rfl) dX0_change_2_130
  · refine lv_aload_n hx hb dX0_change_2_0 rfl (lv_at hl 0 rfl) ?_
    refine w_inst hC hX (k := 8) (f := 0) (by decide) (by decide) (sy_thRk hC.2.2.2.2 hM hj hn hk_j (by omega)) q100 rfl (b := false) rfl dX0_change_2_1 ?_
    refine b_ifeq (w := false) (tgt := 31) hx hb dX0_change_2_4 (by decide) (fun _ => ?_) (fun h => absurd (h.symm.trans rfl) (by decide))
    refine lv_aload_n hx hb dX0_change_2_31 rfl (lv_at hl 0 rfl) ?_
    refine w_inst hC hX (k := 8) (f := 1) (by decide) (by decide) (sy_thRk hC.2.2.2.2 hM hj hn hk_j (by omega)) q252 rfl (b := false) rfl dX0_change_2_32 ?_
    refine b_ifeq (w := false) (tgt := 62) hx hb dX0_change_2_35 (by decide) (fun _ => ?_) (fun h => absurd (h.symm.trans rfl) (by decide))
    refine lv_aload_n hx hb dX0_change_2_62 rfl (lv_at hl 0 rfl) ?_
    refine w_inst hC hX (k := 8) (f := 2) (by decide) (by decide) (sy_thRk hC.2.2.2.2 hM hj hn hk_j (by omega)) q253 rfl (b := false) rfl dX0_change_2_63 ?_
    refine b_ifeq (w := false) (tgt := 93) hx hb dX0_change_2_66 (by decide) (fun _ => ?_) (fun h => absurd (h.symm.trans rfl) (by decide))
    refine lv_aload_n hx hb dX0_change_2_93 rfl (lv_at hl 0 rfl) ?_
    refine w_inst hC hX (k := 8) (f := 3) (by decide) (by decide) (sy_thRk hC.2.2.2.2 hM hj hn hk_j (by omega)) q255 rfl (b := false) rfl dX0_change_2_94 ?_
    refine b_ifeq (w := false) (tgt := 124) hx hb dX0_change_2_97 (by decide) (fun _ => ?_) (fun h => absurd (h.symm.trans rfl) (by decide))
    refine lv_aload_n hx hb dX0_change_2_124 rfl (lv_at hl 0 rfl) ?_
    refine lv_iload_n hx hb dX0_change_2_125 rfl (lv_at hl 1 rfl) ?_
    refine lv_iload_n hx hb dX0_change_2_126 rfl (lv_at hl 2 rfl) ?_
    refine w_YS (As := [.ref (β (64 + j)), .int (nI a), .int (nI b)]) hC hX hZ hM hS hml hl.1 (k_X0_exchange l hst D tc x mo β μ hI j hj (by rw [hk_j]; rfl) a b (by omega) (by omega)) q408 q409 q23 q410 rfl ⟨by decide, by decide, rfl⟩ (Nat.le_of_ble_eq_true rfl) (Nat.le_of_ble_eq_true rfl) ⟨(Nat.le_of_ble_eq_true rfl), (Nat.le_of_ble_eq_true rfl)⟩ rfl (Nat.le_of_ble_eq_true rfl) dX0_change_2_127 (fun H locs hM hS => ?_)
    exact sy_vret hC hr hlk hM hS rfl (Nat.le_of_ble_eq_true rfl) (Nat.le_of_ble_eq_true rfl) dX0_change_2_130
  · refine lv_aload_n hx hb dX0_change_2_0 rfl (lv_at hl 0 rfl) ?_
    refine w_inst hC hX (k := 9) (f := 0) (by decide) (by decide) (sy_thRk hC.2.2.2.2 hM hj hn hk_j (by omega)) q100 rfl (b := false) rfl dX0_change_2_1 ?_
    refine b_ifeq (w := false) (tgt := 31) hx hb dX0_change_2_4 (by decide) (fun _ => ?_) (fun h => absurd (h.symm.trans rfl) (by decide))
    refine lv_aload_n hx hb dX0_change_2_31 rfl (lv_at hl 0 rfl) ?_
    refine w_inst hC hX (k := 9) (f := 1) (by decide) (by decide) (sy_thRk hC.2.2.2.2 hM hj hn hk_j (by omega)) q252 rfl (b := false) rfl dX0_change_2_32 ?_
    refine b_ifeq (w := false) (tgt := 62) hx hb dX0_change_2_35 (by decide) (fun _ => ?_) (fun h => absurd (h.symm.trans rfl) (by decide))
    refine lv_aload_n hx hb dX0_change_2_62 rfl (lv_at hl 0 rfl) ?_
    refine w_inst hC hX (k := 9) (f := 2) (by decide) (by decide) (sy_thRk hC.2.2.2.2 hM hj hn hk_j (by omega)) q253 rfl (b := false) rfl dX0_change_2_63 ?_
    refine b_ifeq (w := false) (tgt := 93) hx hb dX0_change_2_66 (by decide) (fun _ => ?_) (fun h => absurd (h.symm.trans rfl) (by decide))
    refine lv_aload_n hx hb dX0_change_2_93 rfl (lv_at hl 0 rfl) ?_
    refine w_inst hC hX (k := 9) (f := 3) (by decide) (by decide) (sy_thRk hC.2.2.2.2 hM hj hn hk_j (by omega)) q255 rfl (b := false) rfl dX0_change_2_94 ?_
    refine b_ifeq (w := false) (tgt := 124) hx hb dX0_change_2_97 (by decide) (fun _ => ?_) (fun h => absurd (h.symm.trans rfl) (by decide))
    refine lv_aload_n hx hb dX0_change_2_124 rfl (lv_at hl 0 rfl) ?_
    refine lv_iload_n hx hb dX0_change_2_125 rfl (lv_at hl 1 rfl) ?_
    refine lv_iload_n hx hb dX0_change_2_126 rfl (lv_at hl 2 rfl) ?_
    refine w_YS (As := [.ref (β (64 + j)), .int (nI a), .int (nI b)]) hC hX hZ hM hS hml hl.1 (k_X0_exchange l hst D tc x mo β μ hI j hj (by rw [hk_j]; rfl) a b (by omega) (by omega)) q408 q409 q23 q410 rfl ⟨by decide, by decide, rfl⟩ (Nat.le_of_ble_eq_true rfl) (Nat.le_of_ble_eq_true rfl) ⟨(Nat.le_of_ble_eq_true rfl), (Nat.le_of_ble_eq_true rfl)⟩ rfl (Nat.le_of_ble_eq_true rfl) dX0_change_2_127 (fun H locs hM hS => ?_)
    exact sy_vret hC hr hlk hM hS rfl (Nat.le_of_ble_eq_true rfl) (Nat.le_of_ble_eq_true rfl) dX0_change_2_130
  · refine lv_aload_n hx hb dX0_change_2_0 rfl (lv_at hl 0 rfl) ?_
    refine w_inst hC hX (k := 10) (f := 0) (by decide) (by decide) (sy_thRk hC.2.2.2.2 hM hj hn hk_j (by omega)) q100 rfl (b := false) rfl dX0_change_2_1 ?_
    refine b_ifeq (w := false) (tgt := 31) hx hb dX0_change_2_4 (by decide) (fun _ => ?_) (fun h => absurd (h.symm.trans rfl) (by decide))
    refine lv_aload_n hx hb dX0_change_2_31 rfl (lv_at hl 0 rfl) ?_
    refine w_inst hC hX (k := 10) (f := 1) (by decide) (by decide) (sy_thRk hC.2.2.2.2 hM hj hn hk_j (by omega)) q252 rfl (b := false) rfl dX0_change_2_32 ?_
    refine b_ifeq (w := false) (tgt := 62) hx hb dX0_change_2_35 (by decide) (fun _ => ?_) (fun h => absurd (h.symm.trans rfl) (by decide))
    refine lv_aload_n hx hb dX0_change_2_62 rfl (lv_at hl 0 rfl) ?_
    refine w_inst hC hX (k := 10) (f := 2) (by decide) (by decide) (sy_thRk hC.2.2.2.2 hM hj hn hk_j (by omega)) q253 rfl (b := false) rfl dX0_change_2_63 ?_
    refine b_ifeq (w := false) (tgt := 93) hx hb dX0_change_2_66 (by decide) (fun _ => ?_) (fun h => absurd (h.symm.trans rfl) (by decide))
    refine lv_aload_n hx hb dX0_change_2_93 rfl (lv_at hl 0 rfl) ?_
    refine w_inst hC hX (k := 10) (f := 3) (by decide) (by decide) (sy_thRk hC.2.2.2.2 hM hj hn hk_j (by omega)) q255 rfl (b := false) rfl dX0_change_2_94 ?_
    refine b_ifeq (w := false) (tgt := 124) hx hb dX0_change_2_97 (by decide) (fun _ => ?_) (fun h => absurd (h.symm.trans rfl) (by decide))
    refine lv_aload_n hx hb dX0_change_2_124 rfl (lv_at hl 0 rfl) ?_
    refine lv_iload_n hx hb dX0_change_2_125 rfl (lv_at hl 1 rfl) ?_
    refine lv_iload_n hx hb dX0_change_2_126 rfl (lv_at hl 2 rfl) ?_
    refine w_YS (As := [.ref (β (64 + j)), .int (nI a), .int (nI b)]) hC hX hZ hM hS hml hl.1 (k_X0_exchange l hst D tc x mo β μ hI j hj (by rw [hk_j]; rfl) a b (by omega) (by omega)) q408 q409 q23 q410 rfl ⟨by decide, by decide, rfl⟩ (Nat.le_of_ble_eq_true rfl) (Nat.le_of_ble_eq_true rfl) ⟨(Nat.le_of_ble_eq_true rfl), (Nat.le_of_ble_eq_true rfl)⟩ rfl (Nat.le_of_ble_eq_true rfl) dX0_change_2_127 (fun H locs hM hS => ?_)
    exact sy_vret hC hr hlk hM hS rfl (Nat.le_of_ble_eq_true rfl) (Nat.le_of_ble_eq_true rfl) dX0_change_2_130
  · refine lv_aload_n hx hb dX0_change_2_0 rfl (lv_at hl 0 rfl) ?_
    refine w_inst hC hX (k := 11) (f := 0) (by decide) (by decide) (sy_thRk hC.2.2.2.2 hM hj hn hk_j (by omega)) q100 rfl (b := false) rfl dX0_change_2_1 ?_
    refine b_ifeq (w := false) (tgt := 31) hx hb dX0_change_2_4 (by decide) (fun _ => ?_) (fun h => absurd (h.symm.trans rfl) (by decide))
    refine lv_aload_n hx hb dX0_change_2_31 rfl (lv_at hl 0 rfl) ?_
    refine w_inst hC hX (k := 11) (f := 1) (by decide) (by decide) (sy_thRk hC.2.2.2.2 hM hj hn hk_j (by omega)) q252 rfl (b := false) rfl dX0_change_2_32 ?_
    refine b_ifeq (w := false) (tgt := 62) hx hb dX0_change_2_35 (by decide) (fun _ => ?_) (fun h => absurd (h.symm.trans rfl) (by decide))
    refine lv_aload_n hx hb dX0_change_2_62 rfl (lv_at hl 0 rfl) ?_
    refine w_inst hC hX (k := 11) (f := 2) (by decide) (by decide) (sy_thRk hC.2.2.2.2 hM hj hn hk_j (by omega)) q253 rfl (b := false) rfl dX0_change_2_63 ?_
    refine b_ifeq (w := false) (tgt := 93) hx hb dX0_change_2_66 (by decide) (fun _ => ?_) (fun h => absurd (h.symm.trans rfl) (by decide))
    refine lv_aload_n hx hb dX0_change_2_93 rfl (lv_at hl 0 rfl) ?_
    refine w_inst hC hX (k := 11) (f := 3) (by decide) (by decide) (sy_thRk hC.2.2.2.2 hM hj hn hk_j (by omega)) q255 rfl (b := false) rfl dX0_change_2_94 ?_
    refine b_ifeq (w := false) (tgt := 124) hx hb dX0_change_2_97 (by decide) (fun _ => ?_) (fun h => absurd (h.symm.trans rfl) (by decide))
    refine lv_aload_n hx hb dX0_change_2_124 rfl (lv_at hl 0 rfl) ?_
    refine lv_iload_n hx hb dX0_change_2_125 rfl (lv_at hl 1 rfl) ?_
    refine lv_iload_n hx hb dX0_change_2_126 rfl (lv_at hl 2 rfl) ?_
    refine w_YS (As := [.ref (β (64 + j)), .int (nI a), .int (nI b)]) hC hX hZ hM hS hml hl.1 (k_X0_exchange l hst D tc x mo β μ hI j hj (by rw [hk_j]; rfl) a b (by omega) (by omega)) q408 q409 q23 q410 rfl ⟨by decide, by decide, rfl⟩ (Nat.le_of_ble_eq_true rfl) (Nat.le_of_ble_eq_true rfl) ⟨(Nat.le_of_ble_eq_true rfl), (Nat.le_of_ble_eq_true rfl)⟩ rfl (Nat.le_of_ble_eq_true rfl) dX0_change_2_127 (fun H locs hM hS => ?_)
    exact sy_vret hC hr hlk hM hS rfl (Nat.le_of_ble_eq_true rfl) (Nat.le_of_ble_eq_true rfl) dX0_change_2_130
  · refine lv_aload_n hx hb dX0_change_2_0 rfl (lv_at hl 0 rfl) ?_
    refine w_inst hC hX (k := 12) (f := 0) (by decide) (by decide) (sy_thRk hC.2.2.2.2 hM hj hn hk_j (by omega)) q100 rfl (b := false) rfl dX0_change_2_1 ?_
    refine b_ifeq (w := false) (tgt := 31) hx hb dX0_change_2_4 (by decide) (fun _ => ?_) (fun h => absurd (h.symm.trans rfl) (by decide))
    refine lv_aload_n hx hb dX0_change_2_31 rfl (lv_at hl 0 rfl) ?_
    refine w_inst hC hX (k := 12) (f := 1) (by decide) (by decide) (sy_thRk hC.2.2.2.2 hM hj hn hk_j (by omega)) q252 rfl (b := false) rfl dX0_change_2_32 ?_
    refine b_ifeq (w := false) (tgt := 62) hx hb dX0_change_2_35 (by decide) (fun _ => ?_) (fun h => absurd (h.symm.trans rfl) (by decide))
    refine lv_aload_n hx hb dX0_change_2_62 rfl (lv_at hl 0 rfl) ?_
    refine w_inst hC hX (k := 12) (f := 2) (by decide) (by decide) (sy_thRk hC.2.2.2.2 hM hj hn hk_j (by omega)) q253 rfl (b := false) rfl dX0_change_2_63 ?_
    refine b_ifeq (w := false) (tgt := 93) hx hb dX0_change_2_66 (by decide) (fun _ => ?_) (fun h => absurd (h.symm.trans rfl) (by decide))
    refine lv_aload_n hx hb dX0_change_2_93 rfl (lv_at hl 0 rfl) ?_
    refine w_inst hC hX (k := 12) (f := 3) (by decide) (by decide) (sy_thRk hC.2.2.2.2 hM hj hn hk_j (by omega)) q255 rfl (b := false) rfl dX0_change_2_94 ?_
    refine b_ifeq (w := false) (tgt := 124) hx hb dX0_change_2_97 (by decide) (fun _ => ?_) (fun h => absurd (h.symm.trans rfl) (by decide))
    refine lv_aload_n hx hb dX0_change_2_124 rfl (lv_at hl 0 rfl) ?_
    refine lv_iload_n hx hb dX0_change_2_125 rfl (lv_at hl 1 rfl) ?_
    refine lv_iload_n hx hb dX0_change_2_126 rfl (lv_at hl 2 rfl) ?_
    refine w_YS (As := [.ref (β (64 + j)), .int (nI a), .int (nI b)]) hC hX hZ hM hS hml hl.1 (k_X0_exchange l hst D tc x mo β μ hI j hj (by rw [hk_j]; rfl) a b (by omega) (by omega)) q408 q409 q23 q410 rfl ⟨by decide, by decide, rfl⟩ (Nat.le_of_ble_eq_true rfl) (Nat.le_of_ble_eq_true rfl) ⟨(Nat.le_of_ble_eq_true rfl), (Nat.le_of_ble_eq_true rfl)⟩ rfl (Nat.le_of_ble_eq_true rfl) dX0_change_2_127 (fun H locs hM hS => ?_)
    exact sy_vret hC hr hlk hM hS rfl (Nat.le_of_ble_eq_true rfl) (Nat.le_of_ble_eq_true rfl) dX0_change_2_130

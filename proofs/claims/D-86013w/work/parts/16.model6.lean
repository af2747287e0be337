/-! THE MODEL: hand -/
set_option maxRecDepth 100000
set_option maxHeartbeats 4000000
def p_clrL : Nat → Nat → MS → MS
  | 0, _, μ => μ
  | n + 1, i, μ => p_clrL n (i + 1) (setA μ 12 i 0)
def p_hand0 (μ : MS) : MS := p_clrL 32 0 (setS (setS μ 1 0) 8 0)
def p_hand (μ : MS) (t r : Int32) : MS × Int32 :=
  if (isItem μ t && isIn r 0 7) = true then
    (setS (thr (8 - r.toNatClampNeg) r.toNatClampNeg (p_hand0 μ) t.toNatClampNeg).1 6 (plI (thr (8 - r.toNatClampNeg) r.toNatClampNeg (p_hand0 μ) t.toNatClampNeg).2), sS (thr (8 - r.toNatClampNeg) r.toNatClampNeg (p_hand0 μ) t.toNatClampNeg).1 8)
  else (p_no (setS μ 1 0) (-2), -2)
theorem p_hand_bad {μ : MS} {t r : Int32} (h : (isItem μ t && isIn r 0 7) = false) : p_hand μ t r = (p_no (setS μ 1 0) (-2), -2) := by
  unfold p_hand
  rw [h, if_neg (by decide)]
theorem p_hand_ok {μ : MS} {t r : Nat} (ht : t < 2147483648) (hr : r < 2147483648) (h : (isItem μ (nI t) && isIn (nI r) 0 7) = true) : p_hand μ (nI t) (nI r) = (setS (thr (8 - r) r (p_hand0 μ) t).1 6 (plI (thr (8 - r) r (p_hand0 μ) t).2), sS (thr (8 - r) r (p_hand0 μ) t).1 8) := by
  unfold p_hand
  rw [h, if_pos rfl, cl_nI ht, cl_nI hr]
theorem clrL_SR : ∀ (n i : Nat) (μ : MS), SR μ (p_clrL n i μ)
  | 0, _, _ => SR.rf
  | n + 1, i, μ => SR.tr (⟨rfl, rfl, rfl, rfl, rfl, rfl, rfl⟩ : SR μ (setA μ 12 i 0)) (clrL_SR n (i + 1) _)
theorem clrL_C : ∀ (n i : Nat) (μ : MS), sC (p_clrL n i μ) = sC μ
  | 0, _, _ => rfl
  | n + 1, i, μ => clrL_C n (i + 1) (setA μ 12 i 0)
theorem clrL_S : ∀ (n i : Nat) (μ : MS) (k : Nat), sS (p_clrL n i μ) k = sS μ k
  | 0, _, _, _ => rfl
  | n + 1, i, μ, k => clrL_S n (i + 1) (setA μ 12 i 0) k
theorem clrL_A : ∀ (n i : Nat) (μ : MS) (a : Nat), a ≠ 12 → sA (p_clrL n i μ) a = sA μ a
  | 0, _, _, _, _ => rfl
  | n + 1, i, μ, a, h => by
    rw [p_clrL, clrL_A n (i + 1) _ a h]
    funext x
    rw [sA_setA, if_neg (fun q => h q.1)]
theorem clrL_12 : ∀ (n i : Nat) (μ : MS) (x : Nat), sA (p_clrL n i μ) 12 x = if i ≤ x ∧ x < i + n then 0 else sA μ 12 x
  | 0, i, μ, x => by rw [if_neg (by omega)]; rfl
  | n + 1, i, μ, x => by
    rw [p_clrL, clrL_12 n (i + 1) _ x, sA_setA]
    by_cases h1 : x = i
    · rw [h1, if_neg (by omega), if_pos ⟨rfl, rfl⟩, if_pos (by omega)]
    · by_cases h2 : i + 1 ≤ x ∧ x < i + 1 + n
      · rw [if_pos h2, if_pos (by omega)]
      · rw [if_neg h2, if_neg (fun q => h1 q.2), if_neg (by omega)]
theorem hand0_SR (μ : MS) : SR μ (p_hand0 μ) := SR.tr (⟨rfl, rfl, rfl, rfl, rfl, rfl, rfl⟩ : SR μ (setS (setS μ 1 0) 8 0)) (clrL_SR _ _ _)
theorem hand0_IX {μ : MS} (h : IX μ) : IX (p_hand0 μ) := by
  refine ⟨IV_sr (hand0_SR μ) (clrL_C _ _ _) h.1, HV_sr (hand0_SR μ) ?_ ?_ ?_ h.2⟩
  · exact clrL_A _ _ _ _ (by decide)
  · exact clrL_A _ _ _ _ (by decide)
  · exact clrL_S _ _ _ _
theorem mg_self (μ : MS) : mg μ μ = μ := by
  refine ms_ext (fun k => ?_) (fun a i => ?_) (fun _ => rfl)
  · by_cases h : k = 7
    · rw [h]; rfl
    · rw [mg_S h]
  · by_cases h : a < 13
    · rw [mg_A h]
    · rw [mg_AT h]
/-- a contract whose end is one of several states -/
def mQX (D : va_G) (tc : Nat → ClassId) (mo : Nat) (Φ : MS → Prop) (ret : Option Value) : Array Value → State → Outcome → State → Prop := fun _ st o t => o = .returned ret ∧ (∃ ν, Φ ν ∧ Mod D tc mo ν t.heap) ∧ va_F (md_A mo) st t
def MCX (l : Launch) (y : MethodName) (cc : ByteArray) (maxL : Nat) (rt : Option FieldType) (f loc : Nat) (D : va_G) (tc : Nat → ClassId) (mo : Nat) (av : List Value) (μ : MS) (Φ : MS → Prop) (ret : Option Value) : Prop :=
  Met l y (ws_ y cc maxL rt) { frames := f, cells := 0, slots := 0, locals := loc } (va_Pc (.ref mo :: av) (fun U => gK D tc U ∧ Mod D tc mo μ U.heap)) (mQX D tc mo Φ ret) 0 0 (md_A mo)
theorem MCX.of {l : Launch} {y : MethodName} {cc : ByteArray} {maxL : Nat} {rt : Option FieldType} {f loc : Nat} {D : va_G} {tc : Nat → ClassId} {mo : Nat} {av : List Value} {μ : MS} {Φ : MS → Prop} {ret : Option Value} (hy : plainName y.cls = true) (hyc : y.cls = RX1) (hn : (lg_sl (.ref mo :: av)).length ≤ maxL)
    (body : ∀ (p : Program) (e : Env) (s : State) (m : MethodId) (below : List Frame) (meth : Method) (c : Code), gC p s m (Value.ref mo :: av).toArray c cc RX1 D tc → meth.sig.returnType = rt → meth.locks = false → c.maxLocals = maxL → Mod D tc mo μ s.heap → va_S (md_A mo) s.heap s.heap [] → ∀ ls : Array Slot, lv_has ls maxL (lv_args 0 (.ref mo :: av)) →
      W p l e ({ frames := f, cells := 0, slots := 0, locals := loc } : Room) s m (Value.ref mo :: av).toArray below meth c s.heap [] 0 0 (MQ below (mQX D tc mo Φ ret) (Value.ref mo :: av).toArray s 0 0 (md_A mo)) (F0 m 0 ls [])) : MCX l y cc maxL rt f loc D tc mo av μ Φ ret := by
  refine Met.ofW (cc := cc) (maxL := maxL) (ret := rt) hy rfl ?_
  intro p e s m args below meth c s₁ B hml hv
  obtain ⟨rfl, hG, hM⟩ := hv
  have hts := atoms_spec (ws := ws_ y cc maxL rt) B.pre
  have hown : s.vm.findClass RX1 = some m.cls := hyc ▸ findClass_of_methodNamed B.named
  exact e_start (P := fun g => W p l e (headSpec (ws_ y cc maxL rt) { frames := f, cells := 0, slots := 0, locals := loc }).room s m (Value.ref mo :: av).toArray below meth c s.heap [] 0 0 (MQ below (mQX D tc mo Φ ret) (Value.ref mo :: av).toArray s 0 0 (md_A mo)) g) hn
    (fun ls hl => body p e s m below meth c ⟨B.exec, B.bytes, fun w h => hts w (List.mem_cons_of_mem _ h), hown, hG⟩ B.returns B.notSynchronized hml hM va_S.rf ls hl)
section M6
variable {p : Program} {l : Launch} {e : Env} {R : Room} {s : State} {m : MethodId} {args : Array Value} {below : List Frame} {meth : Method} {c : Code} {H : Heap} {locs : List Loc} {cells slots : Nat} {Q : State → Prop}
variable {cc : ByteArray} {pc : Nat} {ls : Array Slot} {rest : List Value} {D : va_G} {tc : Nat → ClassId} {mo index : Nat} {μ ν : MS} {H0 : Heap} {own : String} {A0 : Nat → Prop} {Φ : MS → Prop}
theorem md_iretX (hC : gC p s m args c cc own D tc) (hr : meth.sig.returnType = some .int) (hlk : meth.locks = false) (hM : Mod D tc mo μ H) (hS : va_S (md_A mo) s.heap H locs) {v w : Int32} (hμ : Φ μ) (hv : v = w) (hdg : decode cc pc = .ok (.ireturn, 1)) :
    W p l e R s m args below meth c H locs cells slots (MQ below (mQX D tc mo Φ (some (.int w))) args s cells slots (md_A mo)) (F0 m pc ls [.int v]) := by
  subst hv
  exact W.iret hC.1 hC.2.1 hr (fun t ht hW => ⟨rfl, ⟨μ, hμ, by rw [ht]; exact hM⟩, hS.F ht⟩) hS.2.2 hdg hlk
theorem w_MCX (hC : gC p s m args c cc own D tc) (hM : Mod D tc mo μ H) (hS : va_S A0 H0 H locs) (hA : ∀ q, md_A mo q → A0 q) {nL : Nat} (hml : c.maxLocals = nL) (hls : ls.size = nL) {y : MethodName} {yc : ByteArray} {maxL n f loc : Nat} {rt : Option FieldType} {As st0 : List Value} {ret : Option Value}
    (hMet : MCX l y yc maxL rt f loc D tc mo As μ Φ ret) (h1 : Cond.methodLink own index y ∈ lw_all) (h2 : Cond.instanceMethod y ∈ lw_all) (h3 : Cond.selects RX1 y y ∈ lw_all) (h4 : Cond.initialized RX1 ∈ lw_all) (h5 : Cond.code y yc maxL rt ∈ lw_all) (hn : As.length = n)
    (hd : y.cls = RX1 ∧ y.cls ≠ "java/lang/invoke/MethodHandle" ∧ y.cls ≠ "java/lang/invoke/VarHandle" ∧ (parseMethodDescriptor y.desc).map (fun d => d.parameters.length) = some n) (hf : f + 1 ≤ R.frames) (hlo : 8 + (maxL + 11) + loc ≤ R.locals) (hR : cells ≤ R.cells ∧ slots ≤ R.slots)
    (hst : st0 = As.reverse ++ .ref mo :: rest) (hW : (rest.map fun v => v.category).sum ≤ 8) (hdg : decode cc pc = .ok (.invokevirtual index, 3))
    (kk : ∀ (ν : MS) (H1 : Heap) (locs1 : List Loc), Φ ν → Mod D tc mo ν H1 → va_S A0 H0 H1 locs1 → H.size ≤ H1.size → (∀ q : Nat, q < H.size → ¬ md_A mo q → H1[q]? = H[q]?) → W p l e R s m args below meth c H1 locs1 cells slots Q (F0 m (pc + 3) ls (ret.toList ++ rest))) : W p l e R s m args below meth c H locs cells slots Q (F0 m pc ls st0) := by
  obtain ⟨hx, hb, hts, hown, hG⟩ := hC
  have hrecv := va_recv hG.n (va_P1 hM.1) (ci := 1) (q0 := 0) rfl rfl
  have hr := va_runV (H := H) (locs := locs) (cells := cells) (slots := slots) (below := below) (meth := meth) (e := e) (R := R) (g := F0 m pc ls st0) (b := mo) (As := As) (rest := rest) (Ts := lw_all) ⟨hx, hb, hml, hown, hts⟩ hMet (cwV n hts (lw_V h1 h2 h3 h4 h5) rfl rfl rfl hd ⟨hf, hlo⟩) ⟨fun a U g mk q => by obtain ⟨q0, q1, q2⟩ := q; exact ⟨q0, gK.moved (u := U) (U := U.calling g mk a) (Vm.Alike.refl U.vm) q1, q2⟩, hrecv, fun U hU hW => ⟨rfl, hG.moved hW.alike, by rw [hU]; exact hM⟩⟩ rfl hn hls hst (by show 2 * 0 + _ ≤ 8; omega) hdg ⟨hR.1, hR.2⟩
  intro T hT X
  obtain ⟨v', st₀, t, T', L, h0, X', hL, e1, e2, ⟨hv, ⟨ν, hΦ, hMt⟩, hF⟩, st⟩ := hr T hT X
  cases hv
  have hz : H.size ≤ T'.heap.size := by rw [e1, ← h0]; exact hF.1
  have hk : ∀ q : Nat, q < H.size → ¬ md_A mo q → T'.heap[q]? = H[q]? := fun q h1 h2 => by rw [e1, ← h0]; exact hF.2 q (by rw [h0]; exact h1) h2
  obtain ⟨t2, a1, b1⟩ := kk ν T'.heap (locs ++ L) hΦ (by rw [e1]; exact hMt) ⟨Nat.le_trans hS.1 hz, fun q h1 h2 => by rw [hk q (Nat.lt_of_lt_of_le h1 hS.1) (fun z => h2 (hA q z))]; exact hS.2.1 q h1 h2, fun q hq => by
      rcases List.mem_append.mp hq with h | h
      · exact hS.2.2 q h
      · exact hA _ (hL q h)⟩ hz hk T' rfl X'
  exact ⟨t2, st t2 a1, b1⟩
end M6
/-! HAND walk -/
theorem k_X1_hand (l : Launch) (D : va_G) (tc : Nat → ClassId) (mo : Nat) (μ : MS) (hI : IX μ) (t r : Int32) : MCX l yX1_hand cX1_hand 4 (some .int) 7 156 D tc mo [.int t, .int r] μ (fun ν => ∃ κ, ν = mg κ (p_hand μ t r).1) (some (.int (p_hand μ t r).2)) := by
  refine MCX.of (by decide) rfl (Nat.le_of_ble_eq_true rfl) ?_
  intro p e s m below meth c hC hr hlk hml hM hS ls hl
  have hx := hC.1
  have hb := hC.2.1
  have hts := hC.2.2.1
  have hown := hC.2.2.2.1
  have hl : lv_has ls 4 [(0, .ref mo), (1, .int t), (2, .int r)] := hl
  refine lv_aload_n hx hb dX1_hand_0 rfl (lv_at hl 0 rfl) ?_
  refine lv_iconst (v := 0) hx hb dX1_hand_1 (by decide) ?_
  refine md_put hC hM hS 1 (by decide) q488 dX1_hand_2 (fun H locs hM hS => ?_)
  refine lv_aload_n hx hb dX1_hand_5 rfl (lv_at hl 0 rfl) ?_
  refine lv_iload_n hx hb dX1_hand_6 rfl (lv_at hl 1 rfl) ?_
  refine w_MC (As := [.int t]) hC hM hS (fun _ h => h) hml hl.1 (k_X1_isItem l D tc mo (setS μ 1 0) t) q578 q580 qs10 q24 q581 rfl ⟨rfl, by decide, by decide, rfl⟩ (Nat.le_of_ble_eq_true rfl) (Nat.le_of_ble_eq_true rfl) ⟨Nat.zero_le _, Nat.zero_le _⟩ rfl (Nat.le_of_ble_eq_true rfl) dX1_hand_7 (fun H locs hM hS _ _ => ?_)
  refine b_ifeq (w := (isItem (setS μ 1 0) t)) (tgt := 20) hx hb dX1_hand_10 (by decide) (fun c_10 => ?_) (fun c_10 => ?_)
  · refine lv_aload_n hx hb dX1_hand_20 rfl (lv_at hl 0 rfl) ?_
    refine lv_bipush (v := (-2)) hx hb dX1_hand_21 (by decide) ?_
    refine w_MC (As := [.int (-2)]) hC hM hS (fun _ h => h) hml hl.1 (k_X1_refuse l D tc mo (setS μ 1 0) (-2)) q566 q568 qs9 q24 q569 rfl ⟨rfl, by decide, by decide, rfl⟩ (Nat.le_of_ble_eq_true rfl) (Nat.le_of_ble_eq_true rfl) ⟨Nat.zero_le _, Nat.zero_le _⟩ rfl (Nat.le_of_ble_eq_true rfl) dX1_hand_23 (fun H locs hM hS _ _ => ?_)
    exact md_iretX hC hr hlk hM hS ⟨_, by rw [(p_hand_bad (μ := μ) (by first | (rw [show isItem μ t = false from c_10]; rfl) | (rw [show isIn r 0 7 = false from c_17]; simp; done)))]; exact (mg_self _).symm⟩ (by rw [(p_hand_bad (μ := μ) (by first | (rw [show isItem μ t = false from c_10]; rfl) | (rw [show isIn r 0 7 = false from c_17]; simp; done)))]) dX1_hand_26
  · refine lv_iload_n hx hb dX1_hand_13 rfl (lv_at hl 2 rfl) ?_
    refine w_SC (As := [.int r]) hx hb hts hown hml hl.1 (k_X1_isRoom l r) q628 q629 q24 q630 rfl ⟨by decide, by decide, rfl⟩ (Nat.le_of_ble_eq_true rfl) (Nat.le_of_ble_eq_true rfl) ⟨Nat.zero_le _, Nat.zero_le _⟩ rfl (Nat.le_of_ble_eq_true rfl) dX1_hand_14 ?_
    refine b_ifne (w := (isIn r 0 7)) (tgt := 27) hx hb dX1_hand_17 (by decide) (fun c_17 => ?_) (fun c_17 => ?_)
    · obtain ⟨j, hj, hn, rfl⟩ := item_of (μ := μ) hI.1.1 c_10
      have hi_j : isItem μ (nI j) = true := isItem_of hI.1.1 hj
      obtain ⟨a, qa, rfl⟩ := isIn_nat (n := 7) (by decide) c_17
      have hall : (isItem μ (nI j) && isIn (nI a) 0 7) = true := by rw [hi_j, show isIn (nI a) 0 7 = true from c_17]; rfl
      refine lv_aload_n hx hb dX1_hand_27 rfl (lv_at hl 0 rfl) ?_
      refine lv_iconst (v := 0) hx hb dX1_hand_28 (by decide) ?_
      refine md_put hC hM hS 8 (by decide) q499 dX1_hand_29 (fun H locs hM hS => ?_)
      refine lv_iconst (v := 0) hx hb dX1_hand_32 (by decide) ?_
      refine lv_istore_n (lv' := [(3, .int 0), (0, .ref mo), (1, .int (nI j)), (2, .int (nI a))]) hx hb dX1_hand_33 rfl hl (by decide) rfl (fun ls hl => ?_)
      refine w_loop (σ := Nat × MS) (fun x H locs ls => x.1 ≤ 32 ∧ (p_clrL (32 - x.1) x.1 x.2 = p_hand0 μ) ∧ Mod D tc mo x.2 H ∧ va_S (md_A mo) s.heap H locs ∧ lv_has ls 4 [(3, .int (nI x.1)), (0, .ref mo), (1, .int (nI j)), (2, .int (nI a))]) (fun x => 32 - x.1) ?_ (0, (setS (setS μ 1 0) 8 0)) ⟨Nat.zero_le _, rfl, hM, hS, lv_sub hl [0, 1, 2, 3] rfl⟩
      intro x H locs ls hI ih
      obtain ⟨i, ν⟩ := x
      obtain ⟨hi, hp, hM, hS, hl⟩ := hI
      have hi : i ≤ 32 := hi
      have hp : p_clrL (32 - i) i ν = p_hand0 μ := hp
      have hM : Mod D tc mo ν H := hM
      have hl : lv_has ls 4 [(3, .int (nI i)), (0, .ref mo), (1, .int (nI j)), (2, .int (nI a))] := hl
      refine lv_iload_n hx hb dX1_hand_34 rfl (lv_at hl 0 rfl) ?_
      refine lv_bipush (v := 32) hx hb dX1_hand_35 (by decide) ?_
      refine n_icmp_ge (a := i) (b := 32) (tgt := 53) hx hb dX1_hand_37 (by decide) (by omega) (by omega) (fun c_37 => ?_) (fun c_37 => ?_)
      · have e0 : ν = p_hand0 μ := by rw [show 32 - i = 0 by omega] at hp; exact hp
        subst e0
        have hIX := hand0_IX hI
        have hsr := hand0_SR μ
        refine lv_aload_n hx hb dX1_hand_53 rfl (lv_at hl 1 rfl) ?_
        refine lv_iconst (v := 0) hx hb dX1_hand_54 (by decide) ?_
        refine md_put hC hM hS 7 (by decide) q498 dX1_hand_55 (fun H locs hM hS => ?_)
        refine lv_aload_n hx hb dX1_hand_58 rfl (lv_at hl 1 rfl) ?_
        refine lv_iload_n hx hb dX1_hand_59 rfl (lv_at hl 2 rfl) ?_
        refine lv_iload_n hx hb dX1_hand_60 rfl (lv_at hl 3 rfl) ?_
        refine w_MC (As := [.int (nI j), .int (nI a)]) hC hM hS (fun _ h => h) hml hl.1 (k_X1_begin l D tc mo (setS (p_hand0 μ) 7 0) 0 (nI j) (nI a) (by omega) rfl) q643 q645 qs13 q24 q646 rfl ⟨rfl, by decide, by decide, rfl⟩ (Nat.le_of_ble_eq_true rfl) (Nat.le_of_ble_eq_true rfl) ⟨Nat.zero_le _, Nat.zero_le _⟩ rfl (Nat.le_of_ble_eq_true rfl) dX1_hand_61 (fun H locs hM hS _ _ => ?_)
        have hV0 : VFs (p_hand0 μ) ((j, a, 0, none) :: []) := ⟨⟨Nat.zero_le _, by show a < 8; omega, by rw [SR_nn hsr]; exact hj, Nat.zero_le _, fun _ q => by cases q⟩, trivial⟩
        obtain ⟨⟨n0, hrun0⟩, hend⟩ := thr_run (8 - a) a (by omega) j (p_hand0 μ) [] hIX (by omega) hV0
        have hsim0 : Sim (p_begin (setS (p_hand0 μ) 7 0) 0 (nI j) (nI a)) (p_hand0 μ) ((j, a, 0, none) :: []) := by
          have := sim_begin (κ := setS (p_hand0 μ) 7 0) (ν := p_hand0 μ) (fs := []) (t := j) (r := a) trivial
          rw [← mg_setS7, mg_self] at this
          exact this
        generalize (p_begin (setS (p_hand0 μ) 7 0) 0 (nI j) (nI a)) = μr at hM hsim0
        refine w_loop (σ := Nat × MS × MS × List Fr) (fun x H locs ls => aRun x.1 x.2.2.1 x.2.2.2 (aEnd (thr (8 - a) a (p_hand0 μ) j).1 [] (thr (8 - a) a (p_hand0 μ) j).2) [] ∧ Sim x.2.1 x.2.2.1 x.2.2.2 ∧ IX x.2.2.1 ∧ VFs x.2.2.1 x.2.2.2 ∧ Mod D tc mo x.2.1 H ∧ va_S (md_A mo) s.heap H locs ∧ lv_has ls 4 [(0, .ref mo)]) (fun x => x.1) ?_ (n0, μr, p_hand0 μ, (j, a, 0, none) :: []) ⟨hrun0, hsim0, hIX, hV0, hM, hS, lv_sub hl [1] rfl⟩
        intro x H locs ls hL ih
        obtain ⟨n, μr, ν, fs⟩ := x
        obtain ⟨hrun, ⟨κ, eκ, hT⟩, hIX, hVF, hM, hS, hl⟩ := hL
        dsimp only at hrun eκ hT hIX hVF hM hl ih
        subst eκ
        have hlen : fs.length < 100 := by cases fs with | nil => exact Nat.zero_lt_succ _ | cons f gs => have h1 := hVF.1.1; have h2 := hVF.1.2.1; simp; omega
        refine lv_aload_n hx hb dX1_hand_64 rfl (lv_at hl 0 rfl) ?_
        refine md_get (v := .int (sS (mg κ ν) 7)) hC hM 25 (by decide) rfl q498 rfl dX1_hand_65 ?_
        refine w_top (congrArg Value.int (show sS (mg κ ν) 7 = nI fs.length from hT.1)) ?_
        refine n_if_le (a := fs.length) (tgt := 137) hx hb dX1_hand_68 (by decide) (by omega) (fun c_68 => ?_) (fun c_68 => ?_)
        · have e1 : fs = [] := List.length_eq_zero_iff.mp c_68
          subst e1
          have e2 : ν = aEnd (thr (8 - a) a (p_hand0 μ) j).1 [] (thr (8 - a) a (p_hand0 μ) j).2 := by cases n with | zero => exact hrun.1 | succ n => exact absurd rfl hrun.1
          generalize hκν : mg κ ν = κν at hM
          refine lv_aload_n hx hb dX1_hand_137 rfl (lv_at hl 0 rfl) ?_
          refine md_get (v := .int (sS (κν) 8)) hC hM 26 (by decide) rfl q499 rfl dX1_hand_138 ?_
          exact md_iretX hC hr hlk hM hS ⟨κ, by rw [p_hand_ok (μ := μ) (by omega) (by omega) hall, ← hκν, e2]; rfl⟩ (by rw [p_hand_ok (μ := μ) (by omega) (by omega) hall]; show sS κν 8 = _; rw [← hκν, e2]; rfl) dX1_hand_141
        · obtain ⟨⟨t1, r1, k1, o1⟩, gs, rfl⟩ : ∃ f gs, fs = f :: gs := by cases fs with | nil => exact absurd c_68 (by decide) | cons f gs => exact ⟨f, gs, rfl⟩
          obtain ⟨n, rfl⟩ : ∃ n9, n = n9 + 1 := by cases n with | zero => exact absurd hrun.2 (by simp) | succ n => exact ⟨n, rfl⟩
          have hok := aStep_ok hIX hVF
          have hlen : gs.length + 1 < 100 := hlen
          have hd : sS (mg κ ν) 7 = nI (gs.length + 1) := hT.1
          obtain ⟨v1, v2, v3, v4, v5⟩ := hVF.1
          dsimp only at v1 v2 v3 v4 v5
          have hn60 := hIX.1.1.1.2
          have hdk4 := (hIX.1.1.2.2.1 r1 v2).2
          obtain ⟨⟨a13, a14, a15, a16⟩, hFR⟩ := hT.2
          dsimp only at a13 a14 a15 a16
          cases o1 with
          | none =>
            refine lv_aload_n hx hb dX1_hand_71 rfl (lv_at hl 0 rfl) ?_
            refine md_get (v := .int (sS (mg κ ν) 7)) hC hM 25 (by decide) rfl q498 rfl dX1_hand_72 ?_
            refine w_top (congrArg Value.int (show sS (mg κ ν) 7 = nI (gs.length + 1) from hT.1)) ?_
            refine lv_iconst (v := 1) hx hb dX1_hand_75 (by decide) ?_
            refine lv_isub hx hb dX1_hand_76 ?_
            refine w_top (congrArg Value.int (pk_sub (a := (gs.length + 1)) (b := 1) (by omega))) ?_
            refine w_top (y := .int (nI gs.length)) rfl ?_
            refine lv_istore_n (lv' := [(3, .int (nI gs.length)), (0, .ref mo)]) hx hb dX1_hand_77 rfl hl (by decide) rfl (fun ls hl => ?_)
            refine lv_aload_n hx hb dX1_hand_78 rfl (lv_at hl 1 rfl) ?_
            refine md_get (v := .ref (mo + 18)) hC hM 24 (by decide) rfl q497 rfl dX1_hand_79 ?_
            refine lv_iload_n hx hb dX1_hand_82 rfl (lv_at hl 0 rfl) ?_
            refine md_ald (v := (-1)) hC hM 16 (N := 9) rfl (by decide) rfl rfl gs.length rfl (by omega) a16 dX1_hand_83 ?_
            refine lv_iconst (v := (-1)) hx hb dX1_hand_84 (by decide) ?_
            refine lv_icmp_eq (tgt := 96) hx hb dX1_hand_85 (by decide) (fun _ => ?_) (fun h => absurd h (by decide))
            refine lv_aload_n hx hb dX1_hand_96 rfl (lv_at hl 1 rfl) ?_
            refine md_get (v := .ref (mo + 17)) hC hM 23 (by decide) rfl q496 rfl dX1_hand_97 ?_
            refine lv_iload_n hx hb dX1_hand_100 rfl (lv_at hl 0 rfl) ?_
            refine md_ald (v := (nI k1)) hC hM 15 (N := 9) rfl (by decide) rfl rfl gs.length rfl (by omega) a15 dX1_hand_101 ?_
            refine lv_aload_n hx hb dX1_hand_102 rfl (lv_at hl 1 rfl) ?_
            refine md_get (v := .ref (mo + 5)) hC hM 5 (by decide) rfl q478 rfl dX1_hand_103 ?_
            refine lv_aload_n hx hb dX1_hand_106 rfl (lv_at hl 1 rfl) ?_
            refine md_get (v := .ref (mo + 16)) hC hM 22 (by decide) rfl q495 rfl dX1_hand_107 ?_
            refine lv_iload_n hx hb dX1_hand_110 rfl (lv_at hl 0 rfl) ?_
            refine md_ald (v := (nI r1)) hC hM 14 (N := 9) rfl (by decide) rfl rfl gs.length rfl (by omega) a14 dX1_hand_111 ?_
            refine md_ald (v := (nI (dk ν r1))) hC hM 3 (N := 8) rfl (by decide) rfl rfl r1 rfl (by omega) ((hIX.1.1.2.2.1 r1 v2).1) dX1_hand_112 ?_
            refine n_icmp_ne (a := k1) (b := (dk ν r1)) (tgt := 129) hx hb dX1_hand_113 (by decide) (by omega) (by omega) (fun c_113 => ?_) (fun c_113 => ?_)
            · refine lv_aload_n hx hb dX1_hand_129 rfl (lv_at hl 1 rfl) ?_
              refine lv_iload_n hx hb dX1_hand_130 rfl (lv_at hl 0 rfl) ?_
              refine w_MC (As := [.int (nI gs.length)]) hC hM hS (fun _ h => h) hml hl.1 (k_X1_comes l D tc mo (mg κ ν) gs.length t1 r1 k1 (mg_IX hIX).1 (by omega) (by omega) v2 (by omega) hd a13 a14 a15) q655 q657 qs16 q24 q658 rfl ⟨rfl, by decide, by decide, rfl⟩ (Nat.le_of_ble_eq_true rfl) (Nat.le_of_ble_eq_true rfl) ⟨Nat.zero_le _, Nat.zero_le _⟩ rfl (Nat.le_of_ble_eq_true rfl) dX1_hand_131 (fun H locs hM hS _ _ => ?_)
              refine lv_goto (tgt := 64) hx hb dX1_hand_134 (by decide) ?_
              exact ih (n, (p_comes (mg κ ν) gs.length (4 * r1 + k1) t1 r1), _, _) H locs ls ⟨hrun.2, sim_comes hIX hVF c_113 hT, hok.1, hok.2.2, hM, hS, lv_sub hl [1] rfl⟩ (by show n < n + 1; omega)
            · refine lv_aload_n hx hb dX1_hand_116 rfl (lv_at hl 1 rfl) ?_
              refine lv_aload_n hx hb dX1_hand_117 rfl (lv_at hl 1 rfl) ?_
              refine md_get (v := .ref (mo + 15)) hC hM 21 (by decide) rfl q494 rfl dX1_hand_118 ?_
              refine lv_iload_n hx hb dX1_hand_121 rfl (lv_at hl 0 rfl) ?_
              refine md_ald (v := (nI t1)) hC hM 13 (N := 9) rfl (by decide) rfl rfl gs.length rfl (by omega) a13 dX1_hand_122 ?_
              refine w_MC (As := [.int (nI t1)]) hC hM hS (fun _ h => h) hml hl.1 (k_X1_ends l D tc mo (mg κ ν) gs.length (nI t1) (by omega) hd) q651 q653 qs15 q24 q654 rfl ⟨rfl, by decide, by decide, rfl⟩ (Nat.le_of_ble_eq_true rfl) (Nat.le_of_ble_eq_true rfl) ⟨Nat.zero_le _, Nat.zero_le _⟩ rfl (Nat.le_of_ble_eq_true rfl) dX1_hand_123 (fun H locs hM hS _ _ => ?_)
              refine lv_goto (tgt := 134) hx hb dX1_hand_126 (by decide) ?_
              refine lv_goto (tgt := 64) hx hb dX1_hand_134 (by decide) ?_
              exact ih (n, (p_ends (mg κ ν) gs.length (nI t1)), _, _) H locs ls ⟨hrun.2, (by show Sim _ (if k1 = dk ν r1 then (aEnd ν gs (some t1), gs) else aDesk ν t1 r1 k1 gs).1 (if k1 = dk ν r1 then (aEnd ν gs (some t1), gs) else aDesk ν t1 r1 k1 gs).2; rw [if_pos c_113]; exact sim_ends (some t1) hFR), hok.1, hok.2.2, hM, hS, lv_sub hl [1] rfl⟩ (by show n < n + 1; omega)
          | some i1 =>
            obtain ⟨w1, w2, w3, w4⟩ := v5 i1 rfl
            refine lv_aload_n hx hb dX1_hand_71 rfl (lv_at hl 0 rfl) ?_
            refine md_get (v := .int (sS (mg κ ν) 7)) hC hM 25 (by decide) rfl q498 rfl dX1_hand_72 ?_
            refine w_top (congrArg Value.int (show sS (mg κ ν) 7 = nI (gs.length + 1) from hT.1)) ?_
            refine lv_iconst (v := 1) hx hb dX1_hand_75 (by decide) ?_
            refine lv_isub hx hb dX1_hand_76 ?_
            refine w_top (congrArg Value.int (pk_sub (a := (gs.length + 1)) (b := 1) (by omega))) ?_
            refine w_top (y := .int (nI gs.length)) rfl ?_
            refine lv_istore_n (lv' := [(3, .int (nI gs.length)), (0, .ref mo)]) hx hb dX1_hand_77 rfl hl (by decide) rfl (fun ls hl => ?_)
            refine lv_aload_n hx hb dX1_hand_78 rfl (lv_at hl 1 rfl) ?_
            refine md_get (v := .ref (mo + 18)) hC hM 24 (by decide) rfl q497 rfl dX1_hand_79 ?_
            refine lv_iload_n hx hb dX1_hand_82 rfl (lv_at hl 0 rfl) ?_
            refine md_ald (v := (nI i1)) hC hM 16 (N := 9) rfl (by decide) rfl rfl gs.length rfl (by omega) a16 dX1_hand_83 ?_
            refine lv_iconst (v := (-1)) hx hb dX1_hand_84 (by decide) ?_
            refine lv_icmp_eq (tgt := 96) hx hb dX1_hand_85 (by decide) (fun h => absurd h (nI_m1 (by have := (hIX.1.1.2.1 t1 (by omega)).2.2.2; omega))) (fun _ => ?_)
            refine lv_aload_n hx hb dX1_hand_88 rfl (lv_at hl 1 rfl) ?_
            refine lv_iload_n hx hb dX1_hand_89 rfl (lv_at hl 0 rfl) ?_
            refine w_MC (As := [.int (nI gs.length)]) hC hM hS (fun _ h => h) hml hl.1 (k_X1_split l D tc mo (mg κ ν) gs.length t1 r1 i1 (mg_IX hIX).1 (by omega) (by omega) v2 w1 hd a13 a14 a16) q647 q649 qs14 q24 q650 rfl ⟨rfl, by decide, by decide, rfl⟩ (Nat.le_of_ble_eq_true rfl) (Nat.le_of_ble_eq_true rfl) ⟨Nat.zero_le _, Nat.zero_le _⟩ rfl (Nat.le_of_ble_eq_true rfl) dX1_hand_90 (fun H locs hM hS _ _ => ?_)
            refine lv_goto (tgt := 134) hx hb dX1_hand_93 (by decide) ?_
            refine lv_goto (tgt := 64) hx hb dX1_hand_134 (by decide) ?_
            exact ih (n, (p_split (mg κ ν) gs.length t1 r1 i1), _, _) H locs ls ⟨hrun.2, sim_split hIX hVF hT, hok.1, hok.2.2, hM, hS, lv_sub hl [1] rfl⟩ (by show n < n + 1; omega)
      · refine lv_aload_n hx hb dX1_hand_40 rfl (lv_at hl 1 rfl) ?_
        refine md_get (v := .ref (mo + 14)) hC hM 14 (by decide) rfl q487 rfl dX1_hand_41 ?_
        refine lv_iload_n hx hb dX1_hand_44 rfl (lv_at hl 0 rfl) ?_
        refine lv_iconst (v := 0) hx hb dX1_hand_45 (by decide) ?_
        refine md_zast hC hM hS 12 (N := 32) rfl (by decide) rfl rfl i rfl (by omega) (by decide) dX1_hand_46 (fun H locs hM hS => ?_)
        refine lv_iinc (v := (nI (i + 1))) (lv' := [(3, .int (nI (i + 1))), (0, .ref mo), (1, .int (nI j)), (2, .int (nI a))]) hx hb dX1_hand_47 hl (k := 0) rfl (nI_1 i) (by decide) rfl (fun ls hl => ?_)
        refine lv_goto (tgt := 34) hx hb dX1_hand_50 (by decide) ?_
        exact ih (i + 1, (setA ν 12 i 0)) H locs ls ⟨by show i + 1 ≤ 32; omega, by rw [show 32 - i = (32 - (i + 1)) + 1 by omega] at hp; exact hp, hM, hS, lv_sub hl [0, 1, 2, 3] rfl⟩ (by show 32 - (i + 1) < 32 - i; omega)
    · refine lv_aload_n hx hb dX1_hand_20 rfl (lv_at hl 0 rfl) ?_
      refine lv_bipush (v := (-2)) hx hb dX1_hand_21 (by decide) ?_
      refine w_MC (As := [.int (-2)]) hC hM hS (fun _ h => h) hml hl.1 (k_X1_refuse l D tc mo (setS μ 1 0) (-2)) q566 q568 qs9 q24 q569 rfl ⟨rfl, by decide, by decide, rfl⟩ (Nat.le_of_ble_eq_true rfl) (Nat.le_of_ble_eq_true rfl) ⟨Nat.zero_le _, Nat.zero_le _⟩ rfl (Nat.le_of_ble_eq_true rfl) dX1_hand_23 (fun H locs hM hS _ _ => ?_)
      exact md_iretX hC hr hlk hM hS ⟨_, by rw [(p_hand_bad (μ := μ) (by first | (rw [show isItem μ t = false from c_10]; rfl) | (rw [show isIn r 0 7 = false from c_17]; simp; done)))]; exact (mg_self _).symm⟩ (by rw [(p_hand_bad (μ := μ) (by first | (rw [show isItem μ t = false from c_10]; rfl) | (rw [show isIn r 0 7 = false from c_17]; simp; done)))]) dX1_hand_26

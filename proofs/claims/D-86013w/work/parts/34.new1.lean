/-! NEW 1: the constructors, made, tell on a new desk -/
set_option maxRecDepth 100000
set_option maxHeartbeats 4000000
section N3
variable {p : Program} {l : Launch} {e : Env} {R : Room} {s : State} {m : MethodId} {args : Array Value} {below : List Frame} {meth : Method} {c : Code} {H : Heap} {locs : List Loc} {cells slots : Nat} {Q : State → Prop}
variable {cc : ByteArray} {pc : Nat} {ls : Array Slot} {rest : List Value} {D : va_G} {tc : Nat → ClassId} {index : Nat} {own : String} {A A0 : Nat → Prop} {RR : Heap → Heap → Option Value → Prop} {H0 : Heap} {a mc ms : Nat}
theorem n_obj (hC : gC p s m args c cc own D tc) (hml : c.maxLocals = ls.size) (h1 : Cond.methodLink own index ⟨"java/lang/Object", "<init>", "()V"⟩ ∈ lw_all) (hdg : decode cc pc = .ok (.invokespecial index, 3)) (hf : 1 ≤ R.frames) (hlo : 12 ≤ R.locals)
    (kk : W p l e R s m args below meth c H locs cells slots Q (F0 m (pc + 3) ls [])) : W p l e R s m args below meth c H locs cells slots Q (F0 m pc ls [.ref a]) :=
  W.objInit hC.1 hC.2.1 hC.2.2.2.1 (hC.2.2.1 _ h1) (hC.2.2.1 _ q44) (hC.2.2.1 _ q45) rfl hml.symm rfl hdg hf hlo kk
theorem n_vret (hC : gC p s m args c cc own D tc) (hr : meth.sig.returnType = none) (hlk : meth.locks = false) (hS : va_S A s.heap H locs) (hRR : RR s.heap H none) (hc1 : cells ≤ mc) (hc2 : slots ≤ ms) (hdg : decode cc pc = .ok (.return_, 1)) :
    W p l e R s m args below meth c H locs cells slots (MQ below (nQ A RR) args s mc ms A) (F0 m pc ls []) :=
  W.widen hc1 hc2 (W.vret hC.1 hC.2.1 hr (fun t ht hW => ⟨none, rfl, by rw [ht]; exact hRR, hS.F ht⟩) hS.2.2 hdg hlk)
theorem n_aret (hC : gC p s m args c cc own D tc) {C : String} (hr : meth.sig.returnType = some (.object C)) (hlk : meth.locks = false) (hS : va_S A s.heap H locs) (hRR : RR s.heap H (some (.ref a))) (hc1 : cells ≤ mc) (hc2 : slots ≤ ms) (hdg : decode cc pc = .ok (.areturn, 1)) :
    W p l e R s m args below meth c H locs cells slots (MQ below (nQ A RR) args s mc ms A) (F0 m pc ls [.ref a]) :=
  W.widen hc1 hc2 (W.aret hC.1 hC.2.1 hr (Or.inl ⟨_, rfl⟩) (Or.inr ⟨a, rfl⟩) (fun t ht hW => ⟨_, rfl, by rw [ht]; exact hRR, hS.F ht⟩) hS.2.2 hdg hlk)
theorem n_iret (hC : gC p s m args c cc own D tc) (hr : meth.sig.returnType = some .int) (hlk : meth.locks = false) (hS : va_S A s.heap H locs) {v : Int32} (hRR : RR s.heap H (some (.int v))) (hc1 : cells ≤ mc) (hc2 : slots ≤ ms) (hdg : decode cc pc = .ok (.ireturn, 1)) :
    W p l e R s m args below meth c H locs cells slots (MQ below (nQ A RR) args s mc ms A) (F0 m pc ls [.int v]) :=
  W.widen hc1 hc2 (W.iret hC.1 hC.2.1 hr (fun t ht hW => ⟨_, rfl, by rw [ht]; exact hRR, hS.F ht⟩) hS.2.2 hdg hlk)
/-- a final field is written by the constructor -/
theorem w1_putF (hC : gC p s m args c cc own D tc) (hS : va_S A H0 H locs) {C ref : String} {T : u_T} {N ci index : Nat} (hin : ∀ w ∈ u_ws C T N, w ∈ lw_all) (ty0 : Nat → FieldType) (hty : ∀ k, k < N → parseFieldDescriptor (T k).2.2.1 = some (ty0 k)) (hnm : ∀ a, a < N → ∀ b, b < N → a ≠ b → (T a).2.1 ≠ (T b).2.1) {fs : List Value} (hP : va_at D vwCl (a, .inr (ci, fs)) H) (hA : A a) (hc : vwCl[ci]? = some (C, T, N)) (k : Nat) (hk : k < N) {v : Value} (hlink : Cond.fieldLink own index ref (T k).2.1 (T k).2.2.1 ∈ lw_all) (href : ref = (T k).1) (hfin : (T k).2.2.2 = true) (hin2 : meth.name = "<init>") (hdecl : (T k).1 = own) (hn : narrow (ty0 k) v = v) (hfit : fits (ty0 k) v = true) (hl : k < fs.length) (hdg : decode cc pc = .ok (.putfield index, 3))
    (kk : ∀ (H1 : Heap) (locs1 : List Loc), H1.size = H.size → (∀ q : Nat, q ≠ a → H1[q]? = H[q]?) → va_at D vwCl (a, .inr (ci, fs.set k v)) H1 → va_S A H0 H1 locs1 → W p l e R s m args below meth c H1 locs1 cells slots Q (F0 m (pc + 3) ls rest)) : W p l e R s m args below meth c H locs cells slots Q (F0 m pc ls (v :: .ref a :: rest)) := by
  obtain ⟨hx, hb, hts, hown, hG⟩ := hC
  subst href
  have hap := va_apart (own := own) hts hin ty0 hty hnm hG.n hc
  obtain ⟨r, h1, cell, q1, q2, q3, q4⟩ := hP
  have hr : r = (C, T, N) := Option.some.inj (h1.symm.trans hc)
  subst hr
  obtain ⟨hSl, hfc, kC, hkC, hkind⟩ := hG.1 ci _ hc
  obtain ⟨cf, kf, fi, f, hi, hsl⟩ := hSl k hk
  have hlay := hts _ (hin _ (u_in_lay hk))
  unfold u_lay at hlay
  rw [if_pos hfin] at hlay
  have hst := (u_facts hfc hkC (u_lays hts hin hk) hi).1
  have hcf : m.cls = cf := by
    obtain ⟨_, _, c', _, _, _, -, -, hf', -, -, -, hown2, -⟩ := Cond.laysFinal_spec hlay
    have e1 : c' = cf := by have := hi.symm.trans hf'; simp at this; exact this.1.symm
    rw [hdecl] at hown2
    rw [← e1]; exact Option.some.inj (hown.symm.trans hown2)
  have h6 := u_fits hfc hkC hkind (Or.inr hlay) hi (hty k hk) hn hfit
  refine W.putFinK hx hb hown (hts _ hlink) hi hst hcf hin2 (by rw [q2]; exact h6) q1 q3 (by rw [hsl]; exact k2_hasslot (q4 k hk)) rfl rfl hdg fun H' e1 e2 e3 => ?_
  rw [hsl] at e1 ⊢
  exact kk H' _ e2 e3 ⟨_, hc, t_OB.to (V := updV (vp_V fs) k v) ⟨_, e1, q2, q3, t_set q4 hap hk v⟩ (fun j _ => vp_updV_set hl v j)⟩ (hS.put e2 e3 hA)
end N3
def A_0 : Nat → Prop := fun _ => False
def R_0 : Heap → Heap → Option Value → Prop := fun H H1 r => H1 = H ∧ r = none
theorem k_X3_init (l : Launch) (D : va_G) (tc : Nat → ClassId) (b : Nat) : NC l yX3_init cX3_init 1 none 1 12 0 0 [.ref b] A_0 (nP D tc (fun _ => True)) R_0 := by
  refine NC.of (by decide) rfl (Nat.le_of_ble_eq_true rfl) ?_
  intro p e s m below meth c hx hb hts hown hP9 hnm hr hlk hml hS ls hl
  obtain ⟨hG, hX, hNN, hP⟩ := hP9
  have hC : gC p s m _ c _ _ D tc := ⟨hx, hb, hts, hown, hG⟩
  have hl : lv_has ls 1 [(0, .ref b)] := hl
  refine lv_aload_n hx hb dX3_init_0 rfl (lv_at hl 0 rfl) ?_
  refine n_obj hC (hml.trans hl.1.symm) q107 dX3_init_1 (Nat.le_of_ble_eq_true rfl) (Nat.le_of_ble_eq_true rfl) ?_
  exact n_vret hC hr hlk hS ⟨rfl, rfl⟩ (Nat.le_of_ble_eq_true rfl) (Nat.le_of_ble_eq_true rfl) dX3_init_4
theorem k_X5_init (l : Launch) (D : va_G) (tc : Nat → ClassId) (b : Nat) : NC l yX5_init cX5_init 1 none 1 12 0 0 [.ref b] A_0 (nP D tc (fun _ => True)) R_0 := by
  refine NC.of (by decide) rfl (Nat.le_of_ble_eq_true rfl) ?_
  intro p e s m below meth c hx hb hts hown hP9 hnm hr hlk hml hS ls hl
  obtain ⟨hG, hX, hNN, hP⟩ := hP9
  have hC : gC p s m _ c _ _ D tc := ⟨hx, hb, hts, hown, hG⟩
  have hl : lv_has ls 1 [(0, .ref b)] := hl
  refine lv_aload_n hx hb dX5_init_0 rfl (lv_at hl 0 rfl) ?_
  refine n_obj hC (hml.trans hl.1.symm) q129 dX5_init_1 (Nat.le_of_ble_eq_true rfl) (Nat.le_of_ble_eq_true rfl) ?_
  exact n_vret hC hr hlk hS ⟨rfl, rfl⟩ (Nat.le_of_ble_eq_true rfl) (Nat.le_of_ble_eq_true rfl) dX5_init_4
theorem k_X6_init (l : Launch) (D : va_G) (tc : Nat → ClassId) (b : Nat) : NC l yX6_init cX6_init 1 none 1 12 0 0 [.ref b] A_0 (nP D tc (fun _ => True)) R_0 := by
  refine NC.of (by decide) rfl (Nat.le_of_ble_eq_true rfl) ?_
  intro p e s m below meth c hx hb hts hown hP9 hnm hr hlk hml hS ls hl
  obtain ⟨hG, hX, hNN, hP⟩ := hP9
  have hC : gC p s m _ c _ _ D tc := ⟨hx, hb, hts, hown, hG⟩
  have hl : lv_has ls 1 [(0, .ref b)] := hl
  refine lv_aload_n hx hb dX6_init_0 rfl (lv_at hl 0 rfl) ?_
  refine n_obj hC (hml.trans hl.1.symm) q340 dX6_init_1 (Nat.le_of_ble_eq_true rfl) (Nat.le_of_ble_eq_true rfl) ?_
  exact n_vret hC hr hlk hS ⟨rfl, rfl⟩ (Nat.le_of_ble_eq_true rfl) (Nat.le_of_ble_eq_true rfl) dX6_init_4
theorem k_X4_init (l : Launch) (D : va_G) (tc : Nat → ClassId) (b : Nat) : NC l yX4_init cX4_init 1 none 2 32 0 0 [.ref b] A_0 (nP D tc (fun _ => True)) R_0 := by
  refine NC.of (by decide) rfl (Nat.le_of_ble_eq_true rfl) ?_
  intro p e s m below meth c hx hb hts hown hP9 hnm hr hlk hml hS ls hl
  obtain ⟨hG, hX, hNN, hP⟩ := hP9
  have hC : gC p s m _ c _ _ D tc := ⟨hx, hb, hts, hown, hG⟩
  have hl : lv_has ls 1 [(0, .ref b)] := hl
  refine lv_aload_n hx hb dX4_init_0 rfl (lv_at hl 0 rfl) ?_
  refine w_NN (As := []) hx hb hts hown hS (fun _ h => h) hml hl.1 hNN (k_X3_init l D tc b) nP_blind (fun U hU hW => nP.moved hW hU hG hX hNN trivial) q121 q105 q26 q106 rfl rfl ⟨by decide, by decide, rfl⟩ (Nat.le_of_ble_eq_true rfl) (Nat.le_of_ble_eq_true rfl) ⟨(Nat.le_of_ble_eq_true rfl), (Nat.le_of_ble_eq_true rfl)⟩ rfl (Nat.le_of_ble_eq_true rfl) dX4_init_1 (fun H locs r hRR _ _ hS2 => ?_)
  obtain ⟨rfl, rfl⟩ := hRR
  exact n_vret hC hr hlk hS2 ⟨rfl, rfl⟩ (Nat.le_of_ble_eq_true rfl) (Nat.le_of_ble_eq_true rfl) dX4_init_4
theorem k_X2_init (l : Launch) (D : va_G) (tc : Nat → ClassId) (b t : Nat) : NC l yX2_init cX2_init 2 none 1 12 0 0 [.ref b, .ref t] (fun q => q = b) (nP D tc (fun H => va_at D vwCl (b, .inr (2, [.null])) H)) (fun H H1 r => r = none ∧ H1.size = H.size ∧ va_at D vwCl (b, .inr (2, [.ref t])) H1) := by
  refine NC.of (by decide) rfl (Nat.le_of_ble_eq_true rfl) ?_
  intro p e s m below meth c hx hb hts hown hP9 hnm hr hlk hml hS ls hl
  obtain ⟨hG, hX, hNN, hP⟩ := hP9
  have hC : gC p s m _ c _ _ D tc := ⟨hx, hb, hts, hown, hG⟩
  have hl : lv_has ls 2 [(0, .ref b), (1, .ref t)] := hl
  refine lv_aload_n hx hb dX2_init_0 rfl (lv_at hl 0 rfl) ?_
  refine n_obj hC (hml.trans hl.1.symm) q145 dX2_init_1 (Nat.le_of_ble_eq_true rfl) (Nat.le_of_ble_eq_true rfl) ?_
  refine lv_aload_n hx hb dX2_init_4 rfl (lv_at hl 0 rfl) ?_
  refine lv_aload_n hx hb dX2_init_5 rfl (lv_at hl 1 rfl) ?_
  refine w1_putF hC hS in_X2 tyX2 tyX2_ok nmX2 hP rfl rfl 0 (by decide) q146 rfl rfl hnm rfl rfl rfl (by decide) dX2_init_6 (fun H locs hz oq hP hS => ?_)
  exact n_vret hC hr hlk hS ⟨rfl, hz, hP⟩ (Nat.le_of_ble_eq_true rfl) (Nat.le_of_ble_eq_true rfl) dX2_init_9
def rawD : List Value := [.int 0, .int 0, .int 0, .int 0, .null, .int 0, .int 0, .null, .int 0]
theorem n_tell (l : Launch) (D : va_G) (tc : Nat → ClassId) (b : Nat) (f a : Int32) (z : Bool) : NC l yX0_tell cX0_tell 4 none 0 0 0 0 [.ref b, .int f, .int a, .int (bI z)] (fun q => q = b) (nP D tc (fun H => va_at D vwCl (b, .inr (6, rawD)) H)) (fun H H1 r => r = none ∧ H1.size = H.size ∧ va_at D vwCl (b, .inr (6, [.int f, .int a, .int (bI z), .int 0, .null, .int 0, .int 0, .null, .int 0])) H1) := by
  refine NC.of (by decide) rfl (Nat.le_of_ble_eq_true rfl) ?_
  intro p e s m below meth c hx hb hts hown hP9 hnm hr hlk hml hS ls hl
  obtain ⟨hG, hX, hNN, hP⟩ := hP9
  have hC : gC p s m _ c _ _ D tc := ⟨hx, hb, hts, hown, hG⟩
  have hl : lv_has ls 4 [(0, .ref b), (1, .int f), (2, .int a), (3, .int (bI z))] := hl
  refine lv_aload_n hx hb dX0_tell_0 rfl (lv_at hl 0 rfl) ?_
  refine lv_iload_n hx hb dX0_tell_1 rfl (lv_at hl 1 rfl) ?_
  refine w1_put hC hS in_X6 tyX6 tyX6_ok nmX6 hP rfl rfl 0 (by decide) q341 rfl rfl rfl rfl (by decide) dX0_tell_2 (fun H locs hz oq hP hS => ?_)
  refine lv_aload_n hx hb dX0_tell_5 rfl (lv_at hl 0 rfl) ?_
  refine lv_iload_n hx hb dX0_tell_6 rfl (lv_at hl 2 rfl) ?_
  refine w1_put hC hS in_X6 tyX6 tyX6_ok nmX6 hP rfl rfl 1 (by decide) q342 rfl rfl rfl rfl (by simp [rawD]) dX0_tell_7 (fun H locs hz1 oq hP hS => ?_)
  refine lv_aload_n hx hb dX0_tell_10 rfl (lv_at hl 0 rfl) ?_
  refine lv_iload_n hx hb dX0_tell_11 rfl (lv_at hl 3 rfl) ?_
  refine w1_put hC hS in_X6 tyX6 tyX6_ok nmX6 hP rfl rfl 2 (by decide) q343 rfl rfl (nar_z (bI_01 _)) (fit_z (bI_01 _)) (by simp [rawD]) dX0_tell_12 (fun H locs hz2 oq hP hS => ?_)
  exact n_vret hC hr hlk hS ⟨rfl, by rw [hz2, hz1, hz], hP⟩ (Nat.le_of_ble_eq_true rfl) (Nat.le_of_ble_eq_true rfl) dX0_tell_15
def newE (tc : Nat → ClassId) (k n : Nat) : va_E :=
  if k = 2 then .inl (tc 2, n, .inr (.inr (.inr (.inl fun _ => 0))))
  else if numN k = true then .inl (tc k, n, .inl fun _ => 0)
  else if oneN k = true then .inr (k - 2, [.int 0])
  else .inl (tc k, n, .inr (.inr (.inr (.inr fun _ => none))))
theorem k_X0_made (l : Launch) (D : va_G) (tc : Nat → ClassId) (k n : Nat) (v : Int32) (hk : k < 13) (hv : oneN k = true ∨ (v = nI n ∧ n ≤ 3)) : NC l yX0_made cX0_made 2 (some (.object "java/lang/Object")) 3 52 1 3 [.int (nI k), .int v] A_0 (nP D tc (fun _ => True)) (fun H H1 r => r = some (.ref H.size) ∧ H1.size = H.size + 1 ∧ va_at D vwCl (H.size, newE tc k n) H1) := by
  refine NC.of (by decide) rfl (Nat.le_of_ble_eq_true rfl) ?_
  intro p e s m below meth c hx hb hts hown hP9 hnm hr hlk hml hS ls hl
  obtain ⟨hG, hX, hNN, hP⟩ := hP9
  have hC : gC p s m _ c _ _ D tc := ⟨hx, hb, hts, hown, hG⟩
  have hl : lv_has ls 2 [(0, .int (nI k)), (1, .int v)] := hl
  rcases (by omega : k = 0 ∨ k = 1 ∨ k = 2 ∨ k = 3 ∨ k = 4 ∨ k = 5 ∨ k = 6 ∨ k = 7 ∨ k = 8 ∨ k = 9 ∨ k = 10 ∨ k = 11 ∨ k = 12) with rfl | rfl | rfl | rfl | rfl | rfl | rfl | rfl | rfl | rfl | rfl | rfl | rfl
  · refine lv_iload_n hx hb dX0_made_0 rfl (lv_at hl 0 rfl) ?_
    refine w_top (y := .int 0) rfl ?_
    refine lv_tableIn (off := 63) (tgt := 64) hx hb dX0_made_1 (by decide) (by decide) rfl (by decide) ?_
    obtain ⟨rfl, hn3⟩ := hv.resolve_left (by decide)
    refine lv_iload_n hx hb dX0_made_64 rfl (lv_at hl 1 rfl) ?_
    refine n_newa hC (k := 0) (by omega) (by omega) rfl rfl q112 rfl (show n ≤ 200 by omega) (by decide) (a0 := (n, .inl fun _ => 0)) (fun _ => rfl) hS (Nat.le_of_ble_eq_true rfl) (by show 0 + n ≤ 3; omega) dX0_made_65 (fun H hz ho hP hS => ?_)
    exact n_aret hC hr hlk hS ⟨rfl, hz, hP⟩ (Nat.le_of_ble_eq_true rfl) (by omega) dX0_made_67
  · refine lv_iload_n hx hb dX0_made_0 rfl (lv_at hl 0 rfl) ?_
    refine w_top (y := .int 1) rfl ?_
    refine lv_tableIn (off := 67) (tgt := 68) hx hb dX0_made_1 (by decide) (by decide) rfl (by decide) ?_
    obtain ⟨rfl, hn3⟩ := hv.resolve_left (by decide)
    refine lv_iload_n hx hb dX0_made_68 rfl (lv_at hl 1 rfl) ?_
    refine n_newa hC (k := 1) (by omega) (by omega) rfl rfl q113 rfl (show n ≤ 200 by omega) (by decide) (a0 := (n, .inl fun _ => 0)) (fun _ => rfl) hS (Nat.le_of_ble_eq_true rfl) (by show 0 + n ≤ 3; omega) dX0_made_69 (fun H hz ho hP hS => ?_)
    exact n_aret hC hr hlk hS ⟨rfl, hz, hP⟩ (Nat.le_of_ble_eq_true rfl) (by omega) dX0_made_71
  · refine lv_iload_n hx hb dX0_made_0 rfl (lv_at hl 0 rfl) ?_
    refine w_top (y := .int 2) rfl ?_
    refine lv_tableIn (off := 71) (tgt := 72) hx hb dX0_made_1 (by decide) (by decide) rfl (by decide) ?_
    obtain ⟨rfl, hn3⟩ := hv.resolve_left (by decide)
    refine lv_iload_n hx hb dX0_made_72 rfl (lv_at hl 1 rfl) ?_
    refine n_newa hC (k := 2) (by omega) (by omega) rfl rfl q114 rfl (show n ≤ 200 by omega) (by decide) (a0 := (n, .inr (.inr (.inr (.inl fun _ => 0))))) (fun _ => rfl) hS (Nat.le_of_ble_eq_true rfl) (by show 0 + n ≤ 3; omega) dX0_made_73 (fun H hz ho hP hS => ?_)
    exact n_aret hC hr hlk hS ⟨rfl, hz, hP⟩ (Nat.le_of_ble_eq_true rfl) (by omega) dX0_made_75
  · refine lv_iload_n hx hb dX0_made_0 rfl (lv_at hl 0 rfl) ?_
    refine w_top (y := .int 3) rfl ?_
    refine lv_tableIn (off := 75) (tgt := 76) hx hb dX0_made_1 (by decide) (by decide) rfl (by decide) ?_
    obtain ⟨rfl, hn3⟩ := hv.resolve_left (by decide)
    refine lv_iload_n hx hb dX0_made_76 rfl (lv_at hl 1 rfl) ?_
    refine n_newa hC (k := 3) (by omega) (by omega) rfl rfl q115 rfl (show n ≤ 200 by omega) (by decide) (a0 := (n, .inl fun _ => 0)) (fun _ => rfl) hS (Nat.le_of_ble_eq_true rfl) (by show 0 + n ≤ 3; omega) dX0_made_77 (fun H hz ho hP hS => ?_)
    exact n_aret hC hr hlk hS ⟨rfl, hz, hP⟩ (Nat.le_of_ble_eq_true rfl) (by omega) dX0_made_79
  · refine lv_iload_n hx hb dX0_made_0 rfl (lv_at hl 0 rfl) ?_
    refine w_top (y := .int 4) rfl ?_
    refine lv_tableIn (off := 79) (tgt := 80) hx hb dX0_made_1 (by decide) (by decide) rfl (by decide) ?_
    obtain ⟨rfl, hn3⟩ := hv.resolve_left (by decide)
    refine lv_iload_n hx hb dX0_made_80 rfl (lv_at hl 1 rfl) ?_
    refine n_anew hC hX (k := 4) (by omega) (by omega) (ty := gT 4) rfl (by simp [aoL, gT]) q100 rfl rfl (show n ≤ 200 by omega) hS (Nat.le_of_ble_eq_true rfl) (by show 0 + n ≤ 3; omega) dX0_made_81 (fun H hz ho hP hS => ?_)
    exact n_aret hC hr hlk hS ⟨rfl, hz, hP⟩ (Nat.le_of_ble_eq_true rfl) (by omega) dX0_made_84
  · refine lv_iload_n hx hb dX0_made_0 rfl (lv_at hl 0 rfl) ?_
    refine w_top (y := .int 5) rfl ?_
    refine lv_tableIn (off := 84) (tgt := 85) hx hb dX0_made_1 (by decide) (by decide) rfl (by decide) ?_
    refine n_new hC in_X3 tyX3 tyX3_ok q102 q103 q26 (ci := 3) rfl (fs := [.int 0]) (by intro j hj; rw [show j = 0 by omega]; rfl) hS (Nat.le_of_ble_eq_true rfl) (Nat.le_of_ble_eq_true rfl) dX0_made_85 (fun H hz ho hP1 hS => ?_)
    refine lv_dup hx hb dX0_made_88 rfl ?_
    refine w_NN (As := []) hx hb hts hown hS (fun _ h => h) hml hl.1 hNN (k_X3_init l D tc s.heap.size) nP_blind (fun U hU hW => nP.moved hW hU hG hX hNN trivial) q104 q105 q26 q106 rfl rfl ⟨by decide, by decide, rfl⟩ (Nat.le_of_ble_eq_true rfl) (Nat.le_of_ble_eq_true rfl) ⟨(Nat.le_of_ble_eq_true rfl), (Nat.le_of_ble_eq_true rfl)⟩ rfl (Nat.le_of_ble_eq_true rfl) dX0_made_89 (fun H locs r hRR _ _ hS2 => ?_)
    obtain ⟨rfl, rfl⟩ := hRR
    exact n_aret hC hr hlk hS2 ⟨rfl, hz, hP1⟩ (Nat.le_of_ble_eq_true rfl) (Nat.le_of_ble_eq_true rfl) dX0_made_92
  · refine lv_iload_n hx hb dX0_made_0 rfl (lv_at hl 0 rfl) ?_
    refine w_top (y := .int 6) rfl ?_
    refine lv_tableIn (off := 92) (tgt := 93) hx hb dX0_made_1 (by decide) (by decide) rfl (by decide) ?_
    refine n_new hC in_X4 tyX4 tyX4_ok q116 q117 q27 (ci := 4) rfl (fs := [.int 0]) (by intro j hj; rw [show j = 0 by omega]; rfl) hS (Nat.le_of_ble_eq_true rfl) (Nat.le_of_ble_eq_true rfl) dX0_made_93 (fun H hz ho hP1 hS => ?_)
    refine lv_dup hx hb dX0_made_96 rfl ?_
    refine w_NN (As := []) hx hb hts hown hS (fun _ h => h) hml hl.1 hNN (k_X4_init l D tc s.heap.size) nP_blind (fun U hU hW => nP.moved hW hU hG hX hNN trivial) q118 q119 q27 q120 rfl rfl ⟨by decide, by decide, rfl⟩ (Nat.le_of_ble_eq_true rfl) (Nat.le_of_ble_eq_true rfl) ⟨(Nat.le_of_ble_eq_true rfl), (Nat.le_of_ble_eq_true rfl)⟩ rfl (Nat.le_of_ble_eq_true rfl) dX0_made_97 (fun H locs r hRR _ _ hS2 => ?_)
    obtain ⟨rfl, rfl⟩ := hRR
    exact n_aret hC hr hlk hS2 ⟨rfl, hz, hP1⟩ (Nat.le_of_ble_eq_true rfl) (Nat.le_of_ble_eq_true rfl) dX0_made_100
  · refine lv_iload_n hx hb dX0_made_0 rfl (lv_at hl 0 rfl) ?_
    refine w_top (y := .int 7) rfl ?_
    refine lv_tableIn (off := 100) (tgt := 101) hx hb dX0_made_1 (by decide) (by decide) rfl (by decide) ?_
    refine n_new hC in_X5 tyX5 tyX5_ok q124 q125 q28 (ci := 5) rfl (fs := [.int 0]) (by intro j hj; rw [show j = 0 by omega]; rfl) hS (Nat.le_of_ble_eq_true rfl) (Nat.le_of_ble_eq_true rfl) dX0_made_101 (fun H hz ho hP1 hS => ?_)
    refine lv_dup hx hb dX0_made_104 rfl ?_
    refine w_NN (As := []) hx hb hts hown hS (fun _ h => h) hml hl.1 hNN (k_X5_init l D tc s.heap.size) nP_blind (fun U hU hW => nP.moved hW hU hG hX hNN trivial) q126 q127 q28 q128 rfl rfl ⟨by decide, by decide, rfl⟩ (Nat.le_of_ble_eq_true rfl) (Nat.le_of_ble_eq_true rfl) ⟨(Nat.le_of_ble_eq_true rfl), (Nat.le_of_ble_eq_true rfl)⟩ rfl (Nat.le_of_ble_eq_true rfl) dX0_made_105 (fun H locs r hRR _ _ hS2 => ?_)
    obtain ⟨rfl, rfl⟩ := hRR
    exact n_aret hC hr hlk hS2 ⟨rfl, hz, hP1⟩ (Nat.le_of_ble_eq_true rfl) (Nat.le_of_ble_eq_true rfl) dX0_made_108
  · refine lv_iload_n hx hb dX0_made_0 rfl (lv_at hl 0 rfl) ?_
    refine w_top (y := .int 8) rfl ?_
    refine lv_tableIn (off := 108) (tgt := 109) hx hb dX0_made_1 (by decide) (by decide) rfl (by decide) ?_
    obtain ⟨rfl, hn3⟩ := hv.resolve_left (by decide)
    refine lv_iload_n hx hb dX0_made_109 rfl (lv_at hl 1 rfl) ?_
    refine n_anew hC hX (k := 8) (by omega) (by omega) (ty := gT 8) rfl (by simp [aoL, gT]) q102 rfl rfl (show n ≤ 200 by omega) hS (Nat.le_of_ble_eq_true rfl) (by show 0 + n ≤ 3; omega) dX0_made_110 (fun H hz ho hP hS => ?_)
    exact n_aret hC hr hlk hS ⟨rfl, hz, hP⟩ (Nat.le_of_ble_eq_true rfl) (by omega) dX0_made_113
  · refine lv_iload_n hx hb dX0_made_0 rfl (lv_at hl 0 rfl) ?_
    refine w_top (y := .int 9) rfl ?_
    refine lv_tableIn (off := 113) (tgt := 114) hx hb dX0_made_1 (by decide) (by decide) rfl (by decide) ?_
    obtain ⟨rfl, hn3⟩ := hv.resolve_left (by decide)
    refine lv_iload_n hx hb dX0_made_114 rfl (lv_at hl 1 rfl) ?_
    refine n_anew hC hX (k := 9) (by omega) (by omega) (ty := gT 9) rfl (by simp [aoL, gT]) q116 rfl rfl (show n ≤ 200 by omega) hS (Nat.le_of_ble_eq_true rfl) (by show 0 + n ≤ 3; omega) dX0_made_115 (fun H hz ho hP hS => ?_)
    exact n_aret hC hr hlk hS ⟨rfl, hz, hP⟩ (Nat.le_of_ble_eq_true rfl) (by omega) dX0_made_118
  · refine lv_iload_n hx hb dX0_made_0 rfl (lv_at hl 0 rfl) ?_
    refine w_top (y := .int 10) rfl ?_
    refine lv_tableIn (off := 118) (tgt := 119) hx hb dX0_made_1 (by decide) (by decide) rfl (by decide) ?_
    obtain ⟨rfl, hn3⟩ := hv.resolve_left (by decide)
    refine lv_iload_n hx hb dX0_made_119 rfl (lv_at hl 1 rfl) ?_
    refine n_anew hC hX (k := 10) (by omega) (by omega) (ty := gT 10) rfl (by simp [aoL, gT]) q136 rfl rfl (show n ≤ 200 by omega) hS (Nat.le_of_ble_eq_true rfl) (by show 0 + n ≤ 3; omega) dX0_made_120 (fun H hz ho hP hS => ?_)
    exact n_aret hC hr hlk hS ⟨rfl, hz, hP⟩ (Nat.le_of_ble_eq_true rfl) (by omega) dX0_made_123
  · refine lv_iload_n hx hb dX0_made_0 rfl (lv_at hl 0 rfl) ?_
    refine w_top (y := .int 11) rfl ?_
    refine lv_tableIn (off := 123) (tgt := 124) hx hb dX0_made_1 (by decide) (by decide) rfl (by decide) ?_
    obtain ⟨rfl, hn3⟩ := hv.resolve_left (by decide)
    refine lv_iload_n hx hb dX0_made_124 rfl (lv_at hl 1 rfl) ?_
    refine n_anew hC hX (k := 11) (by omega) (by omega) (ty := gT 11) rfl (by simp [aoL, gT]) q138 rfl rfl (show n ≤ 200 by omega) hS (Nat.le_of_ble_eq_true rfl) (by show 0 + n ≤ 3; omega) dX0_made_125 (fun H hz ho hP hS => ?_)
    exact n_aret hC hr hlk hS ⟨rfl, hz, hP⟩ (Nat.le_of_ble_eq_true rfl) (by omega) dX0_made_128
  · refine lv_iload_n hx hb dX0_made_0 rfl (lv_at hl 0 rfl) ?_
    refine w_top (y := .int 12) rfl ?_
    refine lv_tableOut (tgt := 129) hx hb dX0_made_1 (by decide) (by decide) ?_
    obtain ⟨rfl, hn3⟩ := hv.resolve_left (by decide)
    refine lv_iload_n hx hb dX0_made_129 rfl (lv_at hl 1 rfl) ?_
    refine n_anew hC hX (k := 12) (by omega) (by omega) (ty := gT 12) rfl (by simp [aoL, gT]) q140 rfl rfl (show n ≤ 200 by omega) hS (Nat.le_of_ble_eq_true rfl) (by show 0 + n ≤ 3; omega) dX0_made_130 (fun H hz ho hP hS => ?_)
    exact n_aret hC hr hlk hS ⟨rfl, hz, hP⟩ (Nat.le_of_ble_eq_true rfl) (by omega) dX0_made_133
/-- an object at b, and what it made behind it -/
def MI (D : va_G) (ci b : Nat) (E0 : Nat → va_E) (n : Nat) (fs : List Value) (H : Heap) : Prop := va_at D vwCl (b, .inr (ci, fs)) H ∧ H.size = b + 1 + n ∧ ∀ i : Nat, i < n → va_at D vwCl (b + 1 + i, E0 i) H
theorem MI.push {D : va_G} {ci b n : Nat} {E0 : Nat → va_E} {fs : List Value} {H H1 : Heap} {x : va_E} (hM : MI D ci b E0 n fs H) (hz : H1.size = H.size + 1) (ho : ∀ q : Nat, q < H.size → H1[q]? = H[q]?) (hP : va_at D vwCl (H.size, x) H1) (hE : E0 n = x) : MI D ci b E0 (n + 1) fs H1 := by
  obtain ⟨h1, h2, h3⟩ := hM
  refine ⟨h1.kept (ho _ (by show b < _; omega)), by omega, fun i hi => ?_⟩
  by_cases e : i = n
  · subst e
    rw [h2] at hP
    rw [hE]
    exact hP
  · exact (h3 i (by omega)).kept (ho _ (by show b + 1 + i < _; omega))
theorem MI.put {D : va_G} {ci b n : Nat} {E0 : Nat → va_E} {fs fs' : List Value} {H H1 : Heap} (hM : MI D ci b E0 n fs H) (hz : H1.size = H.size) (oq : ∀ q : Nat, q ≠ b → H1[q]? = H[q]?) (hP : va_at D vwCl (b, .inr (ci, fs')) H1) : MI D ci b E0 n fs' H1 :=
  ⟨hP, hz.trans hM.2.1, fun i hi => (hM.2.2 i hi).kept (oq _ (by show b + 1 + i ≠ b; omega))⟩
def ms0 : MS := (fun k => if k = 6 then -1 else 0, fun _ _ => 0, fun _ => 0)
def E_X0 (tc : Nat → ClassId) : Nat → va_E := fun i => match i with
  | 0 => .inl (tc 13, 60, .inr (.inr (.inr (.inr fun _ => none))))
  | 1 => .inl (tc 14, 32, .inr (.inr (.inr (.inr fun _ => none))))
  | _ => .inl (tc 15, 8, .inl fun _ => 0)
def E_X1 (tc : Nat → ClassId) : Nat → va_E := fun i => if i = 3 then .inl (tc 16, 180, .inr (.inl fun _ => 0)) else let k := if i < 3 then i else i - 1; .inl (tc (md_ty k), md_len k, .inl fun _ => 0)
theorem sys0 {D : va_G} {tc : Nat → ClassId} {b : Nat} {H : Heap} (h : MI D 0 b (E_X0 tc) 3 [.ref (b + 1 + 0), .int 0, .int 0, .int 0, .int 0, .int 0, .int 0, .ref (b + 1 + 1), .ref (b + 1 + 2), .int 0, .null] H) : Sys D tc b (b + 4) (fun r => b + r) ms0 H := by
  have hlv : ∀ r, live ms0 r → r < 4 := by
    intro r hr
    have e1 : nn ms0 = 0 := rfl
    have e2 : ∀ x, dk ms0 x = 0 := fun _ => rfl
    unfold live at hr
    rw [e1] at hr
    simp only [e2] at hr
    omega
  refine ⟨fun r hr => ⟨?_, by show b ≤ b + r; omega, fun q => ?_⟩, fun r r' _ _ q => by have : b + r = b + r' := q; omega⟩
  · rcases (by have := hlv r hr; omega : r = 0 ∨ r = 1 ∨ r = 2 ∨ r = 3) with rfl | rfl | rfl | rfl
    · exact h.1
    · exact h.2.2 0 (by omega)
    · exact h.2.2 1 (by omega)
    · exact h.2.2 2 (by omega)
  · have h1 : b + 4 ≤ b + r := q.1
    have := hlv r hr
    omega
theorem k_X0_init (l : Launch) (D : va_G) (tc : Nat → ClassId) (b : Nat) : NC l yX0_init cX0_init 1 none 1 12 3 100 [.ref b] (fun q => b ≤ q) (nP D tc (fun H => va_at D vwCl (b, .inr (0, [.null, .int 0, .int 0, .int 0, .int 0, .int 0, .int 0, .null, .null, .int 0, .null])) H ∧ H.size = b + 1)) (fun H H1 r => r = none ∧ H1.size = b + 1 + 3 ∧ Sys D tc b (b + 4) (fun r => b + r) ms0 H1) := by
  refine NC.of (by decide) rfl (Nat.le_of_ble_eq_true rfl) ?_
  intro p e s m below meth c hx hb hts hown hP9 hnm hr hlk hml hS ls hl
  obtain ⟨hG, hX, hNN, hP⟩ := hP9
  have hC : gC p s m _ c _ _ D tc := ⟨hx, hb, hts, hown, hG⟩
  have hl : lv_has ls 1 [(0, .ref b)] := hl
  have hM : MI D 0 b (E_X0 tc) 0 [.null, .int 0, .int 0, .int 0, .int 0, .int 0, .int 0, .null, .null, .int 0, .null] s.heap := ⟨hP.1, hP.2, fun i hi => absurd hi (Nat.not_lt_zero _)⟩
  have hA : (fun q => b ≤ q) b := Nat.le_refl _
  refine lv_aload_n hx hb dX0_init_0 rfl (lv_at hl 0 rfl) ?_
  refine n_obj hC (hml.trans hl.1.symm) q43 dX0_init_1 (Nat.le_of_ble_eq_true rfl) (Nat.le_of_ble_eq_true rfl) ?_
  refine lv_aload_n hx hb dX0_init_4 rfl (lv_at hl 0 rfl) ?_
  refine lv_bipush (v := 60) hx hb dX0_init_5 (by decide) ?_
  refine n_anew hC hX (k := 13) (by omega) (by omega) (ty := gT 13) rfl (by simp [aoL, gT]) q46 rfl (N := 60) rfl (by omega) hS (Nat.le_of_ble_eq_true rfl) (Nat.le_of_ble_eq_true rfl) dX0_init_7 (fun H9 hz ho hP hS => ?_)
  rw [hM.2.1]
  have hM := hM.push hz ho hP rfl
  refine w1_putF hC hS in_X0 tyX0 tyX0_ok nmX0 hM.1 hA rfl 0 (by decide) q50 rfl rfl hnm rfl rfl rfl (by simp) dX0_init_10 (fun H9 locs hz oq hP hS => ?_)
  have hM : MI D 0 b (E_X0 tc) 1 [.ref (b + 1 + 0), .int 0, .int 0, .int 0, .int 0, .int 0, .int 0, .null, .null, .int 0, .null] _ := hM.put hz oq hP
  refine lv_aload_n hx hb dX0_init_13 rfl (lv_at hl 0 rfl) ?_
  refine lv_bipush (v := 32) hx hb dX0_init_14 (by decide) ?_
  refine n_anew hC hX (k := 14) (by omega) (by omega) (ty := gT 14) rfl (by simp [aoL, gT]) q48 rfl (N := 32) rfl (by omega) hS (Nat.le_of_ble_eq_true rfl) (Nat.le_of_ble_eq_true rfl) dX0_init_16 (fun H9 hz ho hP hS => ?_)
  rw [hM.2.1]
  have hM := hM.push hz ho hP rfl
  refine w1_putF hC hS in_X0 tyX0 tyX0_ok nmX0 hM.1 hA rfl 7 (by decide) q57 rfl rfl hnm rfl rfl rfl (by simp) dX0_init_19 (fun H9 locs hz oq hP hS => ?_)
  have hM : MI D 0 b (E_X0 tc) 2 [.ref (b + 1 + 0), .int 0, .int 0, .int 0, .int 0, .int 0, .int 0, .ref (b + 1 + 1), .null, .int 0, .null] _ := hM.put hz oq hP
  refine lv_aload_n hx hb dX0_init_22 rfl (lv_at hl 0 rfl) ?_
  refine lv_bipush (v := 8) hx hb dX0_init_23 (by decide) ?_
  refine n_newa hC (k := 15) (by omega) (by omega) rfl rfl q84 (N := 8) rfl (by omega) (by decide) (a0 := (8, .inl fun _ => 0)) (fun _ => rfl) hS (Nat.le_of_ble_eq_true rfl) (Nat.le_of_ble_eq_true rfl) dX0_init_25 (fun H9 hz ho hP hS => ?_)
  rw [hM.2.1]
  have hM := hM.push hz ho hP rfl
  refine w1_putF hC hS in_X0 tyX0 tyX0_ok nmX0 hM.1 hA rfl 8 (by decide) q58 rfl rfl hnm rfl rfl rfl (by simp) dX0_init_27 (fun H9 locs hz oq hP hS => ?_)
  have hM : MI D 0 b (E_X0 tc) 3 [.ref (b + 1 + 0), .int 0, .int 0, .int 0, .int 0, .int 0, .int 0, .ref (b + 1 + 1), .ref (b + 1 + 2), .int 0, .null] _ := hM.put hz oq hP
  exact n_vret hC hr hlk hS ⟨rfl, hM.2.1, sys0 hM⟩ (Nat.le_of_ble_eq_true rfl) (Nat.le_of_ble_eq_true rfl) dX0_init_30
theorem mod0 {D : va_G} {tc : Nat → ClassId} {b : Nat} {H : Heap} (h : MI D 1 b (E_X1 tc) 18 [.int 0, .ref (b + 1 + 0), .ref (b + 1 + 1), .ref (b + 1 + 2), .ref (b + 1 + 3), .ref (b + 1 + 4), .ref (b + 1 + 5), .ref (b + 1 + 6), .ref (b + 1 + 7), .ref (b + 1 + 8), .ref (b + 1 + 9), .ref (b + 1 + 10), .ref (b + 1 + 11), .ref (b + 1 + 12), .ref (b + 1 + 13), .int 0, .int 0, .int 0, .int 0, .int 0, .int (-1), .ref (b + 1 + 14), .ref (b + 1 + 15), .ref (b + 1 + 16), .ref (b + 1 + 17), .int 0, .int 0] H) : Mod D tc b ms0 H := by
  refine ⟨h.1, fun k hk => ?_, h.2.2 3 (by omega)⟩
  have e : ∀ i, i < 18 → va_at D vwCl (b + 1 + i, E_X1 tc i) H := h.2.2
  rcases (by omega : k = 0 ∨ k = 1 ∨ k = 2 ∨ k = 3 ∨ k = 4 ∨ k = 5 ∨ k = 6 ∨ k = 7 ∨ k = 8 ∨ k = 9 ∨ k = 10 ∨ k = 11 ∨ k = 12 ∨ k = 13 ∨ k = 14 ∨ k = 15 ∨ k = 16) with rfl | rfl | rfl | rfl | rfl | rfl | rfl | rfl | rfl | rfl | rfl | rfl | rfl | rfl | rfl | rfl | rfl
  · exact e 0 (by omega)
  · exact e 1 (by omega)
  · exact e 2 (by omega)
  · exact e 4 (by omega)
  · exact e 5 (by omega)
  · exact e 6 (by omega)
  · exact e 7 (by omega)
  · exact e 8 (by omega)
  · exact e 9 (by omega)
  · exact e 10 (by omega)
  · exact e 11 (by omega)
  · exact e 12 (by omega)
  · exact e 13 (by omega)
  · exact e 14 (by omega)
  · exact e 15 (by omega)
  · exact e 16 (by omega)
  · exact e 17 (by omega)
theorem k_X1_init (l : Launch) (D : va_G) (tc : Nat → ClassId) (b : Nat) : NC l yX1_init cX1_init 1 none 1 12 18 692 [.ref b] (md_A b) (nP D tc (fun H => va_at D vwCl (b, .inr (1, [.int 0, .null, .null, .null, .null, .null, .null, .null, .null, .null, .null, .null, .null, .null, .null, .int 0, .int 0, .int 0, .int 0, .int 0, .int 0, .null, .null, .null, .null, .int 0, .int 0])) H ∧ H.size = b + 1)) (fun H H1 r => r = none ∧ H1.size = b + 1 + 18 ∧ Mod D tc b ms0 H1) := by
  refine NC.of (by decide) rfl (Nat.le_of_ble_eq_true rfl) ?_
  intro p e s m below meth c hx hb hts hown hP9 hnm hr hlk hml hS ls hl
  obtain ⟨hG, hX, hNN, hP⟩ := hP9
  have hC : gC p s m _ c _ _ D tc := ⟨hx, hb, hts, hown, hG⟩
  have hl : lv_has ls 1 [(0, .ref b)] := hl
  have hM : MI D 1 b (E_X1 tc) 0 [.int 0, .null, .null, .null, .null, .null, .null, .null, .null, .null, .null, .null, .null, .null, .null, .int 0, .int 0, .int 0, .int 0, .int 0, .int 0, .null, .null, .null, .null, .int 0, .int 0] s.heap := ⟨hP.1, hP.2, fun i hi => absurd hi (Nat.not_lt_zero _)⟩
  have hA : (md_A b) b := ⟨Nat.le_refl _, by omega⟩
  refine lv_aload_n hx hb dX1_init_0 rfl (lv_at hl 0 rfl) ?_
  refine n_obj hC (hml.trans hl.1.symm) q472 dX1_init_1 (Nat.le_of_ble_eq_true rfl) (Nat.le_of_ble_eq_true rfl) ?_
  refine lv_aload_n hx hb dX1_init_4 rfl (lv_at hl 0 rfl) ?_
  refine lv_bipush (v := 60) hx hb dX1_init_5 (by decide) ?_
  refine n_newa hC (k := 15) (by omega) (by omega) rfl rfl q84 (N := 60) rfl (by omega) (by decide) (a0 := (60, .inl fun _ => 0)) (fun _ => rfl) hS (Nat.le_of_ble_eq_true rfl) (Nat.le_of_ble_eq_true rfl) dX1_init_7 (fun H9 hz ho hP hS => ?_)
  rw [hM.2.1]
  have hM := hM.push hz ho hP rfl
  refine w1_putF hC hS in_X1 tyX1 tyX1_ok nmX1 hM.1 hA rfl 1 (by decide) q474 rfl rfl hnm rfl rfl rfl (by simp) dX1_init_9 (fun H9 locs hz oq hP hS => ?_)
  have hM : MI D 1 b (E_X1 tc) 1 [.int 0, .ref (b + 1 + 0), .null, .null, .null, .null, .null, .null, .null, .null, .null, .null, .null, .null, .null, .int 0, .int 0, .int 0, .int 0, .int 0, .int 0, .null, .null, .null, .null, .int 0, .int 0] _ := hM.put hz oq hP
  refine lv_aload_n hx hb dX1_init_12 rfl (lv_at hl 0 rfl) ?_
  refine lv_bipush (v := 60) hx hb dX1_init_13 (by decide) ?_
  refine n_newa hC (k := 15) (by omega) (by omega) rfl rfl q84 (N := 60) rfl (by omega) (by decide) (a0 := (60, .inl fun _ => 0)) (fun _ => rfl) hS (Nat.le_of_ble_eq_true rfl) (Nat.le_of_ble_eq_true rfl) dX1_init_15 (fun H9 hz ho hP hS => ?_)
  rw [hM.2.1]
  have hM := hM.push hz ho hP rfl
  refine w1_putF hC hS in_X1 tyX1 tyX1_ok nmX1 hM.1 hA rfl 2 (by decide) q475 rfl rfl hnm rfl rfl rfl (by simp) dX1_init_17 (fun H9 locs hz oq hP hS => ?_)
  have hM : MI D 1 b (E_X1 tc) 2 [.int 0, .ref (b + 1 + 0), .ref (b + 1 + 1), .null, .null, .null, .null, .null, .null, .null, .null, .null, .null, .null, .null, .int 0, .int 0, .int 0, .int 0, .int 0, .int 0, .null, .null, .null, .null, .int 0, .int 0] _ := hM.put hz oq hP
  refine lv_aload_n hx hb dX1_init_20 rfl (lv_at hl 0 rfl) ?_
  refine lv_bipush (v := 60) hx hb dX1_init_21 (by decide) ?_
  refine n_newa hC (k := 15) (by omega) (by omega) rfl rfl q84 (N := 60) rfl (by omega) (by decide) (a0 := (60, .inl fun _ => 0)) (fun _ => rfl) hS (Nat.le_of_ble_eq_true rfl) (Nat.le_of_ble_eq_true rfl) dX1_init_23 (fun H9 hz ho hP hS => ?_)
  rw [hM.2.1]
  have hM := hM.push hz ho hP rfl
  refine w1_putF hC hS in_X1 tyX1 tyX1_ok nmX1 hM.1 hA rfl 3 (by decide) q476 rfl rfl hnm rfl rfl rfl (by simp) dX1_init_25 (fun H9 locs hz oq hP hS => ?_)
  have hM : MI D 1 b (E_X1 tc) 3 [.int 0, .ref (b + 1 + 0), .ref (b + 1 + 1), .ref (b + 1 + 2), .null, .null, .null, .null, .null, .null, .null, .null, .null, .null, .null, .int 0, .int 0, .int 0, .int 0, .int 0, .int 0, .null, .null, .null, .null, .int 0, .int 0] _ := hM.put hz oq hP
  refine lv_aload_n hx hb dX1_init_28 rfl (lv_at hl 0 rfl) ?_
  refine lv_sipush (v := 180) hx hb dX1_init_29 (by decide) ?_
  refine n_newa hC (k := 16) (by omega) (by omega) rfl rfl q555 (N := 180) rfl (by omega) (by decide) (a0 := (180, .inr (.inl fun _ => 0))) (fun _ => rfl) hS (Nat.le_of_ble_eq_true rfl) (Nat.le_of_ble_eq_true rfl) dX1_init_32 (fun H9 hz ho hP hS => ?_)
  rw [hM.2.1]
  have hM := hM.push hz ho hP rfl
  refine w1_putF hC hS in_X1 tyX1 tyX1_ok nmX1 hM.1 hA rfl 4 (by decide) q477 rfl rfl hnm rfl rfl rfl (by simp) dX1_init_34 (fun H9 locs hz oq hP hS => ?_)
  have hM : MI D 1 b (E_X1 tc) 4 [.int 0, .ref (b + 1 + 0), .ref (b + 1 + 1), .ref (b + 1 + 2), .ref (b + 1 + 3), .null, .null, .null, .null, .null, .null, .null, .null, .null, .null, .int 0, .int 0, .int 0, .int 0, .int 0, .int 0, .null, .null, .null, .null, .int 0, .int 0] _ := hM.put hz oq hP
  refine lv_aload_n hx hb dX1_init_37 rfl (lv_at hl 0 rfl) ?_
  refine lv_bipush (v := 8) hx hb dX1_init_38 (by decide) ?_
  refine n_newa hC (k := 15) (by omega) (by omega) rfl rfl q84 (N := 8) rfl (by omega) (by decide) (a0 := (8, .inl fun _ => 0)) (fun _ => rfl) hS (Nat.le_of_ble_eq_true rfl) (Nat.le_of_ble_eq_true rfl) dX1_init_40 (fun H9 hz ho hP hS => ?_)
  rw [hM.2.1]
  have hM := hM.push hz ho hP rfl
  refine w1_putF hC hS in_X1 tyX1 tyX1_ok nmX1 hM.1 hA rfl 5 (by decide) q478 rfl rfl hnm rfl rfl rfl (by simp) dX1_init_42 (fun H9 locs hz oq hP hS => ?_)
  have hM : MI D 1 b (E_X1 tc) 5 [.int 0, .ref (b + 1 + 0), .ref (b + 1 + 1), .ref (b + 1 + 2), .ref (b + 1 + 3), .ref (b + 1 + 4), .null, .null, .null, .null, .null, .null, .null, .null, .null, .int 0, .int 0, .int 0, .int 0, .int 0, .int 0, .null, .null, .null, .null, .int 0, .int 0] _ := hM.put hz oq hP
  refine lv_aload_n hx hb dX1_init_45 rfl (lv_at hl 0 rfl) ?_
  refine lv_bipush (v := 32) hx hb dX1_init_46 (by decide) ?_
  refine n_newa hC (k := 15) (by omega) (by omega) rfl rfl q84 (N := 32) rfl (by omega) (by decide) (a0 := (32, .inl fun _ => 0)) (fun _ => rfl) hS (Nat.le_of_ble_eq_true rfl) (Nat.le_of_ble_eq_true rfl) dX1_init_48 (fun H9 hz ho hP hS => ?_)
  rw [hM.2.1]
  have hM := hM.push hz ho hP rfl
  refine w1_putF hC hS in_X1 tyX1 tyX1_ok nmX1 hM.1 hA rfl 6 (by decide) q479 rfl rfl hnm rfl rfl rfl (by simp) dX1_init_50 (fun H9 locs hz oq hP hS => ?_)
  have hM : MI D 1 b (E_X1 tc) 6 [.int 0, .ref (b + 1 + 0), .ref (b + 1 + 1), .ref (b + 1 + 2), .ref (b + 1 + 3), .ref (b + 1 + 4), .ref (b + 1 + 5), .null, .null, .null, .null, .null, .null, .null, .null, .int 0, .int 0, .int 0, .int 0, .int 0, .int 0, .null, .null, .null, .null, .int 0, .int 0] _ := hM.put hz oq hP
  refine lv_aload_n hx hb dX1_init_53 rfl (lv_at hl 0 rfl) ?_
  refine lv_bipush (v := 32) hx hb dX1_init_54 (by decide) ?_
  refine n_newa hC (k := 15) (by omega) (by omega) rfl rfl q84 (N := 32) rfl (by omega) (by decide) (a0 := (32, .inl fun _ => 0)) (fun _ => rfl) hS (Nat.le_of_ble_eq_true rfl) (Nat.le_of_ble_eq_true rfl) dX1_init_56 (fun H9 hz ho hP hS => ?_)
  rw [hM.2.1]
  have hM := hM.push hz ho hP rfl
  refine w1_putF hC hS in_X1 tyX1 tyX1_ok nmX1 hM.1 hA rfl 7 (by decide) q480 rfl rfl hnm rfl rfl rfl (by simp) dX1_init_58 (fun H9 locs hz oq hP hS => ?_)
  have hM : MI D 1 b (E_X1 tc) 7 [.int 0, .ref (b + 1 + 0), .ref (b + 1 + 1), .ref (b + 1 + 2), .ref (b + 1 + 3), .ref (b + 1 + 4), .ref (b + 1 + 5), .ref (b + 1 + 6), .null, .null, .null, .null, .null, .null, .null, .int 0, .int 0, .int 0, .int 0, .int 0, .int 0, .null, .null, .null, .null, .int 0, .int 0] _ := hM.put hz oq hP
  refine lv_aload_n hx hb dX1_init_61 rfl (lv_at hl 0 rfl) ?_
  refine lv_bipush (v := 32) hx hb dX1_init_62 (by decide) ?_
  refine n_newa hC (k := 3) (by omega) (by omega) rfl rfl q115 (N := 32) rfl (by omega) (by decide) (a0 := (32, .inl fun _ => 0)) (fun _ => rfl) hS (Nat.le_of_ble_eq_true rfl) (Nat.le_of_ble_eq_true rfl) dX1_init_64 (fun H9 hz ho hP hS => ?_)
  rw [hM.2.1]
  have hM := hM.push hz ho hP rfl
  refine w1_putF hC hS in_X1 tyX1 tyX1_ok nmX1 hM.1 hA rfl 8 (by decide) q481 rfl rfl hnm rfl rfl rfl (by simp) dX1_init_66 (fun H9 locs hz oq hP hS => ?_)
  have hM : MI D 1 b (E_X1 tc) 8 [.int 0, .ref (b + 1 + 0), .ref (b + 1 + 1), .ref (b + 1 + 2), .ref (b + 1 + 3), .ref (b + 1 + 4), .ref (b + 1 + 5), .ref (b + 1 + 6), .ref (b + 1 + 7), .null, .null, .null, .null, .null, .null, .int 0, .int 0, .int 0, .int 0, .int 0, .int 0, .null, .null, .null, .null, .int 0, .int 0] _ := hM.put hz oq hP
  refine lv_aload_n hx hb dX1_init_69 rfl (lv_at hl 0 rfl) ?_
  refine lv_bipush (v := 32) hx hb dX1_init_70 (by decide) ?_
  refine n_newa hC (k := 15) (by omega) (by omega) rfl rfl q84 (N := 32) rfl (by omega) (by decide) (a0 := (32, .inl fun _ => 0)) (fun _ => rfl) hS (Nat.le_of_ble_eq_true rfl) (Nat.le_of_ble_eq_true rfl) dX1_init_72 (fun H9 hz ho hP hS => ?_)
  rw [hM.2.1]
  have hM := hM.push hz ho hP rfl
  refine w1_putF hC hS in_X1 tyX1 tyX1_ok nmX1 hM.1 hA rfl 9 (by decide) q482 rfl rfl hnm rfl rfl rfl (by simp) dX1_init_74 (fun H9 locs hz oq hP hS => ?_)
  have hM : MI D 1 b (E_X1 tc) 9 [.int 0, .ref (b + 1 + 0), .ref (b + 1 + 1), .ref (b + 1 + 2), .ref (b + 1 + 3), .ref (b + 1 + 4), .ref (b + 1 + 5), .ref (b + 1 + 6), .ref (b + 1 + 7), .ref (b + 1 + 8), .null, .null, .null, .null, .null, .int 0, .int 0, .int 0, .int 0, .int 0, .int 0, .null, .null, .null, .null, .int 0, .int 0] _ := hM.put hz oq hP
  refine lv_aload_n hx hb dX1_init_77 rfl (lv_at hl 0 rfl) ?_
  refine lv_bipush (v := 32) hx hb dX1_init_78 (by decide) ?_
  refine n_newa hC (k := 15) (by omega) (by omega) rfl rfl q84 (N := 32) rfl (by omega) (by decide) (a0 := (32, .inl fun _ => 0)) (fun _ => rfl) hS (Nat.le_of_ble_eq_true rfl) (Nat.le_of_ble_eq_true rfl) dX1_init_80 (fun H9 hz ho hP hS => ?_)
  rw [hM.2.1]
  have hM := hM.push hz ho hP rfl
  refine w1_putF hC hS in_X1 tyX1 tyX1_ok nmX1 hM.1 hA rfl 10 (by decide) q483 rfl rfl hnm rfl rfl rfl (by simp) dX1_init_82 (fun H9 locs hz oq hP hS => ?_)
  have hM : MI D 1 b (E_X1 tc) 10 [.int 0, .ref (b + 1 + 0), .ref (b + 1 + 1), .ref (b + 1 + 2), .ref (b + 1 + 3), .ref (b + 1 + 4), .ref (b + 1 + 5), .ref (b + 1 + 6), .ref (b + 1 + 7), .ref (b + 1 + 8), .ref (b + 1 + 9), .null, .null, .null, .null, .int 0, .int 0, .int 0, .int 0, .int 0, .int 0, .null, .null, .null, .null, .int 0, .int 0] _ := hM.put hz oq hP
  refine lv_aload_n hx hb dX1_init_85 rfl (lv_at hl 0 rfl) ?_
  refine lv_bipush (v := 32) hx hb dX1_init_86 (by decide) ?_
  refine n_newa hC (k := 15) (by omega) (by omega) rfl rfl q84 (N := 32) rfl (by omega) (by decide) (a0 := (32, .inl fun _ => 0)) (fun _ => rfl) hS (Nat.le_of_ble_eq_true rfl) (Nat.le_of_ble_eq_true rfl) dX1_init_88 (fun H9 hz ho hP hS => ?_)
  rw [hM.2.1]
  have hM := hM.push hz ho hP rfl
  refine w1_putF hC hS in_X1 tyX1 tyX1_ok nmX1 hM.1 hA rfl 11 (by decide) q484 rfl rfl hnm rfl rfl rfl (by simp) dX1_init_90 (fun H9 locs hz oq hP hS => ?_)
  have hM : MI D 1 b (E_X1 tc) 11 [.int 0, .ref (b + 1 + 0), .ref (b + 1 + 1), .ref (b + 1 + 2), .ref (b + 1 + 3), .ref (b + 1 + 4), .ref (b + 1 + 5), .ref (b + 1 + 6), .ref (b + 1 + 7), .ref (b + 1 + 8), .ref (b + 1 + 9), .ref (b + 1 + 10), .null, .null, .null, .int 0, .int 0, .int 0, .int 0, .int 0, .int 0, .null, .null, .null, .null, .int 0, .int 0] _ := hM.put hz oq hP
  refine lv_aload_n hx hb dX1_init_93 rfl (lv_at hl 0 rfl) ?_
  refine lv_bipush (v := 32) hx hb dX1_init_94 (by decide) ?_
  refine n_newa hC (k := 15) (by omega) (by omega) rfl rfl q84 (N := 32) rfl (by omega) (by decide) (a0 := (32, .inl fun _ => 0)) (fun _ => rfl) hS (Nat.le_of_ble_eq_true rfl) (Nat.le_of_ble_eq_true rfl) dX1_init_96 (fun H9 hz ho hP hS => ?_)
  rw [hM.2.1]
  have hM := hM.push hz ho hP rfl
  refine w1_putF hC hS in_X1 tyX1 tyX1_ok nmX1 hM.1 hA rfl 12 (by decide) q485 rfl rfl hnm rfl rfl rfl (by simp) dX1_init_98 (fun H9 locs hz oq hP hS => ?_)
  have hM : MI D 1 b (E_X1 tc) 12 [.int 0, .ref (b + 1 + 0), .ref (b + 1 + 1), .ref (b + 1 + 2), .ref (b + 1 + 3), .ref (b + 1 + 4), .ref (b + 1 + 5), .ref (b + 1 + 6), .ref (b + 1 + 7), .ref (b + 1 + 8), .ref (b + 1 + 9), .ref (b + 1 + 10), .ref (b + 1 + 11), .null, .null, .int 0, .int 0, .int 0, .int 0, .int 0, .int 0, .null, .null, .null, .null, .int 0, .int 0] _ := hM.put hz oq hP
  refine lv_aload_n hx hb dX1_init_101 rfl (lv_at hl 0 rfl) ?_
  refine lv_bipush (v := 32) hx hb dX1_init_102 (by decide) ?_
  refine n_newa hC (k := 15) (by omega) (by omega) rfl rfl q84 (N := 32) rfl (by omega) (by decide) (a0 := (32, .inl fun _ => 0)) (fun _ => rfl) hS (Nat.le_of_ble_eq_true rfl) (Nat.le_of_ble_eq_true rfl) dX1_init_104 (fun H9 hz ho hP hS => ?_)
  rw [hM.2.1]
  have hM := hM.push hz ho hP rfl
  refine w1_putF hC hS in_X1 tyX1 tyX1_ok nmX1 hM.1 hA rfl 13 (by decide) q486 rfl rfl hnm rfl rfl rfl (by simp) dX1_init_106 (fun H9 locs hz oq hP hS => ?_)
  have hM : MI D 1 b (E_X1 tc) 13 [.int 0, .ref (b + 1 + 0), .ref (b + 1 + 1), .ref (b + 1 + 2), .ref (b + 1 + 3), .ref (b + 1 + 4), .ref (b + 1 + 5), .ref (b + 1 + 6), .ref (b + 1 + 7), .ref (b + 1 + 8), .ref (b + 1 + 9), .ref (b + 1 + 10), .ref (b + 1 + 11), .ref (b + 1 + 12), .null, .int 0, .int 0, .int 0, .int 0, .int 0, .int 0, .null, .null, .null, .null, .int 0, .int 0] _ := hM.put hz oq hP
  refine lv_aload_n hx hb dX1_init_109 rfl (lv_at hl 0 rfl) ?_
  refine lv_bipush (v := 32) hx hb dX1_init_110 (by decide) ?_
  refine n_newa hC (k := 3) (by omega) (by omega) rfl rfl q115 (N := 32) rfl (by omega) (by decide) (a0 := (32, .inl fun _ => 0)) (fun _ => rfl) hS (Nat.le_of_ble_eq_true rfl) (Nat.le_of_ble_eq_true rfl) dX1_init_112 (fun H9 hz ho hP hS => ?_)
  rw [hM.2.1]
  have hM := hM.push hz ho hP rfl
  refine w1_putF hC hS in_X1 tyX1 tyX1_ok nmX1 hM.1 hA rfl 14 (by decide) q487 rfl rfl hnm rfl rfl rfl (by simp) dX1_init_114 (fun H9 locs hz oq hP hS => ?_)
  have hM : MI D 1 b (E_X1 tc) 14 [.int 0, .ref (b + 1 + 0), .ref (b + 1 + 1), .ref (b + 1 + 2), .ref (b + 1 + 3), .ref (b + 1 + 4), .ref (b + 1 + 5), .ref (b + 1 + 6), .ref (b + 1 + 7), .ref (b + 1 + 8), .ref (b + 1 + 9), .ref (b + 1 + 10), .ref (b + 1 + 11), .ref (b + 1 + 12), .ref (b + 1 + 13), .int 0, .int 0, .int 0, .int 0, .int 0, .int 0, .null, .null, .null, .null, .int 0, .int 0] _ := hM.put hz oq hP
  refine lv_aload_n hx hb dX1_init_117 rfl (lv_at hl 0 rfl) ?_
  refine lv_iconst (v := (-1)) hx hb dX1_init_118 (by decide) ?_
  refine w1_put hC hS in_X1 tyX1 tyX1_ok nmX1 hM.1 hA rfl 20 (by decide) q493 rfl rfl rfl rfl (by simp) dX1_init_119 (fun H9 locs hz oq hP hS => ?_)
  have hM : MI D 1 b (E_X1 tc) 14 [.int 0, .ref (b + 1 + 0), .ref (b + 1 + 1), .ref (b + 1 + 2), .ref (b + 1 + 3), .ref (b + 1 + 4), .ref (b + 1 + 5), .ref (b + 1 + 6), .ref (b + 1 + 7), .ref (b + 1 + 8), .ref (b + 1 + 9), .ref (b + 1 + 10), .ref (b + 1 + 11), .ref (b + 1 + 12), .ref (b + 1 + 13), .int 0, .int 0, .int 0, .int 0, .int 0, .int (-1), .null, .null, .null, .null, .int 0, .int 0] _ := hM.put hz oq hP
  refine lv_aload_n hx hb dX1_init_122 rfl (lv_at hl 0 rfl) ?_
  refine lv_bipush (v := 9) hx hb dX1_init_123 (by decide) ?_
  refine n_newa hC (k := 15) (by omega) (by omega) rfl rfl q84 (N := 9) rfl (by omega) (by decide) (a0 := (9, .inl fun _ => 0)) (fun _ => rfl) hS (Nat.le_of_ble_eq_true rfl) (Nat.le_of_ble_eq_true rfl) dX1_init_125 (fun H9 hz ho hP hS => ?_)
  rw [hM.2.1]
  have hM := hM.push hz ho hP rfl
  refine w1_putF hC hS in_X1 tyX1 tyX1_ok nmX1 hM.1 hA rfl 21 (by decide) q494 rfl rfl hnm rfl rfl rfl (by simp) dX1_init_127 (fun H9 locs hz oq hP hS => ?_)
  have hM : MI D 1 b (E_X1 tc) 15 [.int 0, .ref (b + 1 + 0), .ref (b + 1 + 1), .ref (b + 1 + 2), .ref (b + 1 + 3), .ref (b + 1 + 4), .ref (b + 1 + 5), .ref (b + 1 + 6), .ref (b + 1 + 7), .ref (b + 1 + 8), .ref (b + 1 + 9), .ref (b + 1 + 10), .ref (b + 1 + 11), .ref (b + 1 + 12), .ref (b + 1 + 13), .int 0, .int 0, .int 0, .int 0, .int 0, .int (-1), .ref (b + 1 + 14), .null, .null, .null, .int 0, .int 0] _ := hM.put hz oq hP
  refine lv_aload_n hx hb dX1_init_130 rfl (lv_at hl 0 rfl) ?_
  refine lv_bipush (v := 9) hx hb dX1_init_131 (by decide) ?_
  refine n_newa hC (k := 15) (by omega) (by omega) rfl rfl q84 (N := 9) rfl (by omega) (by decide) (a0 := (9, .inl fun _ => 0)) (fun _ => rfl) hS (Nat.le_of_ble_eq_true rfl) (Nat.le_of_ble_eq_true rfl) dX1_init_133 (fun H9 hz ho hP hS => ?_)
  rw [hM.2.1]
  have hM := hM.push hz ho hP rfl
  refine w1_putF hC hS in_X1 tyX1 tyX1_ok nmX1 hM.1 hA rfl 22 (by decide) q495 rfl rfl hnm rfl rfl rfl (by simp) dX1_init_135 (fun H9 locs hz oq hP hS => ?_)
  have hM : MI D 1 b (E_X1 tc) 16 [.int 0, .ref (b + 1 + 0), .ref (b + 1 + 1), .ref (b + 1 + 2), .ref (b + 1 + 3), .ref (b + 1 + 4), .ref (b + 1 + 5), .ref (b + 1 + 6), .ref (b + 1 + 7), .ref (b + 1 + 8), .ref (b + 1 + 9), .ref (b + 1 + 10), .ref (b + 1 + 11), .ref (b + 1 + 12), .ref (b + 1 + 13), .int 0, .int 0, .int 0, .int 0, .int 0, .int (-1), .ref (b + 1 + 14), .ref (b + 1 + 15), .null, .null, .int 0, .int 0] _ := hM.put hz oq hP
  refine lv_aload_n hx hb dX1_init_138 rfl (lv_at hl 0 rfl) ?_
  refine lv_bipush (v := 9) hx hb dX1_init_139 (by decide) ?_
  refine n_newa hC (k := 15) (by omega) (by omega) rfl rfl q84 (N := 9) rfl (by omega) (by decide) (a0 := (9, .inl fun _ => 0)) (fun _ => rfl) hS (Nat.le_of_ble_eq_true rfl) (Nat.le_of_ble_eq_true rfl) dX1_init_141 (fun H9 hz ho hP hS => ?_)
  rw [hM.2.1]
  have hM := hM.push hz ho hP rfl
  refine w1_putF hC hS in_X1 tyX1 tyX1_ok nmX1 hM.1 hA rfl 23 (by decide) q496 rfl rfl hnm rfl rfl rfl (by simp) dX1_init_143 (fun H9 locs hz oq hP hS => ?_)
  have hM : MI D 1 b (E_X1 tc) 17 [.int 0, .ref (b + 1 + 0), .ref (b + 1 + 1), .ref (b + 1 + 2), .ref (b + 1 + 3), .ref (b + 1 + 4), .ref (b + 1 + 5), .ref (b + 1 + 6), .ref (b + 1 + 7), .ref (b + 1 + 8), .ref (b + 1 + 9), .ref (b + 1 + 10), .ref (b + 1 + 11), .ref (b + 1 + 12), .ref (b + 1 + 13), .int 0, .int 0, .int 0, .int 0, .int 0, .int (-1), .ref (b + 1 + 14), .ref (b + 1 + 15), .ref (b + 1 + 16), .null, .int 0, .int 0] _ := hM.put hz oq hP
  refine lv_aload_n hx hb dX1_init_146 rfl (lv_at hl 0 rfl) ?_
  refine lv_bipush (v := 9) hx hb dX1_init_147 (by decide) ?_
  refine n_newa hC (k := 15) (by omega) (by omega) rfl rfl q84 (N := 9) rfl (by omega) (by decide) (a0 := (9, .inl fun _ => 0)) (fun _ => rfl) hS (Nat.le_of_ble_eq_true rfl) (Nat.le_of_ble_eq_true rfl) dX1_init_149 (fun H9 hz ho hP hS => ?_)
  rw [hM.2.1]
  have hM := hM.push hz ho hP rfl
  refine w1_putF hC hS in_X1 tyX1 tyX1_ok nmX1 hM.1 hA rfl 24 (by decide) q497 rfl rfl hnm rfl rfl rfl (by simp) dX1_init_151 (fun H9 locs hz oq hP hS => ?_)
  have hM : MI D 1 b (E_X1 tc) 18 [.int 0, .ref (b + 1 + 0), .ref (b + 1 + 1), .ref (b + 1 + 2), .ref (b + 1 + 3), .ref (b + 1 + 4), .ref (b + 1 + 5), .ref (b + 1 + 6), .ref (b + 1 + 7), .ref (b + 1 + 8), .ref (b + 1 + 9), .ref (b + 1 + 10), .ref (b + 1 + 11), .ref (b + 1 + 12), .ref (b + 1 + 13), .int 0, .int 0, .int 0, .int 0, .int 0, .int (-1), .ref (b + 1 + 14), .ref (b + 1 + 15), .ref (b + 1 + 16), .ref (b + 1 + 17), .int 0, .int 0] _ := hM.put hz oq hP
  exact n_vret hC hr hlk hS ⟨rfl, hM.2.1, mod0 hM⟩ (Nat.le_of_ble_eq_true rfl) (Nat.le_of_ble_eq_true rfl) dX1_init_154

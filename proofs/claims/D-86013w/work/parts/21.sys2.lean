/-! SYSTEM 2: rows on its picture; contracts -/
set_option maxRecDepth 100000
set_option maxHeartbeats 1000000
theorem ra_nm {U : State} {cA : ClassId} {ty : FieldType} (h : va_RA U cA ty) : U.vm.findClass ("[" ++ ty.toString) = some cA := by
  cases ty with
  | object C => obtain ⟨_, _, _, _, _, h4⟩ := h; exact h4
  | _ => exact h
theorem fnm_ty {k : Nat} (h : k < 5 ∨ (8 ≤ k ∧ k < 13)) : fnm k = "[" ++ (gT k).toString := by
  rcases (by omega : k = 0 ∨ k = 1 ∨ k = 2 ∨ k = 3 ∨ k = 4 ∨ k = 8 ∨ k = 9 ∨ k = 10 ∨ k = 11 ∨ k = 12) with rfl | rfl | rfl | rfl | rfl | rfl | rfl | rfl | rfl | rfl <;> decide +kernel
theorem cl_R {k : Nat} (h : 5 ≤ k) (h2 : k < 8) : ∃ q, vwCl[k - 2]? = some q ∧ q.1 = fnm k ∧ q.2.2 = 1 := by
  rcases (by omega : k = 5 ∨ k = 6 ∨ k = 7) with rfl | rfl | rfl <;> exact ⟨_, rfl, rfl, rfl⟩
theorem kd_one {k : Nat} (h : oneN k = true) : 5 ≤ k ∧ k < 8 := by
  simp [oneN] at h
  omega
theorem kd_num {k : Nat} (h : numN k = true) : k < 4 := by
  simp [numN] at h
  omega
theorem kd_row {k : Nat} (h : numN k = false) (h2 : oneN k = false) (h3 : k ≤ 12) : k = 4 ∨ (8 ≤ k ∧ k < 13) := by
  simp [numN, oneN] at h h2
  omega
theorem sy_thR {D : va_G} {tc : Nat → ClassId} {x mo : Nat} {β : Nat → Nat} {μ : MS} {H : Heap} {s : State} (hG : gK D tc s) (hM : Sys D tc x mo β μ H) {j : Nat} (hj : j < nn μ) (hn : nn μ ≤ 60) (hk : kd μ j ≤ 12) : thR s H (β (64 + j)) (fnm (kd μ j)) := by
  have h := hM.thing hj hn
  have arr : ∀ (k n : Nat) (y : vp_A), (k < 5 ∨ (8 ≤ k ∧ k < 13)) → va_at D vwCl (β (64 + j), .inl (tc k, y)) H → thR s H (β (64 + j)) (fnm k) := by
    intro k n y hk2 h
    refine ⟨_, h, ?_, ?_⟩
    · obtain ⟨n, f | f | f | f | f⟩ := y <;> rfl
    · rw [fnm_ty hk2, ra_nm (hG.2 k (by omega) (by omega)).2]
      obtain ⟨n, f | f | f | f | f⟩ := y <;> rfl
  by_cases c2 : kd μ j = 2
  · rw [th_dbl c2] at h
    rw [c2]
    exact arr 2 0 _ (by omega) h
  cases cn : numN (kd μ j) with
  | true =>
    rw [th_num rfl c2 cn] at h
    have := kd_num cn
    exact arr _ 0 _ (by omega) h
  | false =>
    cases co : oneN (kd μ j) with
    | true =>
      rw [th_one rfl c2 cn co] at h
      obtain ⟨h5, h8⟩ := kd_one co
      obtain ⟨q, e1, e2, e3⟩ := cl_R h5 h8
      obtain ⟨r, q1, cell, g1, g2, g3, -⟩ := h
      exact ⟨cell, g1, g3, by rw [g2, ← e2]; exact (hG.1 _ q e1).2.1⟩
    | false =>
      rw [th_row rfl c2 cn co] at h
      exact arr _ 0 _ (by have := kd_row cn co hk; omega) h
/-- what a row's array class says of its components -/
theorem comp_of {D : va_G} {tc : Nat → ClassId} {s : State} (hG : gK D tc s) (hX : gS0 s) {k : Nat} (hk : k = 4 ∨ (8 ≤ k ∧ k < 13)) : ∃ (kA : Class) (comp : ClassId), s.vm.classes[tc k]? = some kA ∧ kA.kind = .array comp (gT k) ∧ s.vm.findClass (fnm (holdN k)) = some comp := by
  have hO := hX.2.2.2.1 (gT k) (by rcases (by omega : k = 4 ∨ k = 8 ∨ k = 9 ∨ k = 10 ∨ k = 11 ∨ k = 12) with rfl | rfl | rfl | rfl | rfl | rfl <;> simp [aoL, gT])
  have hA := ra_nm (hG.2 k (by omega) (by omega)).2
  rcases (by omega : k = 4 ∨ k = 8 ∨ k = 9 ∨ k = 10 ∨ k = 11 ∨ k = 12) with rfl | rfl | rfl | rfl | rfl | rfl
  · obtain ⟨comp, c, k, h1, h2, h3, h4, h5⟩ := arrayOverA_spec hO
    cases h5.symm.trans hA
    exact ⟨k, comp, h3, h4, by rw [show fnm (holdN 4) = (FieldType.array .char).toString by decide +kernel]; exact h1⟩
  · obtain ⟨comp, c, k, h1, h2, h3, h4, h5⟩ := Cond.arrayOver_spec hO
    cases h5.symm.trans hA
    exact ⟨k, comp, h3, h4, h1⟩
  · obtain ⟨comp, c, k, h1, h2, h3, h4, h5⟩ := Cond.arrayOver_spec hO
    cases h5.symm.trans hA
    exact ⟨k, comp, h3, h4, h1⟩
  · obtain ⟨comp, c, k, h1, h2, h3, h4, h5⟩ := Cond.arrayOver_spec hO
    cases h5.symm.trans hA
    exact ⟨k, comp, h3, h4, h1⟩
  · obtain ⟨comp, c, k, h1, h2, h3, h4, h5⟩ := arrayOverA_spec hO
    cases h5.symm.trans hA
    exact ⟨k, comp, h3, h4, by rw [show fnm (holdN 11) = (FieldType.array (.object "MailRooms$Card")).toString by decide +kernel]; exact h1⟩
  · obtain ⟨comp, c, k, h1, h2, h3, h4, h5⟩ := arrayOverA_spec hO
    cases h5.symm.trans hA
    exact ⟨k, comp, h3, h4, by rw [show fnm (holdN 12) = (FieldType.array (.object "MailRooms$GoldCard")).toString by decide +kernel]; exact h1⟩
theorem cT_lt {μ : MS} {j i : Nat} (h : i < 3) : cT μ j i = sC μ (3 * j + i) := if_pos h
theorem qT_m1 {β : Nat → Nat} : qT β (-1) = none := rfl
theorem qT_N {β : Nat → Nat} {n : Nat} (h : n < 2147483648) : qT β (lN n) = some (β (64 + n)) := by
  unfold qT
  rw [if_neg (lN_m1 h), lN_cl h]
theorem qI_m1 {β : Nat → Nat} : qI β (-1) = none := rfl
theorem qI_N {β : Nat → Nat} {n : Nat} (h : n < 2147483648) : qI β (nI n) = some (β (64 + n)) := by
  unfold qI
  rw [if_neg (nI_m1 h), cl_nI h]
theorem goesN_refl_dummy : True := trivial
section S2
variable {p : Program} {l : Launch} {e : Env} {R : Room} {s : State} {m : MethodId} {args : Array Value} {below : List Frame} {meth : Method} {c : Code} {H : Heap} {locs : List Loc} {cells slots : Nat} {Q : State → Prop}
variable {cc : ByteArray} {pc : Nat} {ls : Array Slot} {rest : List Value} {D : va_G} {tc : Nat → ClassId} {H0 : Heap} {own : String} {x mo index : Nat} {β : Nat → Nat} {μ ν : MS}
/-- what the machine throws here, made -/
theorem w_note (hC : gC p s m args c cc own D tc) (hX : gS0 s) (hst : l.stackTraces = false) {A : Nat → Prop} (hZ : gZ A s s.heap) (hS : va_S A s.heap H locs) (hsize : ls.size = c.maxLocals) (hlk : meth.locks = false) (i : Nat) (hi : i < 3) {tx : String} (b1 : (stringBytes (stringToUtf16 tx)).size ≤ 990) (b2 : (tx == notModelled) = false)
    (hf : 7 < R.frames) (hlo : (rest.map fun v => v.category).sum + 10240 ≤ R.locals) (hc : cells + 3 ≤ R.cells) (hs : slots + 1000 ≤ R.slots)
    (k : ∀ (H1 : Heap) (q9 : Addr) (ce : Cell), H.size ≤ H1.size → (∀ q : Nat, q < H.size → H1[q]? = H[q]?) → va_S A s.heap H1 locs → H1[q9]? = some ce → ce.vm = .none → s.vm.findClass (exn i) = some ce.cls → vx_W p l e R s m args below meth c H1 locs (cells + 3) (slots + 1000) Q (F0 m pc ls rest) q9) :
    vx_Note p l e R s m args below meth c H locs cells slots Q (F0 m pc ls rest) (exn i) tx := by
  have hat : ∀ w ∈ vx_atM (exn i) (exc i), w.before args s = true := fun w hw => by
    rcases atm_in hi w hw with h | ⟨h1, h2⟩
    · exact hC.2.2.1 w h
    · exact va_Nw.use (dcw_tab h2) (hX.1 w h1 h2)
  have hgd : ∀ w ∈ vx_atM (exn i) (exc i), vx_ot w = true := fun w hw => by
    unfold vx_ot
    rcases atm_in hi w hw with h | ⟨h1, h2⟩
    · rw [(List.mem_filter.mp h).2, Bool.or_true]
    · rw [dcw_tab h2, Bool.true_or]
  have hl : (exc i).length ≤ 3 := by rcases (by omega : i = 0 ∨ i = 1 ∨ i = 2) with rfl | rfl | rfl <;> decide
  refine vx_vm (names := exc i) (nb := 990) (A := A) hC.1 hst ?_ ?_ ?_ ?_ hat hgd hZ.1 hZ.2 hS hsize b2 b1 (by omega) (by omega) hlo (by omega) hc hs hlk k
  · rcases (by omega : i = 0 ∨ i = 1 ∨ i = 2) with rfl | rfl | rfl <;> decide +kernel
  · rcases (by omega : i = 0 ∨ i = 1 ∨ i = 2) with rfl | rfl | rfl <;> decide +kernel
  · rcases (by omega : i = 0 ∨ i = 1 ∨ i = 2) with rfl | rfl | rfl <;> decide +kernel
  · rcases (by omega : i = 0 ∨ i = 1 ∨ i = 2) with rfl | rfl | rfl <;> decide +kernel
theorem sy_mget (hC : gC p s m args c cc RX0 D tc) (hM : Sys D tc x mo β μ H) (k : Nat) (hk : k < 11) {v : Value} (hv : (mainF β μ)[k]? = some v) {b : Nat} (hb0 : b = β 0) (hlink : Cond.fieldLink RX0 index RX0 (TX0 k).2.1 (TX0 k).2.2.1 ∈ lw_all) (href : RX0 = (TX0 k).1) (hdg : decode cc pc = .ok (.getfield index, 3))
    (kk : W p l e R s m args below meth c H locs cells slots Q (F0 m (pc + 3) ls (v :: rest))) : W p l e R s m args below meth c H locs cells slots Q (F0 m pc ls (.ref b :: rest)) := by
  subst hb0
  exact w1_get hC in_X0 hM.main rfl k hk hv hlink href hdg kk
theorem sy_mput (hC : gC p s m args c cc RX0 D tc) (hM : Sys D tc x mo β μ H) (hS : va_S (sy_A x mo) H0 H locs) (k f : Nat) (hk : k ≠ 0) (hf : f < 11) {v : Value} {w : Int32} (hset : (mainF β μ).set f v = mainF β (setS μ k w)) {b : Nat} (hb0 : b = β 0) (hlink : Cond.fieldLink RX0 index RX0 (TX0 f).2.1 (TX0 f).2.2.1 ∈ lw_all) (href : RX0 = (TX0 f).1) (hfin : (TX0 f).2.2.2 = false) (hn : narrow (tyX0 f) v = v) (hfit : fits (tyX0 f) v = true) (hdg : decode cc pc = .ok (.putfield index, 3))
    (kk : ∀ (H1 : Heap) (locs1 : List Loc), Sys D tc x mo β (setS μ k w) H1 → va_S (sy_A x mo) H0 H1 locs1 → W p l e R s m args below meth c H1 locs1 cells slots Q (F0 m (pc + 3) ls rest)) : W p l e R s m args below meth c H locs cells slots Q (F0 m pc ls (v :: .ref b :: rest)) := by
  subst hb0
  exact w1_put hC hS in_X0 tyX0 tyX0_ok nmX0 hM.main (hM.1 0 live_0).2 rfl f hf hlink href hfin hn hfit hf hdg (fun H1 locs1 _ oq hP hS1 => kk H1 locs1 (hM.pS hk oq (by rw [← hset]; exact hP)) hS1)
theorem sy_iget (hC : gC p s m args c cc own D tc) (hM : Sys D tc x mo β μ H) {j : Nat} (hj : j < nn μ) (hn : nn μ ≤ 60) (hlink : Cond.fieldLink own index RX2 (TX2 0).2.1 (TX2 0).2.2.1 ∈ lw_all) (hdg : decode cc pc = .ok (.getfield index, 3))
    (kk : W p l e R s m args below meth c H locs cells slots Q (F0 m (pc + 3) ls (.ref (β (64 + j)) :: rest))) : W p l e R s m args below meth c H locs cells slots Q (F0 m pc ls (.ref (β (4 + j)) :: rest)) :=
  w1_get hC in_X2 (hM.item hj hn) rfl 0 (by omega) rfl hlink rfl hdg kk
theorem sy_dget (hC : gC p s m args c cc own D tc) (hM : Sys D tc x mo β μ H) {q : Nat} (hq : q < 32) (hl : q % 4 < dk μ (q / 4)) (k : Nat) (hk : k < 9) {v : Value} (hv : (deskF β μ q)[k]? = some v) (hlink : Cond.fieldLink own index RX6 (TX6 k).2.1 (TX6 k).2.2.1 ∈ lw_all) (href : RX6 = (TX6 k).1) (hdg : decode cc pc = .ok (.getfield index, 3))
    (kk : W p l e R s m args below meth c H locs cells slots Q (F0 m (pc + 3) ls (v :: rest))) : W p l e R s m args below meth c H locs cells slots Q (F0 m pc ls (.ref (β (124 + q)) :: rest)) :=
  w1_get hC in_X6 (hM.desk hq hl) rfl k hk hv hlink href hdg kk
theorem deskF_set {a q f : Nat} {v : Value} {w : Int32} (h : (a = 4 ∧ f = 0 ∧ v = .int w) ∨ (a = 5 ∧ f = 1 ∧ v = .int w) ∨ (a = 6 ∧ f = 2 ∧ v = .int w) ∨ (a = 7 ∧ f = 3 ∧ v = .int w) ∨ (a = 8 ∧ f = 4 ∧ v = va_rf (qI β w)) ∨ (a = 9 ∧ f = 5 ∧ v = .int w) ∨ (a = 10 ∧ f = 6 ∧ v = .int w) ∨ (a = 11 ∧ f = 7 ∧ v = va_rf (qI β w)) ∨ (a = 12 ∧ f = 8 ∧ v = .int w)) : (deskF β μ q).set f v = deskF β (setA μ a q w) q := by
  rcases h with ⟨rfl, rfl, rfl⟩ | ⟨rfl, rfl, rfl⟩ | ⟨rfl, rfl, rfl⟩ | ⟨rfl, rfl, rfl⟩ | ⟨rfl, rfl, rfl⟩ | ⟨rfl, rfl, rfl⟩ | ⟨rfl, rfl, rfl⟩ | ⟨rfl, rfl, rfl⟩ | ⟨rfl, rfl, rfl⟩ <;> simp [deskF, sA_setA]
theorem sy_dput (hC : gC p s m args c cc own D tc) (hM : Sys D tc x mo β μ H) (hS : va_S (sy_A x mo) H0 H locs) {q : Nat} (hq : q < 32) (hl : q % 4 < dk μ (q / 4)) (a f : Nat) (ha : 4 ≤ a) (hf : f < 9) {v : Value} {w : Int32} (hset : (deskF β μ q).set f v = deskF β (setA μ a q w) q) (hlink : Cond.fieldLink own index RX6 (TX6 f).2.1 (TX6 f).2.2.1 ∈ lw_all) (href : RX6 = (TX6 f).1) (hfin : (TX6 f).2.2.2 = false) (hn : narrow (tyX6 f) v = v) (hfit : fits (tyX6 f) v = true) (hdg : decode cc pc = .ok (.putfield index, 3))
    (kk : ∀ (H1 : Heap) (locs1 : List Loc), Sys D tc x mo β (setA μ a q w) H1 → va_S (sy_A x mo) H0 H1 locs1 → W p l e R s m args below meth c H1 locs1 cells slots Q (F0 m (pc + 3) ls rest)) : W p l e R s m args below meth c H locs cells slots Q (F0 m pc ls (v :: .ref (β (124 + q)) :: rest)) :=
  w1_put hC hS in_X6 tyX6 tyX6_ok nmX6 (hM.desk hq hl) (hM.1 _ (live_dk hq hl)).2 rfl f hf hlink href hfin hn hfit hf hdg (fun H1 locs1 _ oq hP hS1 => kk H1 locs1 (hM.pD ha hq hl oq (by rw [← hset]; exact hP)) hS1)
theorem sy_miald (hC : gC p s m args c cc own D tc) (hM : Sys D tc x mo β μ H) {i v : Int32} (r : Nat) (hi : i = nI r) (hr : r < 8) (hv : sA μ 3 r = v) (hdg : decode cc pc = .ok (.iaload, 1))
    (kk : W p l e R s m args below meth c H locs cells slots Q (F0 m (pc + 1) ls (.int v :: rest))) : W p l e R s m args below meth c H locs cells slots Q (F0 m pc ls (.int i :: .ref (β 3) :: rest)) := by
  subst hv
  exact w1_iald hC hM.dmany r hi hr (by omega) hdg kk
theorem w_aald (hC : gC p s m args c cc own D tc) {k a n : Nat} {f : Nat → Option Nat} (hk : (k < 5 ∨ 8 ≤ k) ∧ k < 17) (hty : (gT k).isReference = true) (ha : va_at D vwCl (a, .inl (tc k, n, .inr (.inr (.inr (.inr f))))) H) {i : Int32} (b : Nat) (hi : i = nI b) (hb : b < n) (hn : n < 2147483648) (hdg : decode cc pc = .ok (.aaload, 1))
    (kk : W p l e R s m args below meth c H locs cells slots Q (F0 m (pc + 1) ls (va_rf (f b) :: rest))) : W p l e R s m args below meth c H locs cells slots Q (F0 m pc ls (.int i :: .ref a :: rest)) := by
  obtain ⟨h1, h2⟩ := w1_in hi hb hn
  obtain ⟨hx, hb', hts, hown, hG⟩ := hC
  have hlt : i.toNatClampNeg < n := Nat.not_le.mp fun q => h1 (Or.inr q)
  exact W.aald (v := va_rf (f b)) (ty := gT k) hx hb' ha ((hG.2 k hk.1 hk.2).1 n (fun j => va_rf (f j))) hty (fun q => by cases q) (by show ¬ (i < 0 ∨ (arrV _ _ _).slots.size ≤ _); rw [arrV_size]; exact h1) (by show (arrV _ _ _).slots[_]? = _; rw [arrV_read _ _ hlt, h2]) rfl rfl hdg kk
theorem sy_itald (hC : gC p s m args c cc own D tc) (hM : Sys D tc x mo β μ H) {i : Int32} (j : Nat) (hi : i = nI j) (hj : j < nn μ) (hn : nn μ ≤ 60) (hdg : decode cc pc = .ok (.aaload, 1))
    (kk : W p l e R s m args below meth c H locs cells slots Q (F0 m (pc + 1) ls (.ref (β (4 + j)) :: rest))) : W p l e R s m args below meth c H locs cells slots Q (F0 m pc ls (.int i :: .ref (β 1) :: rest)) := by
  refine w_aald hC (k := 13) ⟨by omega, by omega⟩ rfl hM.items j hi (by omega) (by omega) hdg ?_
  rw [show itA β μ j = some (β (4 + j)) from if_pos hj]
  exact kk
theorem sy_dkald (hC : gC p s m args c cc own D tc) (hM : Sys D tc x mo β μ H) {i : Int32} (q : Nat) (hi : i = nI q) (hq : q < 32) (hdg : decode cc pc = .ok (.aaload, 1))
    (kk : W p l e R s m args below meth c H locs cells slots Q (F0 m (pc + 1) ls (va_rf (dkA β μ q) :: rest))) : W p l e R s m args below meth c H locs cells slots Q (F0 m pc ls (.int i :: .ref (β 2) :: rest)) :=
  w_aald hC (k := 14) ⟨by omega, by omega⟩ rfl hM.desks q hi hq (by omega) hdg kk
/-- a reference is stored -/
theorem w_aast (hC : gC p s m args c cc own D tc) (hS : va_S (sy_A x mo) H0 H locs) {k a n : Nat} {f : Nat → Option Nat} (hty : (gT k).isReference = true) (ha : va_at D vwCl (a, .inl (tc k, n, .inr (.inr (.inr (.inr f))))) H) (hA : sy_A x mo a) {kA : Class} {comp : ClassId} {C C2 : String} (k1 : s.vm.classes[tc k]? = some kA) (k2 : kA.kind = .array comp (gT k)) (k3 : s.vm.findClass C2 = some comp) {v : Nat} (hr : thR s H v C) (hass : ∀ c0, s.vm.findClass C = some c0 → s.vm.assignable c0 comp = true) {i : Int32} (b : Nat) (hi : i = nI b) (hb : b < n) (hn : n < 2147483648) (hdg : decode cc pc = .ok (.aastore, 1))
    (kk : ∀ (H1 : Heap) (locs1 : List Loc), H1.size = H.size → (∀ q : Nat, q ≠ a → H1[q]? = H[q]?) → va_at D vwCl (a, .inl (tc k, n, .inr (.inr (.inr (.inr (fun j => if j = b then some v else f j)))))) H1 → va_S (sy_A x mo) H0 H1 locs1 → W p l e R s m args below meth c H1 locs1 cells slots Q (F0 m (pc + 1) ls rest)) : W p l e R s m args below meth c H locs cells slots Q (F0 m pc ls (.ref v :: .int i :: .ref a :: rest)) := by
  obtain ⟨h1, h2⟩ := w1_in hi hb hn
  obtain ⟨hx, hb', hts, hown, hG⟩ := hC
  obtain ⟨cv, g1, g2, g3⟩ := hr
  have hlt : i.toNatClampNeg < n := Nat.not_le.mp fun q => h1 (Or.inr q)
  obtain ⟨kc, hkc, -⟩ := Vm.findClass_spec k3
  obtain ⟨kv, hkv, -⟩ := Vm.findClass_spec g3
  refine W.aast hx hb' ha (fun q h => by cases h) (fun h => by cases h) k1 k2 hty hkc ⟨fun q => h1 (Or.inl q), by show _ < (arrV _ _ _).slots.size; rw [arrV_size]; exact hlt⟩ g1 (fun q h => by rw [g2] at h; cases h) hkv (hass _ g3) rfl rfl hdg fun H1 e z oq => ?_
  refine kk H1 _ z oq ?_ (hS.put z oq hA)
  show H1[a]? = some (vp_cell _ _)
  rw [e, vp_cell_q, vp_cell_q, arrV_store, h2]
  congr 2
  funext q
  by_cases hq : q = b
  · subst hq
    simp [updV, va_rf]
  · simp [updV, hq]
theorem w_aastN (hC : gC p s m args c cc own D tc) (hS : va_S (sy_A x mo) H0 H locs) {k a n : Nat} {f : Nat → Option Nat} (hk : (k < 5 ∨ 8 ≤ k) ∧ k < 17) (hty : (gT k).isReference = true) (ha : va_at D vwCl (a, .inl (tc k, n, .inr (.inr (.inr (.inr f))))) H) (hA : sy_A x mo a) {i : Int32} (b : Nat) (hi : i = nI b) (hb : b < n) (hn : n < 2147483648) (hdg : decode cc pc = .ok (.aastore, 1))
    (kk : ∀ (H1 : Heap) (locs1 : List Loc), H1.size = H.size → (∀ q : Nat, q ≠ a → H1[q]? = H[q]?) → va_at D vwCl (a, .inl (tc k, n, .inr (.inr (.inr (.inr (fun j => if j = b then none else f j)))))) H1 → va_S (sy_A x mo) H0 H1 locs1 → W p l e R s m args below meth c H1 locs1 cells slots Q (F0 m (pc + 1) ls rest)) : W p l e R s m args below meth c H locs cells slots Q (F0 m pc ls (.null :: .int i :: .ref a :: rest)) := by
  obtain ⟨h1, h2⟩ := w1_in hi hb hn
  obtain ⟨hx, hb', hts, hown, hG⟩ := hC
  have hlt : i.toNatClampNeg < n := Nat.not_le.mp fun q => h1 (Or.inr q)
  have harr := (hG.2 k hk.1 hk.2).1 n (fun j => va_rf (f j))
  have hin : ¬ (i < 0 ∨ (arrV (tc k) n (fun j => va_rf (f j))).slots.size ≤ i.toNatClampNeg) := by rw [arrV_size]; exact h1
  intro T hT X
  have hcell : T.heap[a]? = some (arrV (tc k) n (fun j => va_rf (f j))) := by rw [hT]; exact ha
  have hTa := State.isArrayOf_alike X.warmed.alike harr
  have hfit : T.fitsSlot (arrV (tc k) n (fun j => va_rf (f j))).cls (arrV (tc k) n (fun j => va_rf (f j))).vm i.toNatClampNeg .null = true := by
    obtain ⟨hobj, kk2, hk2, comp, hkind⟩ := hTa
    show T.fitsSlot (tc k) .none i.toNatClampNeg .null = true
    have hk3 : T.vm.classes[tc k]? = some kk2 := hk2
    have hf : fits (gT k) .null = true := by
      revert hty
      generalize gT k = ty
      intro hty
      cases ty <;> first | rfl | (simp [FieldType.isReference] at hty)
    simp [State.fitsSlot, State.slotType?, hk3, hkind, hf]
  have hltA : a < T.heap.size := (Array.getElem?_eq_some_iff.mp hcell).1
  obtain ⟨t, a1, b1⟩ := kk (T.setCell a ((arrV (tc k) n (fun j => va_rf (f j))).setSlot i.toNatClampNeg .null)).heap (locs ++ [⟨a, i.toNatClampNeg⟩]) (by rw [size_setCell, hT]) (fun q hq => by rw [heapAt_setCell_ne _ (Ne.symm hq), hT]) (by
      show _ = some (vp_cell _ _)
      rw [heapAt_setCell_self _ hltA, vp_cell_q, arrV_store, h2]
      congr 2
      funext q
      by_cases hq : q = b
      · subst hq
        simp [updV, va_rf]
      · simp [updV, hq]) (hS.put (by rw [size_setCell, hT]) (fun q hq => by rw [heapAt_setCell_ne _ (Ne.symm hq), hT]) hA) _ rfl (X.stored hcell _ _)
  refine ⟨t, ?_, b1⟩
  subst hb'
  jvm_step X.here [hx, hdg]
  refine aastore.wp_of_null (c := arrV (tc k) n (fun j => va_rf (f j))) (t := gT k) X.here.top rfl hcell hTa hin (fun h => by cases h) (Nat.not_le.mp fun q => hin (Or.inr q)) hfit ?_
  intro acts
  rw [afterInstr_ok]
  exact a1

theorem sy_cald (hC : gC p s m args c cc own D tc) (hM : Sys D tc x mo β μ H) {j : Nat} (hj : j < nn μ) (hn : nn μ ≤ 60) (hk : kd μ j = 0) (h3 : sz μ j ≤ 3) {i : Int32} (b : Nat) (hi : i = nI b) (hb : b < sz μ j) (hdg : decode cc pc = .ok (.caload, 1))
    (kk : W p l e R s m args below meth c H locs cells slots Q (F0 m (pc + 1) ls (.int (sC μ (3 * j + b)).toInt32 :: rest))) : W p l e R s m args below meth c H locs cells slots Q (F0 m pc ls (.int i :: .ref (β (64 + j)) :: rest)) := by
  have h := hM.thing hj hn
  rw [th_num hk (by decide) rfl] at h
  obtain ⟨h1, h2⟩ := w1_in hi hb (by omega)
  refine va_cald hC.1 hC.2.1 (hC.2.2.2.2.k 0 (by omega) (by omega)) (va_P1 h) 0 0 rfl rfl h1 hdg ?_
  rw [h2, cT_lt (by omega)]
  exact kk
theorem sy_cast (hC : gC p s m args c cc own D tc) (hM : Sys D tc x mo β μ H) (hS : va_S (sy_A x mo) H0 H locs) {j : Nat} (hj : j < nn μ) (hn : nn μ ≤ 60) (hk : kd μ j = 0) (h3 : sz μ j ≤ 3) {i y : Int32} {w : Int64} (b : Nat) (hi : i = nI b) (hb : b < sz μ j) (hw : narrow .char (.int y) = .int w.toInt32) (hdg : decode cc pc = .ok (.castore, 1))
    (kk : ∀ (H1 : Heap) (locs1 : List Loc), Sys D tc x mo β (setC μ (3 * j + b) w) H1 → va_S (sy_A x mo) H0 H1 locs1 → W p l e R s m args below meth c H1 locs1 cells slots Q (F0 m (pc + 1) ls rest)) : W p l e R s m args below meth c H locs cells slots Q (F0 m pc ls (.int y :: .int i :: .ref (β (64 + j)) :: rest)) := by
  have h := hM.thing hj hn
  rw [th_num hk (by decide) rfl] at h
  obtain ⟨h1, h2⟩ := w1_in hi hb (by omega)
  obtain ⟨hx, hb', hts, hown, hG⟩ := hC
  refine W.cast hx hb' h ((hG.2 0 (by omega) (by omega)).1 (sz μ j) (fun i => .int (cT μ j i).toInt32)) (fun q => by cases q) (by show ¬ (i < 0 ∨ (arrV _ _ _).slots.size ≤ _); rw [arrV_size]; exact h1) rfl rfl hdg fun H1 e z oq => ?_
  refine kk H1 _ (hM.pC (by omega) hj hn oq ?_) (hS.put z oq (hM.1 _ (live_th hj hn)).2)
  rw [th_num (show kd (setC μ (3 * j + b) w) j = 0 from hk) (by decide) rfl, cT_setC (by omega), if_pos rfl]
  show H1[β (64 + j)]? = some (vp_cell _ _)
  rw [e, hw, vp_cell_i, vp_cell_i, arrV_store, h2]
  congr 2
  funext q
  by_cases hq : q = b
  · subst hq
    simp [updV]
  · simp [updV, hq]
theorem sy_caldZ (hC : gC p s m args c cc own D tc) (hM : Sys D tc x mo β μ H) {j : Nat} (hj : j < nn μ) (hn : nn μ ≤ 60) (hk : kd μ j = 0) (h3 : sz μ j ≤ 3) {i : Int32} (ho : ¬ vp_in i (sz μ j)) (hdg : decode cc pc = .ok (.caload, 1))
    (kk : ∀ tx : String, (stringBytes (stringToUtf16 tx)).size ≤ 990 → (tx == notModelled) = false → vx_Note p l e R s m args below meth c H locs cells slots Q (F0 m pc ls rest) (exn 1) tx) : W p l e R s m args below meth c H locs cells slots Q (F0 m pc ls (.int i :: .ref (β (64 + j)) :: rest)) := by
  have h := hM.thing hj hn
  rw [th_num hk (by decide) rfl] at h
  refine vx_caldZ hC.1 hC.2.1 (hC.2.2.2.2.k 0 (by omega) (by omega)) (va_P1 h) 0 0 rfl rfl ho hdg (fun tx e => ?_)
  subst e
  exact kk _ (Nat.le_trans (index_text_bytes i (n := sz μ j) (by omega)) (by omega)) (index_text_modelled i (sz μ j))
theorem sy_castZ (hC : gC p s m args c cc own D tc) (hM : Sys D tc x mo β μ H) {j : Nat} (hj : j < nn μ) (hn : nn μ ≤ 60) (hk : kd μ j = 0) (h3 : sz μ j ≤ 3) {i y : Int32} (ho : ¬ vp_in i (sz μ j)) (hdg : decode cc pc = .ok (.castore, 1))
    (kk : ∀ tx : String, (stringBytes (stringToUtf16 tx)).size ≤ 990 → (tx == notModelled) = false → vx_Note p l e R s m args below meth c H locs cells slots Q (F0 m pc ls rest) (exn 1) tx) : W p l e R s m args below meth c H locs cells slots Q (F0 m pc ls (.int y :: .int i :: .ref (β (64 + j)) :: rest)) := by
  have h := hM.thing hj hn
  rw [th_num hk (by decide) rfl] at h
  refine vx_castZ hC.1 hC.2.1 (hC.2.2.2.2.k 0 (by omega) (by omega)) (va_P1 h) 0 0 rfl rfl ho hdg (fun tx e => ?_)
  subst e
  exact kk _ (Nat.le_trans (index_text_bytes i (n := sz μ j) (by omega)) (by omega)) (index_text_modelled i (sz μ j))

theorem sy_sald (hC : gC p s m args c cc own D tc) (hM : Sys D tc x mo β μ H) {j : Nat} (hj : j < nn μ) (hn : nn μ ≤ 60) (hk : kd μ j = 1) (h3 : sz μ j ≤ 3) {i : Int32} (b : Nat) (hi : i = nI b) (hb : b < sz μ j) (hdg : decode cc pc = .ok (.saload, 1))
    (kk : W p l e R s m args below meth c H locs cells slots Q (F0 m (pc + 1) ls (.int (sC μ (3 * j + b)).toInt32 :: rest))) : W p l e R s m args below meth c H locs cells slots Q (F0 m pc ls (.int i :: .ref (β (64 + j)) :: rest)) := by
  have h := hM.thing hj hn
  rw [th_num hk (by decide) rfl] at h
  obtain ⟨h1, h2⟩ := w1_in hi hb (by omega)
  refine va_sald hC.1 hC.2.1 (hC.2.2.2.2.k 1 (by omega) (by omega)) (va_P1 h) 0 0 rfl rfl h1 hdg ?_
  rw [h2, cT_lt (by omega)]
  exact kk
theorem sy_sast (hC : gC p s m args c cc own D tc) (hM : Sys D tc x mo β μ H) (hS : va_S (sy_A x mo) H0 H locs) {j : Nat} (hj : j < nn μ) (hn : nn μ ≤ 60) (hk : kd μ j = 1) (h3 : sz μ j ≤ 3) {i y : Int32} {w : Int64} (b : Nat) (hi : i = nI b) (hb : b < sz μ j) (hw : narrow .short (.int y) = .int w.toInt32) (hdg : decode cc pc = .ok (.sastore, 1))
    (kk : ∀ (H1 : Heap) (locs1 : List Loc), Sys D tc x mo β (setC μ (3 * j + b) w) H1 → va_S (sy_A x mo) H0 H1 locs1 → W p l e R s m args below meth c H1 locs1 cells slots Q (F0 m (pc + 1) ls rest)) : W p l e R s m args below meth c H locs cells slots Q (F0 m pc ls (.int y :: .int i :: .ref (β (64 + j)) :: rest)) := by
  have h := hM.thing hj hn
  rw [th_num hk (by decide) rfl] at h
  obtain ⟨h1, h2⟩ := w1_in hi hb (by omega)
  obtain ⟨hx, hb', hts, hown, hG⟩ := hC
  refine W.sast hx hb' h ((hG.2 1 (by omega) (by omega)).1 (sz μ j) (fun i => .int (cT μ j i).toInt32)) (fun q => by cases q) (by show ¬ (i < 0 ∨ (arrV _ _ _).slots.size ≤ _); rw [arrV_size]; exact h1) rfl rfl hdg fun H1 e z oq => ?_
  refine kk H1 _ (hM.pC (by omega) hj hn oq ?_) (hS.put z oq (hM.1 _ (live_th hj hn)).2)
  rw [th_num (show kd (setC μ (3 * j + b) w) j = 1 from hk) (by decide) rfl, cT_setC (by omega), if_pos rfl]
  show H1[β (64 + j)]? = some (vp_cell _ _)
  rw [e, hw, vp_cell_i, vp_cell_i, arrV_store, h2]
  congr 2
  funext q
  by_cases hq : q = b
  · subst hq
    simp [updV]
  · simp [updV, hq]
theorem sy_saldZ (hC : gC p s m args c cc own D tc) (hM : Sys D tc x mo β μ H) {j : Nat} (hj : j < nn μ) (hn : nn μ ≤ 60) (hk : kd μ j = 1) (h3 : sz μ j ≤ 3) {i : Int32} (ho : ¬ vp_in i (sz μ j)) (hdg : decode cc pc = .ok (.saload, 1))
    (kk : ∀ tx : String, (stringBytes (stringToUtf16 tx)).size ≤ 990 → (tx == notModelled) = false → vx_Note p l e R s m args below meth c H locs cells slots Q (F0 m pc ls rest) (exn 1) tx) : W p l e R s m args below meth c H locs cells slots Q (F0 m pc ls (.int i :: .ref (β (64 + j)) :: rest)) := by
  have h := hM.thing hj hn
  rw [th_num hk (by decide) rfl] at h
  refine vx_saldZ hC.1 hC.2.1 (hC.2.2.2.2.k 1 (by omega) (by omega)) (va_P1 h) 0 0 rfl rfl ho hdg (fun tx e => ?_)
  subst e
  exact kk _ (Nat.le_trans (index_text_bytes i (n := sz μ j) (by omega)) (by omega)) (index_text_modelled i (sz μ j))
theorem sy_sastZ (hC : gC p s m args c cc own D tc) (hM : Sys D tc x mo β μ H) {j : Nat} (hj : j < nn μ) (hn : nn μ ≤ 60) (hk : kd μ j = 1) (h3 : sz μ j ≤ 3) {i y : Int32} (ho : ¬ vp_in i (sz μ j)) (hdg : decode cc pc = .ok (.sastore, 1))
    (kk : ∀ tx : String, (stringBytes (stringToUtf16 tx)).size ≤ 990 → (tx == notModelled) = false → vx_Note p l e R s m args below meth c H locs cells slots Q (F0 m pc ls rest) (exn 1) tx) : W p l e R s m args below meth c H locs cells slots Q (F0 m pc ls (.int y :: .int i :: .ref (β (64 + j)) :: rest)) := by
  have h := hM.thing hj hn
  rw [th_num hk (by decide) rfl] at h
  refine vx_sastZ hC.1 hC.2.1 (hC.2.2.2.2.k 1 (by omega) (by omega)) (va_P1 h) 0 0 rfl rfl ho hdg (fun tx e => ?_)
  subst e
  exact kk _ (Nat.le_trans (index_text_bytes i (n := sz μ j) (by omega)) (by omega)) (index_text_modelled i (sz μ j))

theorem sy_zald (hC : gC p s m args c cc own D tc) (hM : Sys D tc x mo β μ H) {j : Nat} (hj : j < nn μ) (hn : nn μ ≤ 60) (hk : kd μ j = 3) (h3 : sz μ j ≤ 3) {i : Int32} (b : Nat) (hi : i = nI b) (hb : b < sz μ j) (hdg : decode cc pc = .ok (.baload, 1))
    (kk : W p l e R s m args below meth c H locs cells slots Q (F0 m (pc + 1) ls (.int (sC μ (3 * j + b)).toInt32 :: rest))) : W p l e R s m args below meth c H locs cells slots Q (F0 m pc ls (.int i :: .ref (β (64 + j)) :: rest)) := by
  have h := hM.thing hj hn
  rw [th_num hk (by decide) rfl] at h
  obtain ⟨h1, h2⟩ := w1_in hi hb (by omega)
  refine va_zald hC.1 hC.2.1 (hC.2.2.2.2.k 3 (by omega) (by omega)) (va_P1 h) 0 0 rfl rfl h1 hdg ?_
  rw [h2, cT_lt (by omega)]
  exact kk
theorem sy_zast (hC : gC p s m args c cc own D tc) (hM : Sys D tc x mo β μ H) (hS : va_S (sy_A x mo) H0 H locs) {j : Nat} (hj : j < nn μ) (hn : nn μ ≤ 60) (hk : kd μ j = 3) (h3 : sz μ j ≤ 3) {i y : Int32} {w : Int64} (b : Nat) (hi : i = nI b) (hb : b < sz μ j) (hw : narrow .boolean (.int y) = .int w.toInt32) (hdg : decode cc pc = .ok (.bastore, 1))
    (kk : ∀ (H1 : Heap) (locs1 : List Loc), Sys D tc x mo β (setC μ (3 * j + b) w) H1 → va_S (sy_A x mo) H0 H1 locs1 → W p l e R s m args below meth c H1 locs1 cells slots Q (F0 m (pc + 1) ls rest)) : W p l e R s m args below meth c H locs cells slots Q (F0 m pc ls (.int y :: .int i :: .ref (β (64 + j)) :: rest)) := by
  have h := hM.thing hj hn
  rw [th_num hk (by decide) rfl] at h
  obtain ⟨h1, h2⟩ := w1_in hi hb (by omega)
  obtain ⟨hx, hb', hts, hown, hG⟩ := hC
  refine W.zast hx hb' h ((hG.2 3 (by omega) (by omega)).1 (sz μ j) (fun i => .int (cT μ j i).toInt32)) (fun q => by cases q) (by show ¬ (i < 0 ∨ (arrV _ _ _).slots.size ≤ _); rw [arrV_size]; exact h1) rfl rfl hdg fun H1 e z oq => ?_
  refine kk H1 _ (hM.pC (by omega) hj hn oq ?_) (hS.put z oq (hM.1 _ (live_th hj hn)).2)
  rw [th_num (show kd (setC μ (3 * j + b) w) j = 3 from hk) (by decide) rfl, cT_setC (by omega), if_pos rfl]
  show H1[β (64 + j)]? = some (vp_cell _ _)
  rw [e, hw, vp_cell_i, vp_cell_i, arrV_store, h2]
  congr 2
  funext q
  by_cases hq : q = b
  · subst hq
    simp [updV]
  · simp [updV, hq]
theorem sy_zaldZ (hC : gC p s m args c cc own D tc) (hM : Sys D tc x mo β μ H) {j : Nat} (hj : j < nn μ) (hn : nn μ ≤ 60) (hk : kd μ j = 3) (h3 : sz μ j ≤ 3) {i : Int32} (ho : ¬ vp_in i (sz μ j)) (hdg : decode cc pc = .ok (.baload, 1))
    (kk : ∀ tx : String, (stringBytes (stringToUtf16 tx)).size ≤ 990 → (tx == notModelled) = false → vx_Note p l e R s m args below meth c H locs cells slots Q (F0 m pc ls rest) (exn 1) tx) : W p l e R s m args below meth c H locs cells slots Q (F0 m pc ls (.int i :: .ref (β (64 + j)) :: rest)) := by
  have h := hM.thing hj hn
  rw [th_num hk (by decide) rfl] at h
  refine vx_zaldZ hC.1 hC.2.1 (hC.2.2.2.2.k 3 (by omega) (by omega)) (va_P1 h) 0 0 rfl rfl ho hdg (fun tx e => ?_)
  subst e
  exact kk _ (Nat.le_trans (index_text_bytes i (n := sz μ j) (by omega)) (by omega)) (index_text_modelled i (sz μ j))
theorem sy_zastZ (hC : gC p s m args c cc own D tc) (hM : Sys D tc x mo β μ H) {j : Nat} (hj : j < nn μ) (hn : nn μ ≤ 60) (hk : kd μ j = 3) (h3 : sz μ j ≤ 3) {i y : Int32} (ho : ¬ vp_in i (sz μ j)) (hdg : decode cc pc = .ok (.bastore, 1))
    (kk : ∀ tx : String, (stringBytes (stringToUtf16 tx)).size ≤ 990 → (tx == notModelled) = false → vx_Note p l e R s m args below meth c H locs cells slots Q (F0 m pc ls rest) (exn 1) tx) : W p l e R s m args below meth c H locs cells slots Q (F0 m pc ls (.int y :: .int i :: .ref (β (64 + j)) :: rest)) := by
  have h := hM.thing hj hn
  rw [th_num hk (by decide) rfl] at h
  refine vx_zastZ hC.1 hC.2.1 (hC.2.2.2.2.k 3 (by omega) (by omega)) (va_P1 h) 0 0 rfl rfl ho hdg (fun tx e => ?_)
  subst e
  exact kk _ (Nat.le_trans (index_text_bytes i (n := sz μ j) (by omega)) (by omega)) (index_text_modelled i (sz μ j))

theorem sy_dald (hC : gC p s m args c cc own D tc) (hM : Sys D tc x mo β μ H) {j : Nat} (hj : j < nn μ) (hn : nn μ ≤ 60) (hk : kd μ j = 2) (h3 : sz μ j ≤ 3) {i : Int32} (b : Nat) (hi : i = nI b) (hb : b < sz μ j) (hdg : decode cc pc = .ok (.daload, 1))
    (kk : W p l e R s m args below meth c H locs cells slots Q (F0 m (pc + 1) ls (.double (dE (sC μ (3 * j + b))) :: rest))) : W p l e R s m args below meth c H locs cells slots Q (F0 m pc ls (.int i :: .ref (β (64 + j)) :: rest)) := by
  have h := hM.thing hj hn
  rw [th_dbl hk] at h
  obtain ⟨h1, h2⟩ := w1_in hi hb (by omega)
  refine va_dald hC.1 hC.2.1 (hC.2.2.2.2.k 2 (by omega) (by omega)) (va_P1 h) 0 0 rfl rfl h1 hdg ?_
  rw [h2, cT_lt (by omega)]
  exact kk
theorem sy_dast (hC : gC p s m args c cc own D tc) (hM : Sys D tc x mo β μ H) (hS : va_S (sy_A x mo) H0 H locs) {j : Nat} (hj : j < nn μ) (hn : nn μ ≤ 60) (hk : kd μ j = 2) (h3 : sz μ j ≤ 3) {i : Int32} {y : UInt64} {w : Int64} (b : Nat) (hi : i = nI b) (hb : b < sz μ j) (hw : y = dE w) (hdg : decode cc pc = .ok (.dastore, 1))
    (kk : ∀ (H1 : Heap) (locs1 : List Loc), Sys D tc x mo β (setC μ (3 * j + b) w) H1 → va_S (sy_A x mo) H0 H1 locs1 → W p l e R s m args below meth c H1 locs1 cells slots Q (F0 m (pc + 1) ls rest)) : W p l e R s m args below meth c H locs cells slots Q (F0 m pc ls (.double y :: .int i :: .ref (β (64 + j)) :: rest)) := by
  subst hw
  have h := hM.thing hj hn
  rw [th_dbl hk] at h
  obtain ⟨h1, h2⟩ := w1_in hi hb (by omega)
  obtain ⟨hx, hb', hts, hown, hG⟩ := hC
  refine W.dast hx hb' h ((hG.2 2 (by omega) (by omega)).1 (sz μ j) (fun i => .double (dE (cT μ j i)))) (fun q => by cases q) (by show ¬ (i < 0 ∨ (arrV _ _ _).slots.size ≤ _); rw [arrV_size]; exact h1) rfl rfl hdg fun H1 e z oq => ?_
  refine kk H1 _ (hM.pC (by omega) hj hn oq ?_) (hS.put z oq (hM.1 _ (live_th hj hn)).2)
  rw [th_dbl (show kd (setC μ (3 * j + b) w) j = 2 from hk), cT_setC (by omega), if_pos rfl]
  show H1[β (64 + j)]? = some (vp_cell _ _)
  rw [e, vp_cell_d, vp_cell_d, arrV_store, h2]
  congr 2
  funext q
  by_cases hq : q = b
  · subst hq
    simp [updV]
  · simp [updV, hq]
theorem sy_daldZ (hC : gC p s m args c cc own D tc) (hM : Sys D tc x mo β μ H) {j : Nat} (hj : j < nn μ) (hn : nn μ ≤ 60) (hk : kd μ j = 2) (h3 : sz μ j ≤ 3) {i : Int32} (ho : ¬ vp_in i (sz μ j)) (hdg : decode cc pc = .ok (.daload, 1))
    (kk : ∀ tx : String, (stringBytes (stringToUtf16 tx)).size ≤ 990 → (tx == notModelled) = false → vx_Note p l e R s m args below meth c H locs cells slots Q (F0 m pc ls rest) (exn 1) tx) : W p l e R s m args below meth c H locs cells slots Q (F0 m pc ls (.int i :: .ref (β (64 + j)) :: rest)) := by
  have h := hM.thing hj hn
  rw [th_dbl hk] at h
  refine vx_daldZ hC.1 hC.2.1 (hC.2.2.2.2.k 2 (by omega) (by omega)) (va_P1 h) 0 0 rfl rfl ho hdg (fun tx e => ?_)
  subst e
  exact kk _ (Nat.le_trans (index_text_bytes i (n := sz μ j) (by omega)) (by omega)) (index_text_modelled i (sz μ j))
theorem sy_dastZ (hC : gC p s m args c cc own D tc) (hM : Sys D tc x mo β μ H) {j : Nat} (hj : j < nn μ) (hn : nn μ ≤ 60) (hk : kd μ j = 2) (h3 : sz μ j ≤ 3) {i : Int32} {y : UInt64} (ho : ¬ vp_in i (sz μ j)) (hdg : decode cc pc = .ok (.dastore, 1))
    (kk : ∀ tx : String, (stringBytes (stringToUtf16 tx)).size ≤ 990 → (tx == notModelled) = false → vx_Note p l e R s m args below meth c H locs cells slots Q (F0 m pc ls rest) (exn 1) tx) : W p l e R s m args below meth c H locs cells slots Q (F0 m pc ls (.double y :: .int i :: .ref (β (64 + j)) :: rest)) := by
  have h := hM.thing hj hn
  rw [th_dbl hk] at h
  refine vx_dastZ hC.1 hC.2.1 (hC.2.2.2.2.k 2 (by omega) (by omega)) (va_P1 h) 0 0 rfl rfl ho hdg (fun tx e => ?_)
  subst e
  exact kk _ (Nat.le_trans (index_text_bytes i (n := sz μ j) (by omega)) (by omega)) (index_text_modelled i (sz μ j))
theorem gT_ref {k : Nat} (h : k = 4 ∨ (8 ≤ k ∧ k < 13)) : (gT k).isReference = true := by
  rcases (by omega : k = 4 ∨ k = 8 ∨ k = 9 ∨ k = 10 ∨ k = 11 ∨ k = 12) with rfl | rfl | rfl | rfl | rfl | rfl <;> rfl
theorem row_no {k : Nat} (h : k = 4 ∨ (8 ≤ k ∧ k < 13)) : k ≠ 2 ∧ numN k = false ∧ oneN k = false := by
  rcases (by omega : k = 4 ∨ k = 8 ∨ k = 9 ∨ k = 10 ∨ k = 11 ∨ k = 12) with rfl | rfl | rfl | rfl | rfl | rfl <;> exact ⟨by decide, rfl, rfl⟩
theorem Sys.row (h : Sys D tc x mo β μ H) {j k : Nat} (hj : j < nn μ) (hn : nn μ ≤ 60) (hk : kd μ j = k) (hr : k = 4 ∨ (8 ≤ k ∧ k < 13)) : va_at D vwCl (β (64 + j), .inl (tc k, sz μ j, .inr (.inr (.inr (.inr fun i => qT β (cT μ j i)))))) H := by
  obtain ⟨a, b, c⟩ := row_no hr
  have := h.thing hj hn
  rw [th_row hk a b c] at this
  exact this
theorem Sys.pR (h : Sys D tc x mo β μ H) {j k b : Nat} {w : Int64} (hj : j < nn μ) (hn : nn μ ≤ 60) (hk : kd μ j = k) (hr : k = 4 ∨ (8 ≤ k ∧ k < 13)) (hb : b < 3) {H1 : Heap} (oq : ∀ q : Nat, q ≠ β (64 + j) → H1[q]? = H[q]?) (hP : va_at D vwCl (β (64 + j), .inl (tc k, sz μ j, .inr (.inr (.inr (.inr (fun i => if i = b then qT β w else qT β (cT μ j i))))))) H1) : Sys D tc x mo β (setC μ (3 * j + b) w) H1 := by
  obtain ⟨a1, b1, c1⟩ := row_no hr
  refine h.pC hb hj hn oq ?_
  rw [th_row (show kd (setC μ (3 * j + b) w) j = k from hk) a1 b1 c1, cT_setC hb, if_pos rfl]
  have e : (fun i => qT β (if i = b then w else cT μ j i)) = (fun i => if i = b then qT β w else qT β (cT μ j i)) := by
    funext i
    split <;> rfl
  rw [e]
  exact hP
theorem sy_aald (hC : gC p s m args c cc own D tc) (hM : Sys D tc x mo β μ H) {j k : Nat} (hj : j < nn μ) (hn : nn μ ≤ 60) (hk : kd μ j = k) (hr : k = 4 ∨ (8 ≤ k ∧ k < 13)) (h3 : sz μ j ≤ 3) {i : Int32} (b : Nat) (hi : i = nI b) (hb : b < sz μ j) (hdg : decode cc pc = .ok (.aaload, 1))
    (kk : W p l e R s m args below meth c H locs cells slots Q (F0 m (pc + 1) ls (va_rf (qT β (sC μ (3 * j + b))) :: rest))) : W p l e R s m args below meth c H locs cells slots Q (F0 m pc ls (.int i :: .ref (β (64 + j)) :: rest)) := by
  refine w_aald hC ⟨by omega, by omega⟩ (gT_ref hr) (hM.row hj hn hk hr) b hi hb (by omega) hdg ?_
  rw [cT_lt (by omega)]
  exact kk
theorem sy_aaldZ (hC : gC p s m args c cc own D tc) (hM : Sys D tc x mo β μ H) {j k : Nat} (hj : j < nn μ) (hn : nn μ ≤ 60) (hk : kd μ j = k) (hr : k = 4 ∨ (8 ≤ k ∧ k < 13)) (h3 : sz μ j ≤ 3) {i : Int32} (ho : ¬ vp_in i (sz μ j)) (hdg : decode cc pc = .ok (.aaload, 1))
    (kk : ∀ tx : String, (stringBytes (stringToUtf16 tx)).size ≤ 990 → (tx == notModelled) = false → vx_Note p l e R s m args below meth c H locs cells slots Q (F0 m pc ls rest) (exn 1) tx) : W p l e R s m args below meth c H locs cells slots Q (F0 m pc ls (.int i :: .ref (β (64 + j)) :: rest)) := by
  have h := hM.row hj hn hk hr
  obtain ⟨hx, hb', hts, hown, hG⟩ := hC
  intro T hT X
  obtain ⟨t, st, q⟩ := kk _ (Nat.le_trans (index_text_bytes i (n := sz μ j) (by omega)) (by omega)) (index_text_modelled i (sz μ j)) T hT X
  refine ⟨t, ?_, q⟩
  have h1 := X.aaloadOut hx (by rw [hT]; exact h) ((hG.2 k (by omega) (by omega)).1 (sz μ j) (fun i => va_rf (qT β (cT μ j i)))) (j := i) (by show (i < 0 ∨ (arrV _ _ _).slots.size ≤ _); rw [arrV_size]; exact Classical.byContradiction ho) (g := F0 m pc ls (.int i :: .ref (β (64 + j)) :: rest)) rfl (rest := rest) rfl (by rw [hb']; exact hdg) t
  simp only [arrV_size] at h1
  exact h1 st
theorem sy_aastZ (hC : gC p s m args c cc own D tc) (hM : Sys D tc x mo β μ H) {j k : Nat} (hj : j < nn μ) (hn : nn μ ≤ 60) (hk : kd μ j = k) (hr : k = 4 ∨ (8 ≤ k ∧ k < 13)) (h3 : sz μ j ≤ 3) {i : Int32} {o : Option Nat} (ho : ¬ vp_in i (sz μ j)) (hdg : decode cc pc = .ok (.aastore, 1))
    (kk : ∀ tx : String, (stringBytes (stringToUtf16 tx)).size ≤ 990 → (tx == notModelled) = false → vx_Note p l e R s m args below meth c H locs cells slots Q (F0 m pc ls rest) (exn 1) tx) : W p l e R s m args below meth c H locs cells slots Q (F0 m pc ls (va_rf o :: .int i :: .ref (β (64 + j)) :: rest)) := by
  have h := hM.row hj hn hk hr
  obtain ⟨hx, hb', hts, hown, hG⟩ := hC
  intro T hT X
  obtain ⟨t, st, q⟩ := kk _ (Nat.le_trans (index_text_bytes i (n := sz μ j) (by omega)) (by omega)) (index_text_modelled i (sz μ j)) T hT X
  refine ⟨t, ?_, q⟩
  have h1 := X.aastoreOut hx (v := va_rf o) (by cases o <;> rfl) (by rw [hT]; exact h) ((hG.2 k (by omega) (by omega)).1 (sz μ j) (fun i => va_rf (qT β (cT μ j i)))) (j := i) (by show (i < 0 ∨ (arrV _ _ _).slots.size ≤ _); rw [arrV_size]; exact Classical.byContradiction ho) (g := F0 m pc ls (va_rf o :: .int i :: .ref (β (64 + j)) :: rest)) rfl (rest := rest) rfl (by rw [hb']; exact hdg) t
  simp only [arrV_size] at h1
  exact h1 st
/-- a thing is laid where it may lie -/
theorem sy_aast (hC : gC p s m args c cc own D tc) (hX : gS0 s) (hM : Sys D tc x mo β μ H) (hS : va_S (sy_A x mo) H0 H locs) {j k t : Nat} (hj : j < nn μ) (hn : nn μ ≤ 60) (hk : kd μ j = k) (hr : k = 4 ∨ (8 ≤ k ∧ k < 13)) (h3 : sz μ j ≤ 3) (ht : t < nn μ) (hkt : kd μ t ≤ 12) (hg : goesN (kd μ t) (holdN k) = true) (hf : holdN k < 14) {i : Int32} (b : Nat) (hi : i = nI b) (hb : b < sz μ j) (hdg : decode cc pc = .ok (.aastore, 1))
    (kk : ∀ (H1 : Heap) (locs1 : List Loc), Sys D tc x mo β (setC μ (3 * j + b) (lN t)) H1 → va_S (sy_A x mo) H0 H1 locs1 → W p l e R s m args below meth c H1 locs1 cells slots Q (F0 m (pc + 1) ls rest)) : W p l e R s m args below meth c H locs cells slots Q (F0 m pc ls (.ref (β (64 + t)) :: .int i :: .ref (β (64 + j)) :: rest)) := by
  obtain ⟨kA, comp, k1, k2, k3⟩ := comp_of hC.2.2.2.2 hX hr
  refine w_aast hC hS (gT_ref hr) (hM.row hj hn hk hr) (hM.1 _ (live_th hj hn)).2 k1 k2 k3 (sy_thR hC.2.2.2.2 hM ht hn hkt) (fun c0 hc0 => ?_) b hi hb (by omega) hdg (fun H1 locs1 _ oq hP hS1 => kk H1 locs1 (hM.pR hj hn hk hr (by omega) oq (by rw [qT_N (by omega)]; exact hP)) hS1)
  obtain ⟨c1, t1, e1, e2, e3⟩ := hX.2.1 (kd μ t) (holdN k) (by omega) hf
  cases hc0.symm.trans e1
  cases k3.symm.trans e2
  rw [e3, hg]
theorem sy_aastN (hC : gC p s m args c cc own D tc) (hM : Sys D tc x mo β μ H) (hS : va_S (sy_A x mo) H0 H locs) {j k : Nat} (hj : j < nn μ) (hn : nn μ ≤ 60) (hk : kd μ j = k) (hr : k = 4 ∨ (8 ≤ k ∧ k < 13)) (h3 : sz μ j ≤ 3) {i : Int32} (b : Nat) (hi : i = nI b) (hb : b < sz μ j) (hdg : decode cc pc = .ok (.aastore, 1))
    (kk : ∀ (H1 : Heap) (locs1 : List Loc), Sys D tc x mo β (setC μ (3 * j + b) (-1)) H1 → va_S (sy_A x mo) H0 H1 locs1 → W p l e R s m args below meth c H1 locs1 cells slots Q (F0 m (pc + 1) ls rest)) : W p l e R s m args below meth c H locs cells slots Q (F0 m pc ls (.null :: .int i :: .ref (β (64 + j)) :: rest)) :=
  w_aastN hC hS ⟨by omega, by omega⟩ (gT_ref hr) (hM.row hj hn hk hr) (hM.1 _ (live_th hj hn)).2 b hi hb (by omega) hdg (fun H1 locs1 _ oq hP hS1 => kk H1 locs1 (hM.pR hj hn hk hr (by omega) oq (by rw [qT_m1]; exact hP)) hS1)
/-- .. and where it may not: ArrayStoreException -/
theorem sy_aastB (hC : gC p s m args c cc own D tc) (hX : gS0 s) (hM : Sys D tc x mo β μ H) {j k t : Nat} (hj : j < nn μ) (hn : nn μ ≤ 60) (hk : kd μ j = k) (hr : k = 4 ∨ (8 ≤ k ∧ k < 13)) (h3 : sz μ j ≤ 3) (ht : t < nn μ) (hkt : kd μ t ≤ 12) (hg : goesN (kd μ t) (holdN k) = false) (hf : holdN k < 14) {i : Int32} (b : Nat) (hi : i = nI b) (hb : b < sz μ j) (hdg : decode cc pc = .ok (.aastore, 1))
    (kk : ∀ tx : String, (stringBytes (stringToUtf16 tx)).size ≤ 990 → (tx == notModelled) = false → vx_Note p l e R s m args below meth c H locs cells slots Q (F0 m pc ls rest) (exn 2) tx) : W p l e R s m args below meth c H locs cells slots Q (F0 m pc ls (.ref (β (64 + t)) :: .int i :: .ref (β (64 + j)) :: rest)) := by
  obtain ⟨kA, comp, k1, k2, k3⟩ := comp_of hC.2.2.2.2 hX hr
  refine w_aastNo hC hX (k := kd μ t) (by omega) (hM.row hj hn hk hr) (sy_thR hC.2.2.2.2 hM ht hn hkt) k1 k2 k3 (fun c0 hc0 => ?_) (w1_in hi hb (by omega)).1 hdg kk
  obtain ⟨c1, t1, e1, e2, e3⟩ := hX.2.1 (kd μ t) (holdN k) (by omega) hf
  cases hc0.symm.trans e1
  cases k3.symm.trans e2
  rw [e3, hg]
theorem sy_alen (hC : gC p s m args c cc own D tc) (hM : Sys D tc x mo β μ H) {j : Nat} (hj : j < nn μ) (hn : nn μ ≤ 60) (hk : kd μ j ≤ 12) (ho : oneN (kd μ j) = false) (hdg : decode cc pc = .ok (.arraylength, 1))
    (kk : W p l e R s m args below meth c H locs cells slots Q (F0 m (pc + 1) ls (.int (nI (sz μ j)) :: rest))) : W p l e R s m args below meth c H locs cells slots Q (F0 m pc ls (.ref (β (64 + j)) :: rest)) := by
  have h := hM.thing hj hn
  by_cases c2 : kd μ j = 2
  · rw [th_dbl c2] at h
    exact va_alen hC.1 hC.2.1 (hC.2.2.2.2.k 2 (by omega) (by omega)) (va_P1 h) 0 0 rfl rfl rfl hdg kk
  cases cn : numN (kd μ j) with
  | true =>
    rw [th_num rfl c2 cn] at h
    have := kd_num cn
    exact va_alen hC.1 hC.2.1 (hC.2.2.2.2.k (kd μ j) (by omega) (by omega)) (va_P1 h) 0 0 rfl rfl rfl hdg kk
  | false =>
    rw [th_row rfl c2 cn ho] at h
    have := kd_row cn ho hk
    exact va_alen hC.1 hC.2.1 (hC.2.2.2.2.k (kd μ j) (by omega) (by omega)) (va_P1 h) 0 0 rfl rfl rfl hdg kk
/-! values that may be null -/
theorem q_aload (hx : p.tables.exec = Jvm.exec) (hb : c.code = cc) {i k n : Nat} {o : Option Nat} {lv : List (Nat × Value)} (hdg : decode cc pc = .ok (.aload i, 2)) (h : ls[i]? = some (.val (va_rf o)))
    (kk : W p l e R s m args below meth c H locs cells slots Q (F0 m (pc + 2) ls (va_rf o :: rest))) : W p l e R s m args below meth c H locs cells slots Q (F0 m pc ls rest) := by
  cases o with
  | none => exact lv_aloadN hx hb hdg h kk
  | some a => exact lv_aload hx hb hdg h kk
end S2


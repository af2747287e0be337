/-! THE MODEL's PICTURE: its object at mo, its 18 arrays behind it; rows; contracts -/
set_option maxRecDepth 100000
def md_off : Nat → Nat := fun k => match k with
  | 0 => 1
  | 1 => 2
  | 2 => 3
  | n + 3 => n + 5
def md_len : Nat → Nat := fun k => if k < 3 then 60 else if k = 3 then 8 else if k < 13 then 32 else 9
def md_ty : Nat → Nat := fun k => if k = 6 ∨ k = 12 then 3 else 15
/-- the place of a scalar among the fields -/
def md_sf : Nat → Nat := fun k => if k = 0 then 0 else if k < 7 then k + 14 else k + 18
def md_fs (mo : Nat) (μ : MS) : List Value := [.int (sS μ 0), .ref (mo + 1), .ref (mo + 2), .ref (mo + 3), .ref (mo + 4), .ref (mo + 5), .ref (mo + 6), .ref (mo + 7), .ref (mo + 8), .ref (mo + 9), .ref (mo + 10), .ref (mo + 11), .ref (mo + 12), .ref (mo + 13), .ref (mo + 14), .int (sS μ 1), .int (sS μ 2), .int (sS μ 3), .int (sS μ 4), .int (sS μ 5), .int (sS μ 6), .ref (mo + 15), .ref (mo + 16), .ref (mo + 17), .ref (mo + 18), .int (sS μ 7), .int (sS μ 8)]
def Mod (D : va_G) (tc : Nat → ClassId) (mo : Nat) (μ : MS) (H : Heap) : Prop :=
  va_at D vwCl (mo, .inr (1, md_fs mo μ)) H ∧ (∀ k : Nat, k < 17 → va_at D vwCl (mo + md_off k, .inl (tc (md_ty k), md_len k, .inl (sA μ k))) H) ∧ va_at D vwCl (mo + 4, .inl (tc 16, 180, .inr (.inl (sC μ)))) H
/-- the cells that the model may change -/
def md_A (mo : Nat) : Nat → Prop := fun q => mo ≤ q ∧ q < mo + 19
theorem md_off_lt {k : Nat} (h : k < 17) : 1 ≤ md_off k ∧ md_off k < 19 ∧ md_off k ≠ 4 := by
  unfold md_off
  split <;> omega
theorem md_off_inj {a b : Nat} (h : md_off a = md_off b) : a = b := by
  unfold md_off at h
  split at h <;> split at h <;> omega
theorem Mod.kept {D : va_G} {tc : Nat → ClassId} {mo : Nat} {μ : MS} {H H1 : Heap} (h : Mod D tc mo μ H) (hq : ∀ q : Nat, md_A mo q → H1[q]? = H[q]?) : Mod D tc mo μ H1 := by
  obtain ⟨h1, h2, h3⟩ := h
  refine ⟨h1.kept (hq mo ⟨Nat.le_refl _, by omega⟩), fun k hk => (h2 k hk).kept (hq _ ?_), h3.kept (hq (mo + 4) ⟨by omega, by omega⟩)⟩
  have := md_off_lt hk
  exact ⟨by show mo ≤ mo + md_off k; omega, by show mo + md_off k < mo + 19; omega⟩
theorem md_fs_set {mo : Nat} {μ : MS} {k : Nat} (hk : k < 9) (v : Int32) : (md_fs mo μ).set (md_sf k) (.int v) = md_fs mo (setS μ k v) := by
  match k, hk with
  | 0, _ => rfl
  | 1, _ => rfl
  | 2, _ => rfl
  | 3, _ => rfl
  | 4, _ => rfl
  | 5, _ => rfl
  | 6, _ => rfl
  | 7, _ => rfl
  | 8, _ => rfl
theorem Mod_setS {D : va_G} {tc : Nat → ClassId} {mo : Nat} {μ : MS} {H H1 : Heap} {k : Nat} {v : Int32} (h : Mod D tc mo μ H) (hk : k < 9) (oq : ∀ q : Nat, q ≠ mo → H1[q]? = H[q]?) (hP : va_at D vwCl (mo, .inr (1, (md_fs mo μ).set (md_sf k) (.int v))) H1) : Mod D tc mo (setS μ k v) H1 := by
  obtain ⟨h1, h2, h3⟩ := h
  rw [md_fs_set hk] at hP
  refine ⟨hP, fun i hi => (h2 i hi).kept (oq _ ?_), h3.kept (oq _ (by show mo + 4 ≠ mo; omega))⟩
  have := md_off_lt hi
  show mo + md_off i ≠ mo
  omega
theorem Mod_setA {D : va_G} {tc : Nat → ClassId} {mo : Nat} {μ : MS} {H H1 : Heap} {k j : Nat} {v : Int32} (h : Mod D tc mo μ H) (hk : k < 17) (oq : ∀ q : Nat, q ≠ mo + md_off k → H1[q]? = H[q]?) (hP : va_at D vwCl (mo + md_off k, .inl (tc (md_ty k), md_len k, .inl (fun i => if i = j then v else sA μ k i))) H1) : Mod D tc mo (setA μ k j v) H1 := by
  obtain ⟨h1, h2, h3⟩ := h
  have hl := md_off_lt hk
  refine ⟨h1.kept (oq _ (by show mo ≠ mo + md_off k; omega)), fun i hi => ?_, h3.kept (oq _ (by show mo + 4 ≠ mo + md_off k; omega))⟩
  by_cases e : i = k
  · subst e
    have e2 : (fun x => if x = j then v else sA μ i x) = sA (setA μ i j v) i := by
      funext x
      rw [sA_setA]
      simp
    rw [e2] at hP
    exact hP
  · have e2 : sA (setA μ k j v) i = sA μ i := by
      funext x
      rw [sA_setA, if_neg (fun q => e q.1)]
    rw [e2]
    refine (h2 i hi).kept (oq _ ?_)
    show mo + md_off i ≠ mo + md_off k
    intro q
    exact e (md_off_inj (by omega))
theorem Mod_setC {D : va_G} {tc : Nat → ClassId} {mo : Nat} {μ : MS} {H H1 : Heap} {j : Nat} {v : Int64} (h : Mod D tc mo μ H) (oq : ∀ q : Nat, q ≠ mo + 4 → H1[q]? = H[q]?) (hP : va_at D vwCl (mo + 4, .inl (tc 16, 180, .inr (.inl (fun i => if i = j then v else sC μ i)))) H1) : Mod D tc mo (setC μ j v) H1 := by
  obtain ⟨h1, h2, h3⟩ := h
  refine ⟨h1.kept (oq _ (by show mo ≠ mo + 4; omega)), fun i hi => (h2 i hi).kept (oq _ ?_), hP⟩
  have hl := md_off_lt hi
  show mo + md_off i ≠ mo + 4
  omega
section M1
variable {p : Program} {l : Launch} {e : Env} {R : Room} {s : State} {m : MethodId} {args : Array Value} {below : List Frame} {meth : Method} {c : Code} {H : Heap} {locs : List Loc} {cells slots : Nat} {Q : State → Prop}
variable {cc : ByteArray} {pc : Nat} {ls : Array Slot} {rest : List Value} {D : va_G} {tc : Nat → ClassId} {mo b index : Nat} {μ : MS} {H0 : Heap}
theorem md_get (hC : gC p s m args c cc RX1 D tc) (hM : Mod D tc mo μ H) (k : Nat) (hk : k < 27) {v : Value} (hv : (md_fs mo μ)[k]? = some v) (hlink : Cond.fieldLink RX1 index RX1 (TX1 k).2.1 (TX1 k).2.2.1 ∈ lw_all) (href : RX1 = (TX1 k).1) (hdg : decode cc pc = .ok (.getfield index, 3))
    (kk : W p l e R s m args below meth c H locs cells slots Q (F0 m (pc + 3) ls (v :: rest))) : W p l e R s m args below meth c H locs cells slots Q (F0 m pc ls (.ref mo :: rest)) :=
  w1_get hC in_X1 hM.1 rfl k hk hv hlink href hdg kk
theorem md_put (hC : gC p s m args c cc RX1 D tc) (hM : Mod D tc mo μ H) (hS : va_S (md_A mo) H0 H locs) (k : Nat) (hk : k < 9) {v : Int32} (hlink : Cond.fieldLink RX1 index RX1 (TX1 (md_sf k)).2.1 (TX1 (md_sf k)).2.2.1 ∈ lw_all) (hdg : decode cc pc = .ok (.putfield index, 3))
    (kk : ∀ (H1 : Heap) (locs1 : List Loc), Mod D tc mo (setS μ k v) H1 → va_S (md_A mo) H0 H1 locs1 → W p l e R s m args below meth c H1 locs1 cells slots Q (F0 m (pc + 3) ls rest)) : W p l e R s m args below meth c H locs cells slots Q (F0 m pc ls (.int v :: .ref mo :: rest)) := by
  have hA : md_A mo mo := ⟨Nat.le_refl _, by omega⟩
  have hf : md_sf k < 27 ∧ RX1 = (TX1 (md_sf k)).1 ∧ (TX1 (md_sf k)).2.2.2 = false ∧ tyX1 (md_sf k) = .int := by
    match k, hk with
    | 0, _ => exact ⟨by decide, rfl, rfl, rfl⟩
    | 1, _ => exact ⟨by decide, rfl, rfl, rfl⟩
    | 2, _ => exact ⟨by decide, rfl, rfl, rfl⟩
    | 3, _ => exact ⟨by decide, rfl, rfl, rfl⟩
    | 4, _ => exact ⟨by decide, rfl, rfl, rfl⟩
    | 5, _ => exact ⟨by decide, rfl, rfl, rfl⟩
    | 6, _ => exact ⟨by decide, rfl, rfl, rfl⟩
    | 7, _ => exact ⟨by decide, rfl, rfl, rfl⟩
    | 8, _ => exact ⟨by decide, rfl, rfl, rfl⟩
  obtain ⟨f1, f2, f3, f4⟩ := hf
  exact w1_put hC hS in_X1 tyX1 tyX1_ok nmX1 hM.1 hA rfl (md_sf k) f1 hlink f2 f3 (by rw [f4]; rfl) (by rw [f4]; rfl) f1 hdg (fun H1 locs1 _ oq hP hS1 => kk H1 locs1 (Mod_setS hM hk oq hP) hS1)
theorem md_ald (hC : gC p s m args c cc RX1 D tc) (hM : Mod D tc mo μ H) (k : Nat) {N : Nat} (hN : md_len k = N) (hk : k < 17) (hz : md_ty k = 15) (hB : b = mo + md_off k) {i v : Int32} (j : Nat) (hi : i = nI j) (hj : j < N) (hv : sA μ k j = v) (hdg : decode cc pc = .ok (.iaload, 1))
    (kk : W p l e R s m args below meth c H locs cells slots Q (F0 m (pc + 1) ls (.int v :: rest))) : W p l e R s m args below meth c H locs cells slots Q (F0 m pc ls (.int i :: .ref b :: rest)) := by
  subst hN hB hv
  have h := hM.2.1 k hk
  rw [hz] at h
  refine w1_iald hC h j hi hj ?_ hdg kk
  unfold md_len
  split <;> (try split) <;> (try split) <;> omega
theorem md_zald (hC : gC p s m args c cc RX1 D tc) (hM : Mod D tc mo μ H) (k : Nat) {N : Nat} (hN : md_len k = N) (hk : k < 17) (hz : md_ty k = 3) (hB : b = mo + md_off k) {i v : Int32} (j : Nat) (hi : i = nI j) (hj : j < N) (hv : sA μ k j = v) (hdg : decode cc pc = .ok (.baload, 1))
    (kk : W p l e R s m args below meth c H locs cells slots Q (F0 m (pc + 1) ls (.int v :: rest))) : W p l e R s m args below meth c H locs cells slots Q (F0 m pc ls (.int i :: .ref b :: rest)) := by
  subst hN hB hv
  have h := hM.2.1 k hk
  rw [hz] at h
  refine w1_zald hC h j hi hj ?_ hdg kk
  unfold md_len
  split <;> (try split) <;> (try split) <;> omega
theorem md_ast (hC : gC p s m args c cc RX1 D tc) (hM : Mod D tc mo μ H) (hS : va_S (md_A mo) H0 H locs) (k : Nat) {N : Nat} (hN : md_len k = N) (hk : k < 17) (hz : md_ty k = 15) (hB : b = mo + md_off k) {i v : Int32} (j : Nat) (hi : i = nI j) (hj : j < N) (hdg : decode cc pc = .ok (.iastore, 1))
    (kk : ∀ (H1 : Heap) (locs1 : List Loc), Mod D tc mo (setA μ k j v) H1 → va_S (md_A mo) H0 H1 locs1 → W p l e R s m args below meth c H1 locs1 cells slots Q (F0 m (pc + 1) ls rest)) : W p l e R s m args below meth c H locs cells slots Q (F0 m pc ls (.int v :: .int i :: .ref b :: rest)) := by
  subst hN hB
  have h := hM.2.1 k hk
  have hl := md_off_lt hk
  rw [hz] at h
  refine w1_iast hC hS h ⟨by omega, by omega⟩ j hi hj ?_ hdg (fun H1 locs1 _ oq hP hS1 => kk H1 locs1 (Mod_setA hM hk oq (by rw [hz]; exact hP)) hS1)
  unfold md_len
  split <;> (try split) <;> (try split) <;> omega
theorem md_zast (hC : gC p s m args c cc RX1 D tc) (hM : Mod D tc mo μ H) (hS : va_S (md_A mo) H0 H locs) (k : Nat) {N : Nat} (hN : md_len k = N) (hk : k < 17) (hz : md_ty k = 3) (hB : b = mo + md_off k) {i v : Int32} (j : Nat) (hi : i = nI j) (hj : j < N) (hv : v = 0 ∨ v = 1) (hdg : decode cc pc = .ok (.bastore, 1))
    (kk : ∀ (H1 : Heap) (locs1 : List Loc), Mod D tc mo (setA μ k j v) H1 → va_S (md_A mo) H0 H1 locs1 → W p l e R s m args below meth c H1 locs1 cells slots Q (F0 m (pc + 1) ls rest)) : W p l e R s m args below meth c H locs cells slots Q (F0 m pc ls (.int v :: .int i :: .ref b :: rest)) := by
  subst hN hB
  have h := hM.2.1 k hk
  have hl := md_off_lt hk
  rw [hz] at h
  refine w1_zast hC hS h ⟨by omega, by omega⟩ j hi hj ?_ hv hdg (fun H1 locs1 _ oq hP hS1 => kk H1 locs1 (Mod_setA hM hk oq (by rw [hz]; exact hP)) hS1)
  unfold md_len
  split <;> (try split) <;> (try split) <;> omega
theorem md_lald (hC : gC p s m args c cc RX1 D tc) (hM : Mod D tc mo μ H) (hB : b = mo + 4) {i : Int32} {v : Int64} (j : Nat) (hi : i = nI j) (hj : j < 180) (hv : sC μ j = v) (hdg : decode cc pc = .ok (.laload, 1))
    (kk : W p l e R s m args below meth c H locs cells slots Q (F0 m (pc + 1) ls (.long v :: rest))) : W p l e R s m args below meth c H locs cells slots Q (F0 m pc ls (.int i :: .ref b :: rest)) := by
  subst hB hv
  exact w1_lald hC hM.2.2 j hi hj (by omega) hdg kk
theorem md_last (hC : gC p s m args c cc RX1 D tc) (hM : Mod D tc mo μ H) (hS : va_S (md_A mo) H0 H locs) (hB : b = mo + 4) {i : Int32} {v : Int64} (j : Nat) (hi : i = nI j) (hj : j < 180) (hdg : decode cc pc = .ok (.lastore, 1))
    (kk : ∀ (H1 : Heap) (locs1 : List Loc), Mod D tc mo (setC μ j v) H1 → va_S (md_A mo) H0 H1 locs1 → W p l e R s m args below meth c H1 locs1 cells slots Q (F0 m (pc + 1) ls rest)) : W p l e R s m args below meth c H locs cells slots Q (F0 m pc ls (.long v :: .int i :: .ref b :: rest)) := by
  subst hB
  exact w1_last hC hS hM.2.2 ⟨by omega, by omega⟩ j hi hj (by omega) hdg (fun H1 locs1 _ oq hP hS1 => kk H1 locs1 (Mod_setC hM oq hP) hS1)
end M1
/-- a contract of one of the model's methods: from mu to nu, with its answer -/
def mQ (D : va_G) (tc : Nat → ClassId) (mo : Nat) (ν : MS) (ret : Option Value) : Array Value → State → Outcome → State → Prop := fun _ st o t => o = .returned ret ∧ Mod D tc mo ν t.heap ∧ va_F (md_A mo) st t
def MC (l : Launch) (y : MethodName) (cc : ByteArray) (maxL : Nat) (rt : Option FieldType) (f loc : Nat) (D : va_G) (tc : Nat → ClassId) (mo : Nat) (av : List Value) (μ ν : MS) (ret : Option Value) : Prop :=
  Met l y (ws_ y cc maxL rt) { frames := f, cells := 0, slots := 0, locals := loc } (va_Pc (.ref mo :: av) (fun U => gK D tc U ∧ Mod D tc mo μ U.heap)) (mQ D tc mo ν ret) 0 0 (md_A mo)
theorem MC.of {l : Launch} {y : MethodName} {cc : ByteArray} {maxL : Nat} {rt : Option FieldType} {f loc : Nat} {D : va_G} {tc : Nat → ClassId} {mo : Nat} {av : List Value} {μ ν : MS} {ret : Option Value} (hy : plainName y.cls = true) (hyc : y.cls = RX1) (hn : (lg_sl (.ref mo :: av)).length ≤ maxL)
    (body : ∀ (p : Program) (e : Env) (s : State) (m : MethodId) (below : List Frame) (meth : Method) (c : Code), gC p s m (Value.ref mo :: av).toArray c cc RX1 D tc → meth.sig.returnType = rt → meth.locks = false → c.maxLocals = maxL → Mod D tc mo μ s.heap → va_S (md_A mo) s.heap s.heap [] → ∀ ls : Array Slot, lv_has ls maxL (lv_args 0 (.ref mo :: av)) →
      W p l e ({ frames := f, cells := 0, slots := 0, locals := loc } : Room) s m (Value.ref mo :: av).toArray below meth c s.heap [] 0 0 (MQ below (mQ D tc mo ν ret) (Value.ref mo :: av).toArray s 0 0 (md_A mo)) (F0 m 0 ls [])) : MC l y cc maxL rt f loc D tc mo av μ ν ret := by
  refine Met.ofW (cc := cc) (maxL := maxL) (ret := rt) hy rfl ?_
  intro p e s m args below meth c s₁ B hml hv
  obtain ⟨rfl, hG, hM⟩ := hv
  have hts := atoms_spec (ws := ws_ y cc maxL rt) B.pre
  have hown : s.vm.findClass RX1 = some m.cls := hyc ▸ findClass_of_methodNamed B.named
  exact e_start (P := fun g => W p l e (headSpec (ws_ y cc maxL rt) { frames := f, cells := 0, slots := 0, locals := loc }).room s m (Value.ref mo :: av).toArray below meth c s.heap [] 0 0 (MQ below (mQ D tc mo ν ret) (Value.ref mo :: av).toArray s 0 0 (md_A mo)) g) hn
    (fun ls hl => body p e s m below meth c ⟨B.exec, B.bytes, fun w h => hts w (List.mem_cons_of_mem _ h), hown, hG⟩ B.returns B.notSynchronized hml hM va_S.rf ls hl)
section M2
variable {p : Program} {l : Launch} {e : Env} {R : Room} {s : State} {m : MethodId} {args : Array Value} {below : List Frame} {meth : Method} {c : Code} {H : Heap} {locs : List Loc} {cells slots : Nat} {Q : State → Prop}
variable {cc : ByteArray} {pc : Nat} {ls : Array Slot} {rest : List Value} {D : va_G} {tc : Nat → ClassId} {mo index : Nat} {μ ν : MS} {H0 : Heap} {own : String} {A0 : Nat → Prop}
/-- a method of the model by its contract, from any method -/
theorem w_MC (hC : gC p s m args c cc own D tc) (hM : Mod D tc mo μ H) (hS : va_S A0 H0 H locs) (hA : ∀ q, md_A mo q → A0 q) {nL : Nat} (hml : c.maxLocals = nL) (hls : ls.size = nL) {y : MethodName} {yc : ByteArray} {maxL n f loc : Nat} {rt : Option FieldType} {As st0 : List Value} {ret : Option Value}
    (hMet : MC l y yc maxL rt f loc D tc mo As μ ν ret) (h1 : Cond.methodLink own index y ∈ lw_all) (h2 : Cond.instanceMethod y ∈ lw_all) (h3 : Cond.selects RX1 y y ∈ lw_all) (h4 : Cond.initialized RX1 ∈ lw_all) (h5 : Cond.code y yc maxL rt ∈ lw_all) (hn : As.length = n)
    (hd : y.cls = RX1 ∧ y.cls ≠ "java/lang/invoke/MethodHandle" ∧ y.cls ≠ "java/lang/invoke/VarHandle" ∧ (parseMethodDescriptor y.desc).map (fun d => d.parameters.length) = some n) (hf : f + 1 ≤ R.frames) (hlo : 8 + (maxL + 11) + loc ≤ R.locals) (hR : cells ≤ R.cells ∧ slots ≤ R.slots)
    (hst : st0 = As.reverse ++ .ref mo :: rest) (hW : (rest.map fun v => v.category).sum ≤ 8) (hdg : decode cc pc = .ok (.invokevirtual index, 3))
    (kk : ∀ (H1 : Heap) (locs1 : List Loc), Mod D tc mo ν H1 → va_S A0 H0 H1 locs1 → H.size ≤ H1.size → (∀ q : Nat, q < H.size → ¬ md_A mo q → H1[q]? = H[q]?) → W p l e R s m args below meth c H1 locs1 cells slots Q (F0 m (pc + 3) ls (ret.toList ++ rest))) : W p l e R s m args below meth c H locs cells slots Q (F0 m pc ls st0) := by
  obtain ⟨hx, hb, hts, hown, hG⟩ := hC
  have hrecv := va_recv hG.n (va_P1 hM.1) (ci := 1) (q0 := 0) rfl rfl
  have hr := va_runV (H := H) (locs := locs) (cells := cells) (slots := slots) (below := below) (meth := meth) (e := e) (R := R) (g := F0 m pc ls st0) (b := mo) (As := As) (rest := rest) (Ts := lw_all) ⟨hx, hb, hml, hown, hts⟩ hMet (cwV n hts (lw_V h1 h2 h3 h4 h5) rfl rfl rfl hd ⟨hf, hlo⟩) ⟨fun a U g mk q => by obtain ⟨q0, q1, q2⟩ := q; exact ⟨q0, gK.moved (u := U) (U := U.calling g mk a) (Vm.Alike.refl U.vm) q1, q2⟩, hrecv, fun U hU hW => ⟨rfl, hG.moved hW.alike, by rw [hU]; exact hM⟩⟩ rfl hn hls hst (by show 2 * 0 + _ ≤ 8; omega) hdg ⟨hR.1, hR.2⟩
  intro T hT X
  obtain ⟨v', st₀, t, T', L, h0, X', hL, e1, e2, ⟨hv, hMt, hF⟩, st⟩ := hr T hT X
  cases hv
  have hz : H.size ≤ T'.heap.size := by rw [e1, ← h0]; exact hF.1
  have hk : ∀ q : Nat, q < H.size → ¬ md_A mo q → T'.heap[q]? = H[q]? := fun q h1 h2 => by rw [e1, ← h0]; exact hF.2 q (by rw [h0]; exact h1) h2
  obtain ⟨t2, a1, b1⟩ := kk T'.heap (locs ++ L) (by rw [e1]; exact hMt) ⟨Nat.le_trans hS.1 hz, fun q h1 h2 => by rw [hk q (Nat.lt_of_lt_of_le h1 hS.1) (fun z => h2 (hA q z))]; exact hS.2.1 q h1 h2, fun q hq => by
      rcases List.mem_append.mp hq with h | h
      · exact hS.2.2 q h
      · exact hA _ (hL q h)⟩ hz hk T' rfl X'
  exact ⟨t2, st t2 a1, b1⟩
theorem md_iret (hC : gC p s m args c cc own D tc) (hr : meth.sig.returnType = some .int) (hlk : meth.locks = false) (hM : Mod D tc mo μ H) (hS : va_S (md_A mo) s.heap H locs) {v w : Int32} (hμ : μ = ν) (hv : v = w) (hdg : decode cc pc = .ok (.ireturn, 1)) :
    W p l e R s m args below meth c H locs cells slots (MQ below (mQ D tc mo ν (some (.int w))) args s cells slots (md_A mo)) (F0 m pc ls [.int v]) := by
  subst hμ hv
  exact W.iret hC.1 hC.2.1 hr (fun t ht hW => ⟨rfl, by rw [ht]; exact hM, hS.F ht⟩) hS.2.2 hdg hlk
theorem md_lret (hC : gC p s m args c cc own D tc) (hr : meth.sig.returnType = some .long) (hlk : meth.locks = false) (hM : Mod D tc mo μ H) (hS : va_S (md_A mo) s.heap H locs) {v w : Int64} (hμ : μ = ν) (hv : v = w) (hdg : decode cc pc = .ok (.lreturn, 1)) :
    W p l e R s m args below meth c H locs cells slots (MQ below (mQ D tc mo ν (some (.long w))) args s cells slots (md_A mo)) (F0 m pc ls [.long v]) := by
  subst hμ hv
  exact W.lret hC.1 hC.2.1 hr (fun t ht hW => ⟨rfl, by rw [ht]; exact hM, hS.F ht⟩) hS.2.2 hdg hlk
theorem md_vret (hC : gC p s m args c cc own D tc) (hr : meth.sig.returnType = none) (hlk : meth.locks = false) (hM : Mod D tc mo μ H) (hS : va_S (md_A mo) s.heap H locs) (hμ : μ = ν) (hdg : decode cc pc = .ok (.return_, 1)) :
    W p l e R s m args below meth c H locs cells slots (MQ below (mQ D tc mo ν none) args s cells slots (md_A mo)) (F0 m pc ls []) := by
  subst hμ
  exact W.vret hC.1 hC.2.1 hr (fun t ht hW => ⟨rfl, by rw [ht]; exact hM, hS.F ht⟩) hS.2.2 hdg hlk
theorem md_zret (hC : gC p s m args c cc own D tc) (hr : meth.sig.returnType = some .boolean) (hlk : meth.locks = false) (hM : Mod D tc mo μ H) (hS : va_S (md_A mo) s.heap H locs) {v : Int32} {w : Bool} (hμ : μ = ν) (hv : v = bI w) (hdg : decode cc pc = .ok (.ireturn, 1)) :
    W p l e R s m args below meth c H locs cells slots (MQ below (mQ D tc mo ν (some (.int (bI w)))) args s cells slots (md_A mo)) (F0 m pc ls [.int v]) := by
  subst hμ hv
  exact W.zret hC.1 hC.2.1 hr (by cases w <;> decide +kernel) (fun t ht hW => ⟨rfl, by rw [ht]; exact hM, hS.F ht⟩) hS.2.2 hdg hlk
/-- the end of a static method that touches no heap -/
theorem sc_iret (hx : p.tables.exec = Jvm.exec) (hb : c.code = cc) (hr : meth.sig.returnType = some .int) (hlk : meth.locks = false) {v w : Int32} (hv : v = w) (hdg : decode cc pc = .ok (.ireturn, 1)) :
    W p l e R s m args below meth c s.heap [] cells slots (MQ below (k2_QcV (.int w)) args s cells slots (fun _ => False)) (F0 m pc ls [.int v]) := by
  subst hv
  exact W.iret hx hb hr (fun t ht hW => ⟨rfl, ht⟩) (fun q h => by cases h) hdg hlk
theorem sc_lret (hx : p.tables.exec = Jvm.exec) (hb : c.code = cc) (hr : meth.sig.returnType = some .long) (hlk : meth.locks = false) {v w : Int64} (hv : v = w) (hdg : decode cc pc = .ok (.lreturn, 1)) :
    W p l e R s m args below meth c s.heap [] cells slots (MQ below (k2_QcV (.long w)) args s cells slots (fun _ => False)) (F0 m pc ls [.long v]) := by
  subst hv
  exact W.lret hx hb hr (fun t ht hW => ⟨rfl, ht⟩) (fun q h => by cases h) hdg hlk
theorem sc_zret (hx : p.tables.exec = Jvm.exec) (hb : c.code = cc) (hr : meth.sig.returnType = some .boolean) (hlk : meth.locks = false) {v : Int32} {w : Bool} (hv : v = bI w) (hdg : decode cc pc = .ok (.ireturn, 1)) :
    W p l e R s m args below meth c s.heap [] cells slots (MQ below (k2_QcV (.int (bI w))) args s cells slots (fun _ => False)) (F0 m pc ls [.int v]) := by
  subst hv
  exact W.zret hx hb hr (by cases w <;> decide +kernel) (fun t ht hW => ⟨rfl, ht⟩) (fun q h => by cases h) hdg hlk
/-- branches on a boolean's int -/
theorem b_ifeq (hx : p.tables.exec = Jvm.exec) (hb : c.code = cc) {w : Bool} {off : Int} {tgt : Nat} (hdg : decode cc pc = .ok (.ifCond .eq off, 3)) (ht : (pc : Int) + off = (tgt : Int))
    (k1 : w = false → W p l e R s m args below meth c H locs cells slots Q (F0 m tgt ls rest)) (k2 : w = true → W p l e R s m args below meth c H locs cells slots Q (F0 m (pc + 3) ls rest)) : W p l e R s m args below meth c H locs cells slots Q (F0 m pc ls (.int (bI w) :: rest)) := by
  cases w
  · exact lv_if_eq hx hb hdg ht (fun _ => k1 rfl) (fun h => absurd rfl h)
  · exact lv_if_eq hx hb hdg ht (fun h => absurd h (by decide)) (fun _ => k2 rfl)
theorem b_ifne (hx : p.tables.exec = Jvm.exec) (hb : c.code = cc) {w : Bool} {off : Int} {tgt : Nat} (hdg : decode cc pc = .ok (.ifCond .ne off, 3)) (ht : (pc : Int) + off = (tgt : Int))
    (k1 : w = true → W p l e R s m args below meth c H locs cells slots Q (F0 m tgt ls rest)) (k2 : w = false → W p l e R s m args below meth c H locs cells slots Q (F0 m (pc + 3) ls rest)) : W p l e R s m args below meth c H locs cells slots Q (F0 m pc ls (.int (bI w) :: rest)) := by
  cases w
  · exact lv_if_ne hx hb hdg ht (fun h => absurd rfl h) (fun _ => k2 rfl)
  · exact lv_if_ne hx hb hdg ht (fun _ => k1 rfl) (fun h => absurd h (by decide))
end M2

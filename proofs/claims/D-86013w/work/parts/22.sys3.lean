/-! SYSTEM 3: contracts of its methods, and calls by them -/
set_option maxRecDepth 100000
set_option maxHeartbeats 1000000
def sX (D : va_G) (tc : Nat → ClassId) (x mo : Nat) (β : Nat → Nat) (μ : MS) (U : State) : Prop := gK D tc U ∧ gS0 U ∧ gZ (sy_A x mo) U U.heap ∧ Sys D tc x mo β μ U.heap
def sQ (D : va_G) (tc : Nat → ClassId) (x mo : Nat) (β : Nat → Nat) (ν : MS) (ret : Option Value) : Array Value → State → Outcome → State → Prop := fun _ st o t => o = .returned ret ∧ Sys D tc x mo β ν t.heap ∧ va_F (sy_A x mo) st t
/-- a method without handlers, that returns -/
def YC (l : Launch) (y : MethodName) (cc : ByteArray) (maxL : Nat) (rt : Option FieldType) (f loc mc ms : Nat) (D : va_G) (tc : Nat → ClassId) (x mo : Nat) (β : Nat → Nat) (av : List Value) (μ ν : MS) (ret : Option Value) : Prop :=
  Met l y (ws_ y cc maxL rt) { frames := f, cells := mc, slots := ms, locals := loc } (va_Pc av (sX D tc x mo β μ)) (sQ D tc x mo β ν ret) mc ms (sy_A x mo)
/-- a method with handlers, that returns -/
def YW (l : Launch) (y : MethodName) (cc : ByteArray) (maxL : Nat) (rt : Option FieldType) (hh : List (Nat × Nat × Nat × Nat)) (f loc mc ms : Nat) (D : va_G) (tc : Nat → ClassId) (x mo : Nat) (β : Nat → Nat) (av : List Value) (μ ν : MS) (ret : Option Value) : Prop :=
  Met l y (wsW_ y cc maxL rt hh) { frames := f, cells := mc, slots := ms, locals := loc } (va_Pc av (sX D tc x mo β μ)) (sQ D tc x mo β ν ret) mc ms (sy_A x mo)
def XT (i : Nat) : String → State → State → Prop := fun E st t => E = exn i ∧ st.heap.size ≤ t.heap.size ∧ ∀ q : Nat, q < st.heap.size → t.heap[q]? = st.heap[q]?
/-- a method without handlers, that throws what the machine throws -/
def YX (l : Launch) (y : MethodName) (cc : ByteArray) (maxL : Nat) (rt : Option FieldType) (f loc : Nat) (D : va_G) (tc : Nat → ClassId) (x mo : Nat) (β : Nat → Nat) (av : List Value) (μ : MS) (i : Nat) : Prop :=
  vx_Met l y (ws_ y cc maxL rt) { frames := f, cells := 3, slots := 1000, locals := loc } (va_Pc av (sX D tc x mo β μ)) (fun _ _ _ _ => False) (XT i) 3 1000 (sy_A x mo)
section Y1
variable {l : Launch} {y : MethodName} {cc : ByteArray} {maxL : Nat} {rt : Option FieldType} {f loc mc ms : Nat} {D : va_G} {tc : Nat → ClassId} {x mo : Nat} {β : Nat → Nat} {av : List Value} {μ ν : MS} {ret : Option Value} {own : String}
theorem YC.of (hy : plainName y.cls = true) (hyc : y.cls = own) (hn : (lg_sl av).length ≤ maxL)
    (body : ∀ (p : Program) (e : Env) (s : State) (m : MethodId) (below : List Frame) (meth : Method) (c : Code), gC p s m av.toArray c cc own D tc → gS0 s → gZ (sy_A x mo) s s.heap → meth.sig.returnType = rt → meth.locks = false → c.maxLocals = maxL → Sys D tc x mo β μ s.heap → va_S (sy_A x mo) s.heap s.heap [] → ∀ ls : Array Slot, lv_has ls maxL (lv_args 0 av) →
      W p l e ({ frames := f, cells := mc, slots := ms, locals := loc } : Room) s m av.toArray below meth c s.heap [] 0 0 (MQ below (sQ D tc x mo β ν ret) av.toArray s mc ms (sy_A x mo)) (F0 m 0 ls [])) : YC l y cc maxL rt f loc mc ms D tc x mo β av μ ν ret := by
  refine Met.ofW (cc := cc) (maxL := maxL) (ret := rt) hy rfl ?_
  intro p e s m args below meth c s₁ B hml hv
  obtain ⟨rfl, hG, hX, hZ, hM⟩ := hv
  have hts := atoms_spec (ws := ws_ y cc maxL rt) B.pre
  have hown : s.vm.findClass own = some m.cls := hyc ▸ findClass_of_methodNamed B.named
  exact e_start (P := fun g => W p l e (headSpec (ws_ y cc maxL rt) { frames := f, cells := mc, slots := ms, locals := loc }).room s m av.toArray below meth c s.heap [] 0 0 (MQ below (sQ D tc x mo β ν ret) av.toArray s mc ms (sy_A x mo)) g) hn
    (fun ls hl => body p e s m below meth c ⟨B.exec, B.bytes, fun w h => hts w (List.mem_cons_of_mem _ h), hown, hG⟩ hX hZ B.returns B.notSynchronized hml hM va_S.rf ls hl)
theorem YW.of {hh : List (Nat × Nat × Nat × Nat)} (hy : plainName y.cls = true) (hyc : y.cls = own) (hn : (lg_sl av).length ≤ maxL)
    (body : ∀ (p : Program) (e : Env) (s : State) (m : MethodId) (below : List Frame) (meth : Method) (c : Code), gC p s m av.toArray c cc own D tc → gS0 s → gZ (sy_A x mo) s s.heap → meth.sig.returnType = rt → meth.locks = false → c.maxLocals = maxL → c.exceptionTable.toList = tableOf hh → Sys D tc x mo β μ s.heap → va_S (sy_A x mo) s.heap s.heap [] → ∀ ls : Array Slot, lv_has ls maxL (lv_args 0 av) →
      W p l e ({ frames := f, cells := mc, slots := ms, locals := loc } : Room) s m av.toArray below meth c s.heap [] 0 0 (MQ below (sQ D tc x mo β ν ret) av.toArray s mc ms (sy_A x mo)) (F0 m 0 ls [])) : YW l y cc maxL rt hh f loc mc ms D tc x mo β av μ ν ret := by
  refine va_MetW (cc := cc) (maxL := maxL) (ret := rt) (hh := hh) hy rfl ?_
  intro p e s m args below meth c s₁ B hml hv
  obtain ⟨rfl, hG, hX, hZ, hM⟩ := hv
  have hts := atoms_spec (ws := wsW_ y cc maxL rt hh) B.pre
  have hown : s.vm.findClass own = some m.cls := hyc ▸ findClass_of_methodNamed B.named
  have htab := vx_table (x := y) B (hts _ List.mem_cons_self)
  exact e_start (P := fun g => W p l e (headSpec (wsW_ y cc maxL rt hh) { frames := f, cells := mc, slots := ms, locals := loc }).room s m av.toArray below meth c s.heap [] 0 0 (MQ below (sQ D tc x mo β ν ret) av.toArray s mc ms (sy_A x mo)) g) hn
    (fun ls hl => body p e s m below meth c ⟨B.exec, B.bytes, fun w h => hts w (List.mem_cons_of_mem _ h), hown, hG⟩ hX hZ B.returns B.notSynchronized hml htab hM va_S.rf ls hl)
theorem YX.of {i : Nat} (hy : plainName y.cls = true) (hyc : y.cls = own) (hn : (lg_sl av).length ≤ maxL)
    (body : ∀ (p : Program) (e : Env) (s : State) (m : MethodId) (below : List Frame) (meth : Method) (c : Code), gC p s m av.toArray c cc own D tc → gS0 s → gZ (sy_A x mo) s s.heap → meth.locks = false → c.maxLocals = maxL → (∀ z ∈ c.exceptionTable.toList, False) → Sys D tc x mo β μ s.heap → va_S (sy_A x mo) s.heap s.heap [] → ∀ ls : Array Slot, lv_has ls maxL (lv_args 0 av) →
      W p l e ({ frames := f, cells := 3, slots := 1000, locals := loc } : Room) s m av.toArray below meth c s.heap [] 0 0 (vx_MQ below (fun _ _ _ _ => False) (XT i) av.toArray s 3 1000 (sy_A x mo)) (F0 m 0 ls [])) : YX l y cc maxL rt f loc D tc x mo β av μ i := by
  refine vx_ofW (cc := cc) (maxL := maxL) (ret := rt) hy rfl ?_
  intro p e s m args below meth c s₁ B hml htab hv
  obtain ⟨rfl, hG, hX, hZ, hM⟩ := hv
  have hts := atoms_spec (ws := ws_ y cc maxL rt) B.pre
  have hown : s.vm.findClass own = some m.cls := hyc ▸ findClass_of_methodNamed B.named
  exact e_start (P := fun g => W p l e (headSpec (ws_ y cc maxL rt) { frames := f, cells := 3, slots := 1000, locals := loc }).room s m av.toArray below meth c s.heap [] 0 0 (vx_MQ below (fun _ _ _ _ => False) (XT i) av.toArray s 3 1000 (sy_A x mo)) g) hn
    (fun ls hl => body p e s m below meth c ⟨B.exec, B.bytes, fun w h => hts w (List.mem_cons_of_mem _ h), hown, hG⟩ hX hZ B.notSynchronized hml htab hM va_S.rf ls hl)
end Y1
theorem sX.moved {D : va_G} {tc : Nat → ClassId} {x mo : Nat} {β : Nat → Nat} {μ : MS} {s U : State} {H : Heap} (hvm : s.vm.Alike U.vm) (hU : U.heap = H) (hG : gK D tc s) (hX : gS0 s) (hZ : gZ (sy_A x mo) s s.heap) (hk : ∀ a : Nat, a < s.heap.size → ¬ sy_A x mo a → H[a]? = s.heap[a]?) (hM : Sys D tc x mo β μ H) : sX D tc x mo β μ U := by
  subst hU
  exact ⟨hG.moved hvm, hX.moved hvm, hZ.moved hvm hk, hM⟩
theorem sX_blind {D : va_G} {tc : Nat → ClassId} {x mo : Nat} {β : Nat → Nat} {μ : MS} {av : List Value} : FrameBlind (va_Pc av (sX D tc x mo β μ)) := by
  intro a U g mk q
  obtain ⟨q0, q1, q2, q3, q4⟩ := q
  exact ⟨q0, q1.moved (u := U) (U := U.calling g mk a) (Vm.Alike.refl U.vm), q2.moved (u := U) (U := U.calling g mk a) (Vm.Alike.refl U.vm), q3.moved (u := U) (U := U.calling g mk a) (Vm.Alike.refl U.vm) (fun _ _ _ => rfl), q4⟩
section Y2
variable {p : Program} {l : Launch} {e : Env} {R : Room} {s : State} {m : MethodId} {args : Array Value} {below : List Frame} {meth : Method} {c : Code} {H : Heap} {locs : List Loc} {cells slots : Nat} {Q : State → Prop}
variable {cc : ByteArray} {pc : Nat} {ls : Array Slot} {rest : List Value} {D : va_G} {tc : Nat → ClassId} {x mo index : Nat} {β : Nat → Nat} {μ ν : MS} {own : String}
variable {nL : Nat} {y : MethodName} {yc : ByteArray} {maxL n f loc mc ms : Nat} {rt : Option FieldType} {As st0 : List Value} {ret : Option Value} {hh : List (Nat × Nat × Nat × Nat)} {H0 : Heap}
theorem y_end {st₀ t T' : State} {L : List Loc} (h0 : st₀.heap = H) (e1 : T'.heap = t.heap) (hS : va_S (sy_A x mo) H0 H locs) (hL : ∀ q ∈ L, sy_A x mo q.base) (hF : va_F (sy_A x mo) st₀ t) : va_S (sy_A x mo) H0 T'.heap (locs ++ L) ∧ H.size ≤ T'.heap.size := by
  obtain ⟨a, b, d⟩ := vx_keep h0 e1 hS (A1 := sy_A x mo) (free := sy_A x mo) (fun _ _ h => h) (fun _ h => h) hL hF
  exact ⟨d, a⟩
/-- a static method -/
theorem w_YS (hC : gC p s m args c cc own D tc) (hX : gS0 s) (hZ : gZ (sy_A x mo) s s.heap) (hM : Sys D tc x mo β μ H) (hS : va_S (sy_A x mo) s.heap H locs) (hml : c.maxLocals = nL) (hls : ls.size = nL)
    (hMet : YC l y yc maxL rt f loc mc ms D tc x mo β As μ ν ret) (h1 : Cond.methodLink own index y ∈ lw_all) (h2 : Cond.static y ∈ lw_all) (h3 : Cond.initialized y.cls ∈ lw_all) (h4 : Cond.code y yc maxL rt ∈ lw_all) (hn : As.length = n)
    (hd : y.cls ≠ "java/lang/invoke/MethodHandle" ∧ y.cls ≠ "java/lang/invoke/VarHandle" ∧ (parseMethodDescriptor y.desc).map (fun d => d.parameters.length) = some n) (hf : f + 1 ≤ R.frames) (hlo : 8 + (maxL + 11) + loc ≤ R.locals) (hR : cells + mc ≤ R.cells ∧ slots + ms ≤ R.slots)
    (hst : st0 = As.reverse ++ rest) (hW : (rest.map fun v => v.category).sum ≤ 8) (hdg : decode cc pc = .ok (.invokestatic index, 3))
    (kk : ∀ (H1 : Heap) (locs1 : List Loc), Sys D tc x mo β ν H1 → va_S (sy_A x mo) s.heap H1 locs1 → W p l e R s m args below meth c H1 locs1 (cells + mc) (slots + ms) Q (F0 m (pc + 3) ls (ret.toList ++ rest))) : W p l e R s m args below meth c H locs cells slots Q (F0 m pc ls st0) := by
  obtain ⟨hx, hb, hts, hown, hG⟩ := hC
  have hr := va_runS (H := H) (locs := locs) (cells := cells) (slots := slots) (below := below) (meth := meth) (e := e) (R := R) (g := F0 m pc ls st0) (As := As) (rest := rest) (Ts := lw_all) ⟨hx, hb, hml, hown, hts⟩ hMet (va_cwS n hts (lw_S h1 h2 h3 h4) rfl rfl rfl hd ⟨hf, hlo⟩) ⟨sX_blind, fun U hU hW => ⟨rfl, sX.moved hW.alike hU hG hX hZ hS.2.1 hM⟩⟩ rfl hn hls hst (by show 2 * 0 + _ ≤ 8; omega) hdg hR
  intro T hT X
  obtain ⟨v', st₀, t, T', L, h0, X', hL, e1, e2, ⟨hv, hMt, hF⟩, st⟩ := hr T hT X
  cases hv
  obtain ⟨k1, -⟩ := y_end h0 e1 hS hL hF
  obtain ⟨t2, a1, b1⟩ := kk T'.heap (locs ++ L) (by rw [e1]; exact hMt) k1 T' rfl X'
  exact ⟨t2, st t2 a1, b1⟩
/-- a method through an object -/
theorem w_YV (hC : gC p s m args c cc own D tc) (hX : gS0 s) (hZ : gZ (sy_A x mo) s s.heap) (hM : Sys D tc x mo β μ H) (hS : va_S (sy_A x mo) s.heap H locs) (hml : c.maxLocals = nL) (hls : ls.size = nL) {b : Nat} (hrc : thR s H b y.cls)
    (hMet : YC l y yc maxL rt f loc mc ms D tc x mo β (.ref b :: As) μ ν ret) (h1 : Cond.methodLink own index y ∈ lw_all) (h2 : Cond.instanceMethod y ∈ lw_all) (h3 : Cond.selects y.cls y y ∈ lw_all) (h4 : Cond.initialized y.cls ∈ lw_all) (h5 : Cond.code y yc maxL rt ∈ lw_all) (hn : As.length = n)
    (hd : y.cls ≠ "java/lang/invoke/MethodHandle" ∧ y.cls ≠ "java/lang/invoke/VarHandle" ∧ (parseMethodDescriptor y.desc).map (fun d => d.parameters.length) = some n) (hf : f + 1 ≤ R.frames) (hlo : 8 + (maxL + 11) + loc ≤ R.locals) (hR : cells + mc ≤ R.cells ∧ slots + ms ≤ R.slots)
    (hst : st0 = As.reverse ++ .ref b :: rest) (hW : (rest.map fun v => v.category).sum ≤ 8) (hdg : decode cc pc = .ok (.invokevirtual index, 3))
    (kk : ∀ (H1 : Heap) (locs1 : List Loc), Sys D tc x mo β ν H1 → va_S (sy_A x mo) s.heap H1 locs1 → W p l e R s m args below meth c H1 locs1 (cells + mc) (slots + ms) Q (F0 m (pc + 3) ls (ret.toList ++ rest))) : W p l e R s m args below meth c H locs cells slots Q (F0 m pc ls st0) := by
  obtain ⟨hx, hb, hts, hown, hG⟩ := hC
  have hrecv : ∃ cell : Cell, H[b]? = some cell ∧ cell.vm.isStatics = false ∧ s.vm.findClass y.cls = some cell.cls := by
    obtain ⟨cell, g1, g2, g3⟩ := hrc
    exact ⟨cell, g1, by rw [g2]; rfl, g3⟩
  have hr := va_runV (H := H) (locs := locs) (cells := cells) (slots := slots) (below := below) (meth := meth) (e := e) (R := R) (g := F0 m pc ls st0) (b := b) (As := As) (rest := rest) (Ts := lw_all) ⟨hx, hb, hml, hown, hts⟩ hMet (cwV n hts (lw_V h1 h2 h3 h4 h5) rfl rfl rfl ⟨rfl, hd⟩ ⟨hf, hlo⟩) ⟨sX_blind, hrecv, fun U hU hW => ⟨rfl, sX.moved hW.alike hU hG hX hZ hS.2.1 hM⟩⟩ rfl hn hls hst (by show 2 * 0 + _ ≤ 8; omega) hdg hR
  intro T hT X
  obtain ⟨v', st₀, t, T', L, h0, X', hL, e1, e2, ⟨hv, hMt, hF⟩, st⟩ := hr T hT X
  cases hv
  obtain ⟨k1, -⟩ := y_end h0 e1 hS hL hF
  obtain ⟨t2, a1, b1⟩ := kk T'.heap (locs ++ L) (by rw [e1]; exact hMt) k1 T' rfl X'
  exact ⟨t2, st t2 a1, b1⟩
theorem w_YVW (hC : gC p s m args c cc own D tc) (hX : gS0 s) (hZ : gZ (sy_A x mo) s s.heap) (hM : Sys D tc x mo β μ H) (hS : va_S (sy_A x mo) s.heap H locs) (hml : c.maxLocals = nL) (hls : ls.size = nL) {b : Nat} (hrc : thR s H b y.cls)
    (hMet : YW l y yc maxL rt hh f loc mc ms D tc x mo β (.ref b :: As) μ ν ret) (h1 : Cond.methodLink own index y ∈ lw_all) (h2 : Cond.instanceMethod y ∈ lw_all) (h3 : Cond.selects y.cls y y ∈ lw_all) (h4 : Cond.initialized y.cls ∈ lw_all) (h5 : Cond.codeWith y yc maxL rt hh ∈ lw_all) (hn : As.length = n)
    (hd : y.cls ≠ "java/lang/invoke/MethodHandle" ∧ y.cls ≠ "java/lang/invoke/VarHandle" ∧ (parseMethodDescriptor y.desc).map (fun d => d.parameters.length) = some n) (hf : f + 1 ≤ R.frames) (hlo : 8 + (maxL + 11) + loc ≤ R.locals) (hR : cells + mc ≤ R.cells ∧ slots + ms ≤ R.slots)
    (hst : st0 = As.reverse ++ .ref b :: rest) (hW : (rest.map fun v => v.category).sum ≤ 8) (hdg : decode cc pc = .ok (.invokevirtual index, 3))
    (kk : ∀ (H1 : Heap) (locs1 : List Loc), Sys D tc x mo β ν H1 → va_S (sy_A x mo) s.heap H1 locs1 → W p l e R s m args below meth c H1 locs1 (cells + mc) (slots + ms) Q (F0 m (pc + 3) ls (ret.toList ++ rest))) : W p l e R s m args below meth c H locs cells slots Q (F0 m pc ls st0) := by
  obtain ⟨hx, hb, hts, hown, hG⟩ := hC
  have hrecv : ∃ cell : Cell, H[b]? = some cell ∧ cell.vm.isStatics = false ∧ s.vm.findClass y.cls = some cell.cls := by
    obtain ⟨cell, g1, g2, g3⟩ := hrc
    exact ⟨cell, g1, by rw [g2]; rfl, g3⟩
  have hr := vx_runVW (H := H) (locs := locs) (cells := cells) (slots := slots) (below := below) (meth := meth) (e := e) (R := R) (g := F0 m pc ls st0) (b := b) (As := As) (rest := rest) (Ts := lw_all) ⟨hx, hb, hml, hown, hts⟩ hMet (vx_cwVW n hts (lw_VW h1 h2 h3 h4 h5) rfl rfl rfl ⟨rfl, hd⟩ ⟨hf, hlo⟩) ⟨sX_blind, hrecv, fun U hU hW => ⟨rfl, sX.moved hW.alike hU hG hX hZ hS.2.1 hM⟩⟩ rfl hn hls hst (by show 2 * 0 + _ ≤ 8; omega) hdg hR
  intro T hT X
  obtain ⟨v', st₀, t, T', L, h0, X', hL, e1, e2, ⟨hv, hMt, hF⟩, st⟩ := hr T hT X
  cases hv
  obtain ⟨k1, -⟩ := y_end h0 e1 hS hL hF
  obtain ⟨t2, a1, b1⟩ := kk T'.heap (locs ++ L) (by rw [e1]; exact hMt) k1 T' rfl X'
  exact ⟨t2, st t2 a1, b1⟩
/-- a method through an interface -/
theorem w_YF (hC : gC p s m args c cc own D tc) (hX : gS0 s) (hZ : gZ (sy_A x mo) s s.heap) (hM : Sys D tc x mo β μ H) (hS : va_S (sy_A x mo) s.heap H locs) (hml : c.maxLocals = nL) (hls : ls.size = nL) {b count : Nat} {C : String} {ci : ClassId} {y0 : MethodName} (hrc : thR s H b C) (hat : ClassAt s C ci) (hfw : (C, y0, y) ∈ fwL)
    (hMet : YC l y yc maxL rt f loc mc ms D tc x mo β (.ref b :: As) μ ν ret) (h1 : Cond.methodLink own index y0 ∈ lw_all) (h2 : Cond.instanceMethod y ∈ lw_all) (h3 : Cond.selects C y0 y ∈ lw_all) (h4 : Cond.initialized y.cls ∈ lw_all) (h5 : Cond.code y yc maxL rt ∈ lw_all) (hn : As.length = n)
    (hd : y0.cls ≠ "java/lang/invoke/MethodHandle" ∧ y0.cls ≠ "java/lang/invoke/VarHandle" ∧ (parseMethodDescriptor y0.desc).map (fun d => d.parameters.length) = some n) (hf : f + 1 ≤ R.frames) (hlo : 8 + (maxL + 11) + loc ≤ R.locals) (hR : cells + mc ≤ R.cells ∧ slots + ms ≤ R.slots)
    (hst : st0 = As.reverse ++ .ref b :: rest) (hW : (rest.map fun v => v.category).sum ≤ 8) (hdg : decode cc pc = .ok (.invokeinterface index count, 5))
    (kk : ∀ (H1 : Heap) (locs1 : List Loc), Sys D tc x mo β ν H1 → va_S (sy_A x mo) s.heap H1 locs1 → W p l e R s m args below meth c H1 locs1 (cells + mc) (slots + ms) Q (F0 m (pc + 5) ls (ret.toList ++ rest))) : W p l e R s m args below meth c H locs cells slots Q (F0 m pc ls st0) := by
  obtain ⟨hx, hb, hts, hown, hG⟩ := hC
  have hrecv : ∃ cell : Cell, H[b]? = some cell ∧ cell.vm.isStatics = false ∧ s.vm.findClass C = some cell.cls := by
    obtain ⟨cell, g1, g2, g3⟩ := hrc
    exact ⟨cell, g1, by rw [g2]; rfl, g3⟩
  have hT0 : GoodIn lw_all (va_wsF own index C y0 y (ws_ y yc maxL rt)) := by
    refine lw_app ?_ (lw_meth h5)
    intro w hw
    simp only [List.mem_cons, List.not_mem_nil, or_false] at hw
    rcases hw with e | e | e | e
    · rw [e]; exact h1
    · rw [e]; exact h3
    · rw [e]; exact h2
    · rw [e]; exact h4
  have hr := va_runF (H := H) (locs := locs) (cells := cells) (slots := slots) (below := below) (meth := meth) (e := e) (R := R) (g := F0 m pc ls st0) (b := b) (As := As) (rest := rest) (Ts := lw_all) hat ⟨hx, hb, hml, hown, hts⟩ hMet (va_cwF n hts hT0 rfl rfl rfl (hX.2.2.2.2.2 _ hfw) hd ⟨hf, hlo⟩) ⟨sX_blind, hrecv, fun U hU hW => ⟨rfl, sX.moved hW.alike hU hG hX hZ hS.2.1 hM⟩⟩ rfl hn hls hst (by show 2 * 0 + _ ≤ 8; omega) hdg hR
  intro T hT X
  obtain ⟨v', st₀, t, T', L, h0, X', hL, e1, e2, ⟨hv, hMt, hF⟩, st⟩ := hr T hT X
  cases hv
  obtain ⟨k1, -⟩ := y_end h0 e1 hS hL hF
  obtain ⟨t2, a1, b1⟩ := kk T'.heap (locs ++ L) (by rw [e1]; exact hMt) k1 T' rfl X'
  exact ⟨t2, st t2 a1, b1⟩
/-- a static method that throws -/
theorem w_YX (hC : gC p s m args c cc own D tc) (hX : gS0 s) (hZ : gZ (sy_A x mo) s s.heap) (hM : Sys D tc x mo β μ H) (hS : va_S (sy_A x mo) s.heap H locs) (hml : c.maxLocals = nL) (hls : ls.size = nL) {i : Nat}
    (hMet : YX l y yc maxL rt f loc D tc x mo β As μ i) (h1 : Cond.methodLink own index y ∈ lw_all) (h2 : Cond.static y ∈ lw_all) (h3 : Cond.initialized y.cls ∈ lw_all) (h4 : Cond.code y yc maxL rt ∈ lw_all) (hn : As.length = n)
    (hd : y.cls ≠ "java/lang/invoke/MethodHandle" ∧ y.cls ≠ "java/lang/invoke/VarHandle" ∧ (parseMethodDescriptor y.desc).map (fun d => d.parameters.length) = some n) (hf : f + 1 ≤ R.frames) (hlo : 8 + (maxL + 11) + loc ≤ R.locals) (hR : cells + 3 ≤ R.cells ∧ slots + 1000 ≤ R.slots)
    (hst : st0 = As.reverse ++ rest) (hW : (rest.map fun v => v.category).sum ≤ 8) (hdg : decode cc pc = .ok (.invokestatic index, 3))
    (kk : ∀ (H1 : Heap) (locs1 : List Loc) (q9 : Addr) (ce : Cell), Sys D tc x mo β μ H1 → va_S (sy_A x mo) s.heap H1 locs1 → H1[q9]? = some ce → ce.vm = .none → s.vm.findClass (exn i) = some ce.cls → vx_W p l e R s m args below meth c H1 locs1 (cells + 3) (slots + 1000) Q (F0 m pc ls rest) q9) : W p l e R s m args below meth c H locs cells slots Q (F0 m pc ls st0) := by
  obtain ⟨hx, hb, hts, hown, hG⟩ := hC
  have hr := vx_runS (H := H) (locs := locs) (cells := cells) (slots := slots) (below := below) (meth := meth) (e := e) (R := R) (g := F0 m pc ls st0) (As := As) (rest := rest) (Ts := lw_all) ⟨hx, hb, hml, hown, hts⟩ hMet (va_cwS n hts (lw_S h1 h2 h3 h4) rfl rfl rfl hd ⟨hf, hlo⟩) ⟨sX_blind, fun U hU hW => ⟨rfl, sX.moved hW.alike hU hG hX hZ hS.2.1 hM⟩⟩ rfl hn hls hst (by show 2 * 0 + _ ≤ 8; omega) hdg hR
  intro T hT X
  rcases hr T hT X with ⟨v, st₀, t, T', L, h0, X', hL, e1, e2, hF, st⟩ | ⟨q, st₀, t, T', L, E, ce, h0, X', hL, e1, e2, ⟨hE, hz, hk⟩, hce, hcv, hcl, st⟩
  · exact hF.elim
  · subst hE
    have hF : va_F (sy_A x mo) st₀ t := ⟨hz, fun q h1 _ => hk q h1⟩
    obtain ⟨k1, -⟩ := y_end h0 e1 hS hL hF
    obtain ⟨t2, a1, b1⟩ := kk T'.heap (locs ++ L) q ce (hM.kept (fun q h1 _ => by rw [e1, hk q (by rw [h0]; exact h1), h0])) k1 (by rw [e1]; exact hce) hcv hcl T' rfl X'
    exact ⟨t2, st.trans a1, b1⟩
/-- ends -/
theorem sy_iret (hC : gC p s m args c cc own D tc) (hr : meth.sig.returnType = some .int) (hlk : meth.locks = false) (hM : Sys D tc x mo β μ H) (hS : va_S (sy_A x mo) s.heap H locs) {v w : Int32} (hμ : μ = ν) (hv : v = w) (hc1 : cells ≤ mc) (hc2 : slots ≤ ms) (hdg : decode cc pc = .ok (.ireturn, 1)) :
    W p l e R s m args below meth c H locs cells slots (MQ below (sQ D tc x mo β ν (some (.int w))) args s mc ms (sy_A x mo)) (F0 m pc ls [.int v]) := by
  subst hμ hv
  exact W.widen hc1 hc2 (W.iret hC.1 hC.2.1 hr (fun t ht hW => ⟨rfl, by rw [ht]; exact hM, hS.F ht⟩) hS.2.2 hdg hlk)
theorem sy_zret (hC : gC p s m args c cc own D tc) (hr : meth.sig.returnType = some .boolean) (hlk : meth.locks = false) (hM : Sys D tc x mo β μ H) (hS : va_S (sy_A x mo) s.heap H locs) {v : Int32} {w : Bool} (hμ : μ = ν) (hv : v = bI w) (hc1 : cells ≤ mc) (hc2 : slots ≤ ms) (hdg : decode cc pc = .ok (.ireturn, 1)) :
    W p l e R s m args below meth c H locs cells slots (MQ below (sQ D tc x mo β ν (some (.int (bI w)))) args s mc ms (sy_A x mo)) (F0 m pc ls [.int v]) := by
  subst hμ hv
  exact W.widen hc1 hc2 (W.zret hC.1 hC.2.1 hr (by cases w <;> decide +kernel) (fun t ht hW => ⟨rfl, by rw [ht]; exact hM, hS.F ht⟩) hS.2.2 hdg hlk)
theorem sy_vret (hC : gC p s m args c cc own D tc) (hr : meth.sig.returnType = none) (hlk : meth.locks = false) (hM : Sys D tc x mo β μ H) (hS : va_S (sy_A x mo) s.heap H locs) (hμ : μ = ν) (hc1 : cells ≤ mc) (hc2 : slots ≤ ms) (hdg : decode cc pc = .ok (.return_, 1)) :
    W p l e R s m args below meth c H locs cells slots (MQ below (sQ D tc x mo β ν none) args s mc ms (sy_A x mo)) (F0 m pc ls []) := by
  subst hμ
  exact W.widen hc1 hc2 (W.vret hC.1 hC.2.1 hr (fun t ht hW => ⟨rfl, by rw [ht]; exact hM, hS.F ht⟩) hS.2.2 hdg hlk)
theorem sy_aret (hC : gC p s m args c cc own D tc) {C : String} (hr : meth.sig.returnType = some (.object C)) (hlk : meth.locks = false) (hM : Sys D tc x mo β μ H) (hS : va_S (sy_A x mo) s.heap H locs) {v : Value} {o : Option Nat} (hμ : μ = ν) (hv : v = va_rf o) (hc1 : cells ≤ mc) (hc2 : slots ≤ ms) (hdg : decode cc pc = .ok (.areturn, 1)) :
    W p l e R s m args below meth c H locs cells slots (MQ below (sQ D tc x mo β ν (some (va_rf o))) args s mc ms (sy_A x mo)) (F0 m pc ls [v]) := by
  subst hμ hv
  exact W.widen hc1 hc2 (W.aret hC.1 hC.2.1 hr (Or.inl ⟨_, rfl⟩) (by cases o with | none => exact Or.inl rfl | some a => exact Or.inr ⟨a, rfl⟩) (fun t ht hW => ⟨rfl, by rw [ht]; exact hM, hS.F ht⟩) hS.2.2 hdg hlk)
/-- what the machine throws leaves the method -/
theorem sy_throw (hC : gC p s m args c cc own D tc) (hX : gS0 s) (hst : l.stackTraces = false) (hZ : gZ (sy_A x mo) s s.heap) (hS : va_S (sy_A x mo) s.heap s.heap locs) (hsize : ls.size = c.maxLocals) (hlk : meth.locks = false) (htab : ∀ z ∈ c.exceptionTable.toList, False) (i : Nat) (hi : i < 3) {tx : String} (b1 : (stringBytes (stringToUtf16 tx)).size ≤ 990) (b2 : (tx == notModelled) = false)
    (hf : 7 < R.frames) (hlo : (rest.map fun v => v.category).sum + 10240 ≤ R.locals) (hc : 3 ≤ R.cells) (hs : 1000 ≤ R.slots) :
    vx_Note p l e R s m args below meth c s.heap locs 0 0 (vx_MQ below (fun _ _ _ _ => False) (XT i) args s 3 1000 (sy_A x mo)) (F0 m pc ls rest) (exn i) tx :=
  w_note hC hX hst hZ hS hsize hlk i hi b1 b2 hf hlo (by omega) (by omega) (fun H1 q9 ce z1 k1 S1 hce hcv hcl => vx_out (fun z hz => (htab z hz).elim) hlk hce hcv hcl (fun t ht _ => ⟨rfl, by rw [ht]; exact z1, fun q hq => by rw [ht]; exact k1 q hq⟩) S1.2.2 (by omega) (by omega))
end Y2

/-! NEW 0: contracts of what makes objects, and rows for new -/
set_option maxRecDepth 100000
set_option maxHeartbeats 1000000
def nestw : Cond → Bool
  | .methodLinkNest .. => true
  | _ => false
/-- the links to nest mates' constructors -/
def gN (U : State) : Prop := ∀ w ∈ lw_tbl, nestw w = true → va_Nw w U
theorem gN.warm {s U : State} (hW : s.WarmedH U.vm) (h : gN s) : gN U := by
  intro w hw hn
  match w, hn, h w hw hn with
  | .methodLinkNest a i x h, _, h2 => exact va_Nw.warmM hW h2
theorem gN.same {s U : State} (hW : s.vm = U.vm) (h : gN s) : gN U := by
  intro w hw hn
  match w, hn, h w hw hn with
  | .methodLinkNest a i x h, _, h2 => exact va_Nw.same rfl hW h2
/-- what a maker may lean on -/
def nP (D : va_G) (tc : Nat → ClassId) (P : Heap → Prop) (U : State) : Prop := gK D tc U ∧ gS0 U ∧ gN U ∧ P U.heap
theorem nP.moved {D : va_G} {tc : Nat → ClassId} {P : Heap → Prop} {s U : State} {H : Heap} (hW : s.WarmedH U.vm) (hU : U.heap = H) (h1 : gK D tc s) (h2 : gS0 s) (h3 : gN s) (h4 : P H) : nP D tc P U := by
  subst hU
  exact ⟨h1.moved hW.alike, h2.moved hW.alike, h3.warm hW, h4⟩
theorem nP_blind {D : va_G} {tc : Nat → ClassId} {P : Heap → Prop} {av : List Value} : FrameBlind (va_Pc av (nP D tc P)) := by
  intro a U g mk q
  obtain ⟨q0, q1, q2, q3, q4⟩ := q
  exact ⟨q0, q1.moved (u := U) (U := U.calling g mk a) (Vm.Alike.refl U.vm), q2.moved (u := U) (U := U.calling g mk a) (Vm.Alike.refl U.vm), q3.same (s := U) (U := U.calling g mk a) rfl, q4⟩
def nQ (A : Nat → Prop) (RR : Heap → Heap → Option Value → Prop) : Array Value → State → Outcome → State → Prop := fun _ st o t => ∃ r : Option Value, o = .returned r ∧ RR st.heap t.heap r ∧ va_F A st t
/-- a method that may make objects -/
def NC (l : Launch) (y : MethodName) (cc : ByteArray) (maxL : Nat) (rt : Option FieldType) (f loc mc ms : Nat) (av : List Value) (A : Nat → Prop) (P : State → Prop) (RR : Heap → Heap → Option Value → Prop) : Prop :=
  Met l y (ws_ y cc maxL rt) { frames := f, cells := mc, slots := ms, locals := loc } (va_Pc av P) (nQ A RR) mc ms A
section N1
variable {l : Launch} {y : MethodName} {cc : ByteArray} {maxL : Nat} {rt : Option FieldType} {f loc mc ms : Nat} {av : List Value} {A : Nat → Prop} {P : State → Prop} {RR : Heap → Heap → Option Value → Prop} {own : String}
theorem NC.of (hy : plainName y.cls = true) (hyc : y.cls = own) (hn : (lg_sl av).length ≤ maxL)
    (body : ∀ (p : Program) (e : Env) (s : State) (m : MethodId) (below : List Frame) (meth : Method) (c : Code), p.tables.exec = Jvm.exec → c.code = cc → (∀ w ∈ lw_all, w.before av.toArray s = true) → s.vm.findClass own = some m.cls → P s → meth.name = y.name → meth.sig.returnType = rt → meth.locks = false → c.maxLocals = maxL → va_S A s.heap s.heap [] → ∀ ls : Array Slot, lv_has ls maxL (lv_args 0 av) →
      W p l e ({ frames := f, cells := mc, slots := ms, locals := loc } : Room) s m av.toArray below meth c s.heap [] 0 0 (MQ below (nQ A RR) av.toArray s mc ms A) (F0 m 0 ls [])) : NC l y cc maxL rt f loc mc ms av A P RR := by
  refine Met.ofW (cc := cc) (maxL := maxL) (ret := rt) hy rfl ?_
  intro p e s m args below meth c s₁ B hml hv
  obtain ⟨rfl, hP⟩ := hv
  have hts := atoms_spec (ws := ws_ y cc maxL rt) B.pre
  have hown : s.vm.findClass own = some m.cls := hyc ▸ findClass_of_methodNamed B.named
  have hnm : meth.name = y.name := (name_of_methodNamed B.named B.method).1
  exact e_start (P := fun g => W p l e (headSpec (ws_ y cc maxL rt) { frames := f, cells := mc, slots := ms, locals := loc }).room s m av.toArray below meth c s.heap [] 0 0 (MQ below (nQ A RR) av.toArray s mc ms A) g) hn
    (fun ls hl => body p e s m below meth c B.exec B.bytes (fun w h => hts w (List.mem_cons_of_mem _ h)) hown hP hnm B.returns B.notSynchronized hml va_S.rf ls hl)
end N1
section N2
variable {p : Program} {l : Launch} {e : Env} {R : Room} {s : State} {m : MethodId} {args : Array Value} {below : List Frame} {meth : Method} {c : Code} {H : Heap} {locs : List Loc} {cells slots : Nat} {Q : State → Prop}
variable {cc : ByteArray} {pc : Nat} {ls : Array Slot} {rest : List Value} {D : va_G} {tc : Nat → ClassId} {index : Nat} {own host : String}
variable {nL : Nat} {y : MethodName} {yc : ByteArray} {maxL n f loc mc ms : Nat} {rt : Option FieldType} {As st0 : List Value} {A A0 : Nat → Prop} {P : State → Prop} {RR : Heap → Heap → Option Value → Prop} {H0 : Heap}
theorem n_end {av : Array Value} (hS : va_S A0 H0 H locs) (hA : ∀ q, A q → A0 q) (hr : va_Run p l e R s m args below meth c H locs cells slots mc ms (F0 m pc ls st0) rest (nQ A RR av) A)
    (kk : ∀ (H1 : Heap) (locs1 : List Loc) (r : Option Value), RR H H1 r → H.size ≤ H1.size → (∀ q : Nat, q < H.size → ¬ A q → H1[q]? = H[q]?) → va_S A0 H0 H1 locs1 → W p l e R s m args below meth c H1 locs1 (cells + mc) (slots + ms) Q (F0 m (pc + 3) ls (r.toList ++ rest))) : W p l e R s m args below meth c H locs cells slots Q (F0 m pc ls st0) := by
  intro T hT X
  obtain ⟨v', st₀, t, T', L, h0, X', hL, e1, e2, ⟨r, hv, hRR, hF⟩, st⟩ := hr T hT X
  cases hv
  obtain ⟨k1, k2, k3⟩ := vx_keep h0 e1 hS (A1 := A) (free := A) (fun q _ h => hA q h) hA hL hF
  rw [h0, ← e1] at hRR
  obtain ⟨t2, a1, b1⟩ := kk T'.heap (locs ++ L) _ hRR k1 k2 k3 T' rfl X'
  exact ⟨t2, st t2 a1, b1⟩
theorem w_NS (hx : p.tables.exec = Jvm.exec) (hb : c.code = cc) (hts : ∀ w ∈ lw_all, w.before args s = true) (hown : s.vm.findClass own = some m.cls) (hS : va_S A0 H0 H locs) (hA : ∀ q, A q → A0 q) (hml : c.maxLocals = nL) (hls : ls.size = nL)
    (hMet : NC l y yc maxL rt f loc mc ms As A P RR) (hPb : FrameBlind (va_Pc As P)) (hPm : ∀ U : State, U.heap = H → s.WarmedH U.vm → P U) (h1 : Cond.methodLink own index y ∈ lw_all) (h2 : Cond.static y ∈ lw_all) (h3 : Cond.initialized y.cls ∈ lw_all) (h4 : Cond.code y yc maxL rt ∈ lw_all) (hn : As.length = n)
    (hd : y.cls ≠ "java/lang/invoke/MethodHandle" ∧ y.cls ≠ "java/lang/invoke/VarHandle" ∧ (parseMethodDescriptor y.desc).map (fun d => d.parameters.length) = some n) (hf : f + 1 ≤ R.frames) (hlo : 8 + (maxL + 11) + loc ≤ R.locals) (hR : cells + mc ≤ R.cells ∧ slots + ms ≤ R.slots)
    (hst : st0 = As.reverse ++ rest) (hW : (rest.map fun v => v.category).sum ≤ 8) (hdg : decode cc pc = .ok (.invokestatic index, 3))
    (kk : ∀ (H1 : Heap) (locs1 : List Loc) (r : Option Value), RR H H1 r → H.size ≤ H1.size → (∀ q : Nat, q < H.size → ¬ A q → H1[q]? = H[q]?) → va_S A0 H0 H1 locs1 → W p l e R s m args below meth c H1 locs1 (cells + mc) (slots + ms) Q (F0 m (pc + 3) ls (r.toList ++ rest))) : W p l e R s m args below meth c H locs cells slots Q (F0 m pc ls st0) :=
  n_end hS hA (va_runS (H := H) (locs := locs) (cells := cells) (slots := slots) (below := below) (meth := meth) (e := e) (R := R) (g := F0 m pc ls st0) (As := As) (rest := rest) (Ts := lw_all) ⟨hx, hb, hml, hown, hts⟩ hMet (va_cwS n hts (lw_S h1 h2 h3 h4) rfl rfl rfl hd ⟨hf, hlo⟩) ⟨hPb, fun U hU hW => ⟨rfl, hPm U hU hW⟩⟩ rfl hn hls hst (by show 2 * 0 + _ ≤ 8; omega) hdg hR) kk
theorem w_NV (hx : p.tables.exec = Jvm.exec) (hb : c.code = cc) (hts : ∀ w ∈ lw_all, w.before args s = true) (hown : s.vm.findClass own = some m.cls) (hS : va_S A0 H0 H locs) (hA : ∀ q, A q → A0 q) (hml : c.maxLocals = nL) (hls : ls.size = nL) {b : Nat} (hrc : thR s H b y.cls)
    (hMet : NC l y yc maxL rt f loc mc ms (.ref b :: As) A P RR) (hPb : FrameBlind (va_Pc (.ref b :: As) P)) (hPm : ∀ U : State, U.heap = H → s.WarmedH U.vm → P U) (h1 : Cond.methodLink own index y ∈ lw_all) (h2 : Cond.instanceMethod y ∈ lw_all) (h3 : Cond.selects y.cls y y ∈ lw_all) (h4 : Cond.initialized y.cls ∈ lw_all) (h5 : Cond.code y yc maxL rt ∈ lw_all) (hn : As.length = n)
    (hd : y.cls ≠ "java/lang/invoke/MethodHandle" ∧ y.cls ≠ "java/lang/invoke/VarHandle" ∧ (parseMethodDescriptor y.desc).map (fun d => d.parameters.length) = some n) (hf : f + 1 ≤ R.frames) (hlo : 8 + (maxL + 11) + loc ≤ R.locals) (hR : cells + mc ≤ R.cells ∧ slots + ms ≤ R.slots)
    (hst : st0 = As.reverse ++ .ref b :: rest) (hW : (rest.map fun v => v.category).sum ≤ 8) (hdg : decode cc pc = .ok (.invokevirtual index, 3))
    (kk : ∀ (H1 : Heap) (locs1 : List Loc) (r : Option Value), RR H H1 r → H.size ≤ H1.size → (∀ q : Nat, q < H.size → ¬ A q → H1[q]? = H[q]?) → va_S A0 H0 H1 locs1 → W p l e R s m args below meth c H1 locs1 (cells + mc) (slots + ms) Q (F0 m (pc + 3) ls (r.toList ++ rest))) : W p l e R s m args below meth c H locs cells slots Q (F0 m pc ls st0) := by
  have hrecv : ∃ cell : Cell, H[b]? = some cell ∧ cell.vm.isStatics = false ∧ s.vm.findClass y.cls = some cell.cls := by
    obtain ⟨cell, g1, g2, g3⟩ := hrc
    exact ⟨cell, g1, by rw [g2]; rfl, g3⟩
  exact n_end hS hA (va_runV (H := H) (locs := locs) (cells := cells) (slots := slots) (below := below) (meth := meth) (e := e) (R := R) (g := F0 m pc ls st0) (b := b) (As := As) (rest := rest) (Ts := lw_all) ⟨hx, hb, hml, hown, hts⟩ hMet (cwV n hts (lw_V h1 h2 h3 h4 h5) rfl rfl rfl ⟨rfl, hd⟩ ⟨hf, hlo⟩) ⟨hPb, hrecv, fun U hU hW => ⟨rfl, hPm U hU hW⟩⟩ rfl hn hls hst (by show 2 * 0 + _ ≤ 8; omega) hdg hR) kk
theorem w_NI (hx : p.tables.exec = Jvm.exec) (hb : c.code = cc) (hts : ∀ w ∈ lw_all, w.before args s = true) (hown : s.vm.findClass own = some m.cls) (hS : va_S A0 H0 H locs) (hA : ∀ q, A q → A0 q) (hml : c.maxLocals = nL) (hls : ls.size = nL) {b : Nat}
    (hMet : NC l y yc maxL none f loc mc ms (.ref b :: As) A P RR) (hPb : FrameBlind (va_Pc (.ref b :: As) P)) (hPm : ∀ U : State, U.heap = H → s.WarmedH U.vm → P U) (h1 : Cond.methodLink own index y ∈ lw_all) (h2 : Cond.instanceMethod y ∈ lw_all) (h4 : Cond.initialized y.cls ∈ lw_all) (h5 : Cond.code y yc maxL none ∈ lw_all) (hy1 : y.name = "<init>") (hn : As.length = n)
    (hd : y.cls ≠ "java/lang/invoke/MethodHandle" ∧ y.cls ≠ "java/lang/invoke/VarHandle" ∧ (parseMethodDescriptor y.desc).map (fun d => d.parameters.length) = some n) (hf : f + 1 ≤ R.frames) (hlo : 8 + (maxL + 11) + loc ≤ R.locals) (hR : cells + mc ≤ R.cells ∧ slots + ms ≤ R.slots)
    (hst : st0 = As.reverse ++ .ref b :: rest) (hW : (rest.map fun v => v.category).sum ≤ 8) (hdg : decode cc pc = .ok (.invokespecial index, 3))
    (kk : ∀ (H1 : Heap) (locs1 : List Loc) (r : Option Value), RR H H1 r → H.size ≤ H1.size → (∀ q : Nat, q < H.size → ¬ A q → H1[q]? = H[q]?) → va_S A0 H0 H1 locs1 → W p l e R s m args below meth c H1 locs1 (cells + mc) (slots + ms) Q (F0 m (pc + 3) ls (r.toList ++ rest))) : W p l e R s m args below meth c H locs cells slots Q (F0 m pc ls st0) :=
  n_end hS hA (va_runI (H := H) (locs := locs) (cells := cells) (slots := slots) (below := below) (meth := meth) (e := e) (R := R) (g := F0 m pc ls st0) (b := b) (As := As) (rest := rest) (Ts := lw_all) ⟨hx, hb, hml, hown, hts⟩ hMet (cwI n hts (lw_meth h5) rfl rfl rfl (hts _ h4) (hts _ h1) (hts _ h2) hy1 hd ⟨hf, hlo⟩) ⟨hPb, fun U hU hW => ⟨rfl, hPm U hU hW⟩⟩ rfl hn hls hst (by show 2 * 0 + _ ≤ 8; omega) hdg hR) kk
theorem w_NN (hx : p.tables.exec = Jvm.exec) (hb : c.code = cc) (hts : ∀ w ∈ lw_all, w.before args s = true) (hown : s.vm.findClass own = some m.cls) (hS : va_S A0 H0 H locs) (hA : ∀ q, A q → A0 q) (hml : c.maxLocals = nL) (hls : ls.size = nL) {b : Nat} (hNN : gN s)
    (hMet : NC l y yc maxL none f loc mc ms (.ref b :: As) A P RR) (hPb : FrameBlind (va_Pc (.ref b :: As) P)) (hPm : ∀ U : State, U.heap = H → s.WarmedH U.vm → P U) (h1 : Cond.methodLinkNest own index y host ∈ lw_tbl) (h2 : Cond.instanceMethod y ∈ lw_all) (h4 : Cond.initialized y.cls ∈ lw_all) (h5 : Cond.code y yc maxL none ∈ lw_all) (hy1 : y.name = "<init>") (hn : As.length = n)
    (hd : y.cls ≠ "java/lang/invoke/MethodHandle" ∧ y.cls ≠ "java/lang/invoke/VarHandle" ∧ (parseMethodDescriptor y.desc).map (fun d => d.parameters.length) = some n) (hf : f + 1 ≤ R.frames) (hlo : 8 + (maxL + 11) + loc ≤ R.locals) (hR : cells + mc ≤ R.cells ∧ slots + ms ≤ R.slots)
    (hst : st0 = As.reverse ++ .ref b :: rest) (hW : (rest.map fun v => v.category).sum ≤ 8) (hdg : decode cc pc = .ok (.invokespecial index, 3))
    (kk : ∀ (H1 : Heap) (locs1 : List Loc) (r : Option Value), RR H H1 r → H.size ≤ H1.size → (∀ q : Nat, q < H.size → ¬ A q → H1[q]? = H[q]?) → va_S A0 H0 H1 locs1 → W p l e R s m args below meth c H1 locs1 (cells + mc) (slots + ms) Q (F0 m (pc + 3) ls (r.toList ++ rest))) : W p l e R s m args below meth c H locs cells slots Q (F0 m pc ls st0) :=
  n_end hS hA (va_runIN (H := H) (locs := locs) (cells := cells) (slots := slots) (below := below) (meth := meth) (e := e) (R := R) (g := F0 m pc ls st0) (b := b) (As := As) (rest := rest) (Ts := lw_all) (host := host) ⟨hx, hb, hml, hown, hts⟩ hMet ⟨va_cnB n hts (lw_meth h5) rfl rfl rfl (hNN _ h1 rfl) (hts _ h4) hd ⟨hf, hlo⟩, hy1, hts _ h2⟩ ⟨hPb, fun U hU hW => ⟨rfl, hPm U hU hW⟩⟩ rfl hn hls hst (by show 2 * 0 + _ ≤ 8; omega) hdg hR) kk
theorem n_push (hS : va_S A0 H0 H locs) {H1 : Heap} (hz : H1.size = H.size + 1) (ho : ∀ q : Nat, q < H.size → H1[q]? = H[q]?) : va_S A0 H0 H1 locs :=
  ⟨Nat.le_trans hS.1 (by omega), fun q h1 h2 => (ho q (Nat.lt_of_lt_of_le h1 hS.1)).trans (hS.2.1 q h1 h2), hS.2.2⟩
/-- a new object -/
theorem n_new (hC : gC p s m args c cc own D tc) {C : String} {T : u_T} {N ci : Nat} (hin : ∀ w ∈ u_ws C T N, w ∈ lw_all) (ty : Nat → FieldType) (hty : ∀ k, k < N → parseFieldDescriptor (T k).2.2.1 = some (ty k)) (h1 : Cond.classLink own index C ∈ lw_all) (h2 : Cond.instantiable C N ∈ lw_all) (h3 : Cond.initialized C ∈ lw_all) (hc : vwCl[ci]? = some (C, T, N)) {fs : List Value} (hfs : ∀ j, j < N → defaultValue (ty j) = vp_V fs j)
    (hS : va_S A0 H0 H locs) (hcells : cells + 1 ≤ R.cells) (hslots : slots + N ≤ R.slots) (hdg : decode cc pc = .ok (.new index, 3))
    (kk : ∀ H1 : Heap, H1.size = H.size + 1 → (∀ q : Nat, q < H.size → H1[q]? = H[q]?) → va_at D vwCl (H.size, .inr (ci, fs)) H1 → va_S A0 H0 H1 locs → W p l e R s m args below meth c H1 locs (cells + 1) (slots + N) Q (F0 m (pc + 3) ls (.ref H.size :: rest))) : W p l e R s m args below meth c H locs cells slots Q (F0 m pc ls rest) := by
  obtain ⟨hx, hb, hts, hown, hG⟩ := hC
  have hKn := hG.1 ci _ hc
  refine W.newcK hx hb hown (hts _ h1) (hts _ h2) (hts _ h3) rfl hdg hcells hslots hKn.2.1 rfl fun H1 kC hkC e1 z1 o1 => ?_
  exact kk H1 z1 o1 ⟨_, hc, (u_born ty hts hin hKn hkC e1 hty).to hfs⟩ (n_push hS z1 o1)
theorem va_RA_find {U : State} {cA : ClassId} {ty : FieldType} (h : va_RA U cA ty) : U.vm.findClass ("[" ++ ty.toString) = some cA := by
  cases ty with
  | object C => obtain ⟨_, _, -, -, -, h4⟩ := h; exact h4
  | _ => exact h
theorem n_clamp {N : Nat} (hN : N ≤ 200) : ¬ nI N < 0 ∧ (nI N).toNatClampNeg = N := by
  refine ⟨fun q => ?_, nI_clamp (by omega)⟩
  have := Int32.lt_iff_toInt_lt.mp q
  rw [nI_toInt (by omega)] at this
  have e : (0 : Int32).toInt = 0 := by decide
  omega
/-- a new array of numbers -/
theorem n_newa (hC : gC p s m args c cc own D tc) {k : Nat} (hk : k < 5 ∨ 8 ≤ k) (hk2 : k < 17) {atype : ArrayType} {ty : FieldType} (hg : gT k = ty) (hty : newarray.typeOf atype = ty) (hw : Cond.arrayClass ty ∈ lw_all) {i : Int32} {N : Nat} (hi : i = nI N) (hN : N ≤ 200) (hbytes : componentBytes ty ≤ 8) {a0 : vp_A} (ha : ∀ cA : ClassId, vp_cell cA a0 = arrV cA N (fun _ => defaultValue ty))
    (hS : va_S A0 H0 H locs) (hcells : cells + 1 ≤ R.cells) (hslots : slots + N ≤ R.slots) (hdg : decode cc pc = .ok (.newarray atype, 2))
    (kk : ∀ H1 : Heap, H1.size = H.size + 1 → (∀ q : Nat, q < H.size → H1[q]? = H[q]?) → va_at D vwCl (H.size, .inl (tc k, a0)) H1 → va_S A0 H0 H1 locs → W p l e R s m args below meth c H1 locs (cells + 1) (slots + N) Q (F0 m (pc + 2) ls (.ref H.size :: rest))) : W p l e R s m args below meth c H locs cells slots Q (F0 m pc ls (.int i :: rest)) := by
  obtain ⟨hx, hb, hts, hown, hG⟩ := hC
  subst hi hty
  obtain ⟨c1, c2⟩ := n_clamp hN
  have hb8 : N * componentBytes (newarray.typeOf atype) ≤ 200 * 8 := Nat.mul_le_mul hN hbytes
  refine va_newaK hx hb (hts _ hw) rfl hdg rfl c1 c2 (by omega) hcells hslots rfl fun H1 cA e1 z1 o1 _ hnm => ?_
  have hf := va_RA_find (hG.2 k hk hk2).2
  rw [hg] at hf
  cases hf.symm.trans hnm
  refine kk H1 z1 o1 ?_ (n_push hS z1 o1)
  show H1[H.size]? = some (vp_cell _ _)
  rw [ha]
  exact e1
/-- a new array of references -/
theorem n_anew (hC : gC p s m args c cc own D tc) (hX : gS0 s) {k : Nat} (hk : k < 5 ∨ 8 ≤ k) (hk2 : k < 17) {ty : FieldType} {nm : String} (hg : gT k = ty) (hao : ty ∈ aoL) (hlink : Cond.classLink own index nm ∈ lw_all) (hnm : nm = (match ty with | .object C => C | t => t.toString)) {i : Int32} {N : Nat} (hi : i = nI N) (hN : N ≤ 200)
    (hS : va_S A0 H0 H locs) (hcells : cells + 1 ≤ R.cells) (hslots : slots + N ≤ R.slots) (hdg : decode cc pc = .ok (.anewarray index, 3))
    (kk : ∀ H1 : Heap, H1.size = H.size + 1 → (∀ q : Nat, q < H.size → H1[q]? = H[q]?) → va_at D vwCl (H.size, .inl (tc k, N, .inr (.inr (.inr (.inr fun _ => none))))) H1 → va_S A0 H0 H1 locs → W p l e R s m args below meth c H1 locs (cells + 1) (slots + N) Q (F0 m (pc + 3) ls (.ref H.size :: rest))) : W p l e R s m args below meth c H locs cells slots Q (F0 m pc ls (.int i :: rest)) := by
  obtain ⟨hx, hb, hts, hown, hG⟩ := hC
  subst hi hnm
  obtain ⟨c1, c2⟩ := n_clamp hN
  have hf := va_RA_find (hG.2 k hk hk2).2
  rw [hg] at hf
  have hov : (Cond.arrayOver ty).before args s = true := by
    have h9 := hX.2.2.2.1 ty hao
    unfold Cond.before Cond.holds at h9 ⊢
    exact h9
  have fin : ∀ cA : ClassId, s.vm.findClass ("[" ++ ty.toString) = some cA → W p l e R s m args below meth c (H.push { cls := cA, slots := Array.replicate (nI N).toNatClampNeg .null, vm := .none }) locs (cells + 1) (slots + (nI N).toNatClampNeg) Q (F0 m (pc + 3) ls (.ref H.size :: rest)) := by
    intro cA h1
    cases hf.symm.trans h1
    rw [c2]
    refine kk _ (by simp) (fun q hq => by rw [Array.getElem?_push, if_neg (Nat.ne_of_lt hq)]) ?_ (n_push hS (by simp) (fun q hq => by rw [Array.getElem?_push, if_neg (Nat.ne_of_lt hq)]))
    show (H.push _)[H.size]? = some (vp_cell _ _)
    rw [vp_cell_q, arrV_new]
    simp [va_rf]
  rcases aoL_ref ty hao with ⟨C, rfl⟩ | ⟨t, rfl⟩
  · exact W.anew hx hb hown (hts _ hlink) hov rfl hdg rfl c1 (by rw [c2]; omega) hcells (by rw [c2]; exact hslots) (fun cA kA comp h1 _ _ _ => fin cA h1)
  · exact W.anewA hx hb hown (hts _ hlink) hov rfl hdg rfl c1 (by rw [c2]; omega) hcells (by rw [c2]; exact hslots) (fun cA kA comp h1 _ _ _ => fin cA h1)
end N2

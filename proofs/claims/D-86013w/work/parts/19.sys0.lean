/-! SYSTEM 0: what the tables say of casts and stores; rows for what the machine throws -/
set_option maxRecDepth 100000
set_option maxHeartbeats 1000000
/-- the classes of the things and the forms, by number -/
def fnm : Nat → String := fun k => match k with
  | 0 => "[C"
  | 1 => "[S"
  | 2 => "[D"
  | 3 => "[Z"
  | 4 => "[[C"
  | 5 => "MailRooms$Card"
  | 6 => "MailRooms$GoldCard"
  | 7 => "MailRooms$Token"
  | 8 => "[LMailRooms$Card;"
  | 9 => "[LMailRooms$GoldCard;"
  | 10 => "[LMailRooms$Stamped;"
  | 11 => "[[LMailRooms$Card;"
  | 12 => "[[LMailRooms$GoldCard;"
  | _ => "MailRooms$Stamped"
def exn : Nat → String := fun k => match k with
  | 0 => "java/lang/ClassCastException"
  | 1 => "java/lang/ArrayIndexOutOfBoundsException"
  | _ => "java/lang/ArrayStoreException"
def exc : Nat → List String := fun k => match k with
  | 1 => ["java/lang/IndexOutOfBoundsException", "java/lang/RuntimeException", "java/lang/Exception"]
  | _ => ["java/lang/RuntimeException", "java/lang/Exception"]
def dcw (w : Cond) : Bool := match w with
  | .castable .. => true
  | .declares _ => true
  | _ => false
def aoL : List FieldType := [.object "MailRooms$Item", .object "MailRooms$Desk", .array .char, .object "MailRooms$Card", .object "MailRooms$GoldCard", .object "MailRooms$Stamped", .array (.object "MailRooms$Card"), .array (.object "MailRooms$GoldCard")]
def fwL : List (String × MethodName × MethodName) := [
  ("MailRooms$Card", ⟨"MailRooms$Stamped", "stamps", "()I"⟩, ⟨"MailRooms$Card", "stamps", "()I"⟩),
  ("MailRooms$GoldCard", ⟨"MailRooms$Stamped", "stamps", "()I"⟩, ⟨"MailRooms$Card", "stamps", "()I"⟩),
  ("MailRooms$Token", ⟨"MailRooms$Stamped", "stamps", "()I"⟩, ⟨"MailRooms$Token", "stamps", "()I"⟩),
  ("MailRooms$Card", ⟨"MailRooms$Stamped", "stamp", "()V"⟩, ⟨"MailRooms$Card", "stamp", "()V"⟩),
  ("MailRooms$GoldCard", ⟨"MailRooms$Stamped", "stamp", "()V"⟩, ⟨"MailRooms$GoldCard", "stamp", "()V"⟩),
  ("MailRooms$Token", ⟨"MailRooms$Stamped", "stamp", "()V"⟩, ⟨"MailRooms$Token", "stamp", "()V"⟩)]
def gS0 (U : State) : Prop :=
  (∀ w ∈ lw_tbl, dcw w = true → va_Nw w U)
  ∧ (∀ k f : Nat, k < 13 → f < 14 → ∃ c t : ClassId, U.vm.findClass (fnm k) = some c ∧ U.vm.findClass (fnm f) = some t ∧ U.vm.assignable c t = goesN k f)
  ∧ (∀ i j : Nat, i < 3 → j < 3 → ∃ c t : ClassId, U.vm.findClass (exn i) = some c ∧ U.vm.findClass (exn j) = some t ∧ U.vm.assignable c t = decide (i = j))
  ∧ (∀ ty ∈ aoL, (Cond.arrayOver ty).before #[] U = true)
  ∧ modulesRight_1 U = true
  ∧ ∀ q ∈ fwL, va_Fw q.1 q.2.1 q.2.2 U
theorem ao_array {ty : FieldType} {u U : State} (hvm : u.vm.Alike U.vm) (h : (Cond.arrayOver (.array ty)).before #[] u = true) : (Cond.arrayOver (.array ty)).before #[] U = true := by
  obtain ⟨comp, c, k, h1, h2, h3, h4, h5⟩ := arrayOverA_spec h
  obtain ⟨k', hk', he⟩ := hvm.2.2 _ _ h3
  have hi : (U.vm.classes.findIdx? fun (x : Class) => match x.kind with | .array component _ => component == comp | _ => false) = some c := by
    rw [hvm.findIdx?_eq _ (fun _ => rfl)]
    exact h2
  have hkind : k'.kind = .array comp (.array ty) := by rw [he]; exact h4
  have f1 : U.vm.findClass (FieldType.array ty).toString = some comp := by rw [hvm.findClass]; exact h1
  have f2 : U.vm.findClass ("[" ++ (FieldType.array ty).toString) = some c := by rw [hvm.findClass]; exact h5
  unfold Cond.before Cond.holds
  simp only [Cond.value]
  rw [f1, Option.bind_some]
  refine (congrArg (fun o : Option Nat => (o.bind (fun c => (U.vm.classes[c]?).map fun (k : Class) => match k.kind with | .array _ t => decide (t = FieldType.array ty) && decide (U.vm.findClass ("[" ++ (FieldType.array ty).toString) = some c) | _ => false) == some true)) hi).trans ?_
  simp [hk', hkind, f2]
theorem ao_moved {ty : FieldType} (hty : (∃ C, ty = .object C) ∨ ∃ t, ty = .array t) {u U : State} (hvm : u.vm.Alike U.vm) (h : (Cond.arrayOver ty).before #[] u = true) : (Cond.arrayOver ty).before #[] U = true := by
  rcases hty with ⟨C, rfl⟩ | ⟨t, rfl⟩
  · exact va_AO.moved hvm h
  · exact ao_array hvm h
theorem aoL_ref : ∀ ty ∈ aoL, (∃ C, ty = .object C) ∨ ∃ t, ty = .array t := by
  intro ty h
  simp only [aoL, List.mem_cons, List.not_mem_nil, or_false] at h
  rcases h with rfl | rfl | rfl | rfl | rfl | rfl | rfl | rfl <;> first | exact Or.inl ⟨_, rfl⟩ | exact Or.inr ⟨_, rfl⟩
theorem fwL_cls : ∀ q ∈ fwL, q.2.1.cls ≠ "java/lang/invoke/MethodHandle" ∧ q.2.1.cls ≠ "java/lang/invoke/VarHandle" := by
  intro q h
  simp only [fwL, List.mem_cons, List.not_mem_nil, or_false] at h
  rcases h with rfl | rfl | rfl | rfl | rfl | rfl <;> exact ⟨by decide, by decide⟩
theorem alike_modules {u U : State} (hvm : u.vm.Alike U.vm) : U.vm.modules = u.vm.modules := by
  have h := congrArg Vm.modules hvm.1
  exact h
theorem gS0.moved {u U : State} (hvm : u.vm.Alike U.vm) (h : gS0 u) : gS0 U := by
  obtain ⟨h1, h2, h3, h4, h5, h6⟩ := h
  refine ⟨fun w hw hd => ?_, fun k f a b => ?_, fun i j a b => ?_, fun ty ht => ao_moved (aoL_ref ty ht) hvm (h4 ty ht), ?_, fun q hq => va_Fw.moved (fwL_cls q hq) hvm (h6 q hq)⟩
  · have h := h1 w hw hd
    match w, hd, h with
    | .castable C T, _, h => exact va_tabs rfl (rfl : (u.setVm U.vm).vm = U.vm) (by rw [Cond.castable_setVm hvm]; exact h)
    | .declares x, _, h => exact va_tabs rfl (rfl : (u.setVm U.vm).vm = U.vm) (by rw [Cond.declares_setVm hvm]; exact h)
  · obtain ⟨c, t, e1, e2, e3⟩ := h2 k f a b
    exact ⟨c, t, by rw [hvm.findClass]; exact e1, by rw [hvm.findClass]; exact e2, by rw [hvm.assignable]; exact e3⟩
  · obtain ⟨c, t, e1, e2, e3⟩ := h3 i j a b
    exact ⟨c, t, by rw [hvm.findClass]; exact e1, by rw [hvm.findClass]; exact e2, by rw [hvm.assignable]; exact e3⟩
  · unfold modulesRight_1 at h5 ⊢
    rw [alike_modules hvm]
    exact h5
/-! the text of a failing cast -/
theorem fc_spec {vm : Vm} {name : String} {c : ClassId} (h : vm.findClass name = some c) : ∃ k, vm.classes[c]? = some k ∧ k.name = name ∧ k.hidden = none ∧ k.loader = none := by
  obtain ⟨hlt, hp, _⟩ := Array.findIdx?_eq_some_iff_getElem.mp h
  refine ⟨vm.classes[c], by simp [hlt], ?_⟩
  simp only [Bool.and_eq_true, beq_iff_eq, Option.isNone_iff_eq_none] at hp
  exact ⟨hp.1.1.1, hp.1.1.2, hp.2⟩
theorem tx_home {vm : Vm} (hm : (vm.modules.all fun m => m.loader.isSome || m.name == "java.base" || !(castPackages_1.any fun p => m.packages.contains p)) = true) {ks : Class} (hl : ks.loader = none) (hp : packageOf ks.name = "") : (vm.home ks).toList.length ≤ 38 := by
  have hmod : ∀ m, vm.moduleOf ks = some m → m.name = "java.base" := by
    intro m h
    unfold Vm.moduleOf at h
    split at h
    · have := List.find?_some h
      simpa using this
    · have h1 := List.find?_some h
      have h2 := List.mem_of_find?_eq_some h
      have h3 := List.all_eq_true.mp hm m h2
      simp only [hl, hp, Bool.and_eq_true, beq_iff_eq] at h1
      simp only [h1.1, Option.isSome_none, Bool.false_or, Bool.or_eq_true, beq_iff_eq] at h3
      rcases h3 with h3 | h3
      · exact h3
      · simp [castPackages_1] at h3
        exact absurd (by simpa using h1.2) h3.1
  unfold Vm.home
  rw [hl]
  cases h : vm.moduleOf ks with
  | none =>
    show ("unnamed module" ++ " of loader " ++ "'bootstrap'").toList.length ≤ 38
    decide +kernel
  | some m =>
    show (("module " ++ m.name) ++ " of loader " ++ vm.loaderName none).toList.length ≤ 38
    rw [hmod m h]
    show (("module " ++ "java.base") ++ " of loader " ++ "'bootstrap'").toList.length ≤ 38
    decide +kernel
theorem tx_shown {k : Class} (h : k.hidden = none) {n : Nat} (hn : k.name.toList.length ≤ n) : k.shown.toList.length ≤ n := by
  unfold Class.shown
  rw [h]
  unfold dotted turned
  simp only [String.toList_ofList, List.length_map]
  exact hn
theorem tx_msg {vm : Vm} (hm : (vm.modules.all fun m => m.loader.isSome || m.name == "java.base" || !(castPackages_1.any fun p => m.packages.contains p)) = true) {ks kt : Class}
    (s1 : ks.hidden = none) (s2 : ks.loader = none) (s3 : packageOf ks.name = "") (s4 : ks.name.toList.length ≤ 22) (t1 : kt.hidden = none) (t2 : kt.loader = none) (t3 : packageOf kt.name = "") (t4 : kt.name.toList.length ≤ 22) :
    (stringBytes (stringToUtf16 (checkcast.message vm ks kt))).size ≤ 990 ∧ (checkcast.message vm ks kt == notModelled) = false := by
  have e : checkcast.message vm ks kt = "class " ++ ks.shown ++ " cannot be cast to class " ++ kt.shown ++ " (" ++ vm.homes ks kt ++ ")" := rfl
  have a1 := tx_home hm s2 s3
  have a2 := tx_home hm t2 t3
  have a3 := tx_shown s1 s4
  have a4 := tx_shown t1 t4
  have a5 : (vm.homes ks kt).toList.length ≤ 140 := by
    unfold Vm.homes
    split
    · show (ks.shown ++ " and " ++ kt.shown ++ " are in " ++ vm.home ks).toList.length ≤ 140
      simp only [String.toList_append, List.length_append]
      have b1 : " and ".toList.length = 5 := by decide
      have b2 : " are in ".toList.length = 8 := by decide
      omega
    · show (ks.shown ++ " is in " ++ vm.home ks ++ "; " ++ kt.shown ++ " is in " ++ vm.home kt).toList.length ≤ 140
      simp only [String.toList_append, List.length_append]
      have b1 : " is in ".toList.length = 7 := by decide
      have b2 : "; ".toList.length = 2 := by decide
      omega
  constructor
  · have b1 := stringBytes_size_le (stringToUtf16 (checkcast.message vm ks kt))
    have b2 := utf16_size_le (checkcast.message vm ks kt)
    have b3 : (checkcast.message vm ks kt).toList.length ≤ 240 := by
      rw [e]
      simp only [String.toList_append, List.length_append]
      have c1 : "class ".toList.length = 6 := by decide
      have c2 : " cannot be cast to class ".toList.length = 25 := by decide
      have c3 : " (".toList.length = 2 := by decide
      have c4 : ")".toList.length = 1 := by decide
      omega
    omega
  · rw [beq_eq_false_iff_ne]
    intro h
    have h2 := congrArg String.toList h
    rw [e] at h2
    simp only [String.toList_append] at h2
    have h3 : "class ".toList = 'c' :: "lass ".toList := by decide
    have h4 : notModelled.toList = '\u0000' :: " a message that is not modelled".toList := by decide
    rw [h3, h4] at h2
    simp at h2
theorem tx_store {k : Class} (s1 : k.hidden = none) {n : String} (s2 : k.name = n) (s4 : n.toList.length ≤ 22) (s5 : (dotted n == notModelled) = false) : (stringBytes (stringToUtf16 k.shown)).size ≤ 990 ∧ (k.shown == notModelled) = false := by
  subst s2
  have a := tx_shown s1 s4
  have b1 := stringBytes_size_le (stringToUtf16 k.shown)
  have b2 := utf16_size_le k.shown
  refine ⟨by omega, ?_⟩
  unfold Class.shown
  rw [s1]
  exact s5
theorem fnm_pk {k : Nat} (h : k < 14) : packageOf (fnm k) = "" ∧ (fnm k).toList.length ≤ 22 ∧ (dotted (fnm k) == notModelled) = false := by
  rcases (by omega : k = 0 ∨ k = 1 ∨ k = 2 ∨ k = 3 ∨ k = 4 ∨ k = 5 ∨ k = 6 ∨ k = 7 ∨ k = 8 ∨ k = 9 ∨ k = 10 ∨ k = 11 ∨ k = 12 ∨ k = 13) with rfl | rfl | rfl | rfl | rfl | rfl | rfl | rfl | rfl | rfl | rfl | rfl | rfl | rfl <;> exact ⟨by decide +kernel, by decide +kernel, by decide +kernel⟩
/-- an object or array of the class with this name -/
def thR (s : State) (H : Heap) (a : Nat) (C : String) : Prop := ∃ cell : Cell, H[a]? = some cell ∧ cell.vm = .none ∧ s.vm.findClass C = some cell.cls
section S0
variable {p : Program} {l : Launch} {e : Env} {R : Room} {s : State} {m : MethodId} {args : Array Value} {below : List Frame} {meth : Method} {c : Code} {H : Heap} {locs : List Loc} {cells slots : Nat} {Q : State → Prop}
variable {cc : ByteArray} {pc : Nat} {ls : Array Slot} {rest : List Value} {D : va_G} {tc : Nat → ClassId} {A : Nat → Prop} {a : Nat} {H0 : Heap} {own : String}
/-- instanceof -/
theorem w_inst (hC : gC p s m args c cc own D tc) (hX : gS0 s) {k f index : Nat} (hk : k < 13) (hf : f < 14) (hr : thR s H a (fnm k)) {nm : String} (hlink : Cond.classLink own index nm ∈ lw_all) (hnm : nm = fnm f) {b : Bool} (hg : goesN k f = b) (hdg : decode cc pc = .ok (.instanceof index, 3))
    (kk : W p l e R s m args below meth c H locs cells slots Q (F0 m (pc + 3) ls (.int (bI b) :: rest))) : W p l e R s m args below meth c H locs cells slots Q (F0 m pc ls (.ref a :: rest)) := by
  subst hnm hg
  obtain ⟨hx, hb, hts, hown, hG⟩ := hC
  obtain ⟨cell, h1, h2, h3⟩ := hr
  obtain ⟨c0, t0, f1, f2, f3⟩ := hX.2.1 k f hk hf
  cases h3.symm.trans f1
  have hv : cell.vm.isStatics = false := by rw [h2]; rfl
  intro T hT X
  cases hgo : goesN k f with
  | true =>
    rw [hgo] at f3 kk
    obtain ⟨vm', X', st⟩ := X.instanceofYes hx hown (hts _ hlink) (by rw [hT]; exact h1) hv f2 f3 (g := F0 m pc ls (.ref a :: rest)) rfl rfl (by rw [hb]; exact hdg)
    obtain ⟨t, a1, b1⟩ := kk (T.setVm vm') hT X'
    exact ⟨t, st t a1, b1⟩
  | false =>
    rw [hgo] at f3 kk
    obtain ⟨ks, hks, -⟩ := Vm.findClass_spec h3
    obtain ⟨vm', X', st⟩ := va_instofNo X hx hown (hts _ hlink) (by rw [hT]; exact h1) hv hks f2 f3 (g := F0 m pc ls (.ref a :: rest)) rfl rfl (by rw [hb]; exact hdg)
    obtain ⟨t, a1, b1⟩ := kk (T.setVm vm') hT X'
    exact ⟨t, st t a1, b1⟩
/-- checkcast that goes -/
theorem w_cast (hC : gC p s m args c cc own D tc) (hX : gS0 s) {k f index : Nat} (hk : k < 13) (hf : f < 14) (hr : thR s H a (fnm k)) {nm : String} (hlink : Cond.classLink own index nm ∈ lw_all) (hnm : nm = fnm f) (hg : goesN k f = true) (hdg : decode cc pc = .ok (.checkcast index, 3))
    (kk : W p l e R s m args below meth c H locs cells slots Q (F0 m (pc + 3) ls (.ref a :: rest))) : W p l e R s m args below meth c H locs cells slots Q (F0 m pc ls (.ref a :: rest)) := by
  subst hnm
  obtain ⟨hx, hb, hts, hown, hG⟩ := hC
  obtain ⟨cell, h1, h2, h3⟩ := hr
  obtain ⟨c0, t0, f1, f2, f3⟩ := hX.2.1 k f hk hf
  cases h3.symm.trans f1
  rw [hg] at f3
  have hv : cell.vm.isStatics = false := by rw [h2]; rfl
  intro T hT X
  obtain ⟨vm', X', st⟩ := X.checkcastYes hx hown (hts _ hlink) (by rw [hT]; exact h1) hv f2 f3 (g := F0 m pc ls (.ref a :: rest)) rfl rfl (by rw [hb]; exact hdg)
  obtain ⟨t, a1, b1⟩ := kk (T.setVm vm') hT X'
  exact ⟨t, st t a1, b1⟩
/-- checkcast that fails -/
theorem w_castNo (hC : gC p s m args c cc own D tc) (hX : gS0 s) {k f index : Nat} (hk : k < 13) (hf : f < 14) (hr : thR s H a (fnm k)) {nm : String} (hlink : Cond.classLink own index nm ∈ lw_all) (hnm : nm = fnm f) (hg : goesN k f = false) (hdg : decode cc pc = .ok (.checkcast index, 3))
    (kk : ∀ tx : String, (stringBytes (stringToUtf16 tx)).size ≤ 990 → (tx == notModelled) = false → vx_Note p l e R s m args below meth c H locs cells slots Q (F0 m pc ls (.ref a :: rest)) (exn 0) tx) : W p l e R s m args below meth c H locs cells slots Q (F0 m pc ls (.ref a :: rest)) := by
  subst hnm
  obtain ⟨hx, hb, hts, hown, hG⟩ := hC
  obtain ⟨cell, h1, h2, h3⟩ := hr
  obtain ⟨c0, cT, f1, hcT, f3⟩ := hX.2.1 k f hk hf
  cases h3.symm.trans f1
  rw [hg] at f3
  intro T hT X
  have hpl : e.platform.magicAccessors = ({} : Platform).magicAccessors := by rw [X.admits.platform]
  obtain ⟨c', hc', hcl⟩ := Cond.classLink_spec hown (hts _ hlink) e.platform hpl
  cases hcT.symm.trans hc'
  obtain ⟨dk, _, _, kt, hd, _, _, _, _, hkt, _, hopen⟩ := hcl.here
  have hcl₀ := X.warmed.classLinks hcl
  have hW' : s.WarmedH (T.vm.noted m.cls index (.cls cT)) := X.warmed.noted hd hopen (State.rightAt_cls hcl)
  obtain ⟨ks, hks, q1, q2, q3⟩ := fc_spec (vm := T.vm.noted m.cls index (.cls cT)) (name := fnm k) (c := cell.cls) (by rw [hW'.alike.findClass]; exact h3)
  obtain ⟨kt, hkt, r1, r2, r3⟩ := fc_spec (vm := T.vm.noted m.cls index (.cls cT)) (name := fnm f) (c := cT) (by rw [hW'.alike.findClass]; exact hcT)
  have hmm : ((T.vm.noted m.cls index (.cls cT)).modules.all fun m => m.loader.isSome || m.name == "java.base" || !(castPackages_1.any fun p => m.packages.contains p)) = true := by
    have h := congrArg Vm.modules hW'.alike.1
    rw [show (T.vm.noted m.cls index (.cls cT)).modules = s.vm.modules from h]
    exact hX.2.2.2.2.1
  obtain ⟨g1, g2, -⟩ := fnm_pk (k := k) (by omega)
  obtain ⟨g3, g4, -⟩ := fnm_pk hf
  obtain ⟨m1, m2⟩ := tx_msg hmm (ks := ks) (kt := kt) q2 q3 (by rw [q1]; exact g1) (by rw [q1]; exact g2) r2 r3 (by rw [r1]; exact g3) (by rw [r1]; exact g4)
  obtain ⟨t, a1, b1⟩ := kk _ m1 m2 (T.setVm (T.vm.noted m.cls index (.cls cT))) hT (X.noted hW')
  refine ⟨t, ?_, b1⟩
  subst hb
  jvm_step X.here [hx, hdg, checkcast.wp_cold (e := e) (s := T) (f := F0 m pc ls (.ref a :: rest)) X.here.top rfl (resolveClass_links e.toSetting hcl₀) hcl₀.ready,
    checkcast.wp_ready (e := e) (s := T.setVm (T.vm.noted m.cls index (.cls cT))) (f := F0 m pc ls (.ref a :: rest)) X.here.top hcl₀.ready rfl]
  refine ⟨cell, by rw [hT]; exact h1, (fun q h => by rw [h2] at h; cases h), ks, hks, kt, hkt, ?_⟩
  rw [if_neg (by rw [hW'.alike.assignable, f3]; decide)]
  exact a1
/-- aastore of what the array cannot hold -/
theorem w_aastNo (hC : gC p s m args c cc own D tc) (hX : gS0 s) {k : Nat} (hk : k < 13) {v n : Nat} {cA : ClassId} {C : String} {f : Nat → Option Nat} (ha : H[a]? = some (vp_cell cA (n, .inr (.inr (.inr (.inr f)))))) (hr : thR s H v (fnm k)) {kA : Class} {comp : ClassId} {ty : FieldType} (k1 : s.vm.classes[cA]? = some kA) (k2 : kA.kind = .array comp ty) (k3 : s.vm.findClass C = some comp) (hno : ∀ c0, s.vm.findClass (fnm k) = some c0 → s.vm.assignable c0 comp = false)
    {i : Int32} (hin : vp_in i n) (hdg : decode cc pc = .ok (.aastore, 1))
    (kk : ∀ tx : String, (stringBytes (stringToUtf16 tx)).size ≤ 990 → (tx == notModelled) = false → vx_Note p l e R s m args below meth c H locs cells slots Q (F0 m pc ls rest) (exn 2) tx) : W p l e R s m args below meth c H locs cells slots Q (F0 m pc ls (.ref v :: .int i :: .ref a :: rest)) := by
  obtain ⟨hx, hb, hts, hown, hG⟩ := hC
  obtain ⟨cell, h1, h2, h3⟩ := hr
  have hass := hno _ h3
  intro T hT X
  have hW' := X.warmed
  obtain ⟨ks, hks, q1, q2, q3⟩ := fc_spec (vm := T.vm) (name := fnm k) (c := cell.cls) (by rw [hW'.alike.findClass]; exact h3)
  obtain ⟨kc, hkc, -⟩ := fc_spec (vm := T.vm) (name := C) (c := comp) (by rw [hW'.alike.findClass]; exact k3)
  obtain ⟨kA', hkA', heA⟩ := hW'.alike.2.2 _ _ k1
  have hkind : kA'.kind = .array comp ty := by rw [heA]; exact k2
  obtain ⟨-, g2, g3⟩ := fnm_pk (k := k) (by omega)
  obtain ⟨m1, m2⟩ := tx_store q2 q1 g2 g3
  obtain ⟨t, a1, b1⟩ := kk _ m1 m2 T hT X
  refine ⟨t, ?_, b1⟩
  subst hb
  have hcellA : T.heap[a]? = some (vp_cell cA (n, .inr (.inr (.inr (.inr f))))) := by rw [hT]; exact ha
  have hcellV : T.heap[v]? = some cell := by rw [hT]; exact h1
  have hisArr : T.isArray (vp_cell cA (n, .inr (.inr (.inr (.inr f))))) := ⟨(fun q h => by cases h), kA', hkA', comp, ty, hkind⟩
  have hin' : ¬ (i < 0 ∨ (vp_cell cA (n, .inr (.inr (.inr (.inr f))))).slots.size ≤ i.toNatClampNeg) := by
    show ¬ (i < 0 ∨ (arrV _ _ _).slots.size ≤ _)
    rw [arrV_size]
    exact hin
  have hass' : T.vm.assignable cell.cls comp = false := by rw [hW'.alike.assignable]; exact hass
  have hvv : ∀ q, cell.vm ≠ .statics q := fun q h => by rw [h2] at h; cases h
  jvm_step X.here [hx, hdg]
  simp [aastore.sem, X.here.top]
  refine ⟨_, hcellA, hisArr, ?_⟩
  rw [if_neg hin']
  refine ⟨_, hcellA, hisArr.1, kA', hkA', ?_⟩
  simp [hkind, X.here.top, hcellV, hvv, hks, hkc, hass']
  intro acts
  exact a1
end S0

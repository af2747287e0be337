/-! CORE: the state that both sides compute on, its picture in the model's heap, rows of one cell -/
set_option maxRecDepth 100000
/-- scalars (0 items, 1 refused, 2 casts, 3 indexes, 4 stores, 5 back, 6 out, 7 depth, 8 works); arrays of ints and booleans (0 kind, 1 size, 2 stamp, 3 desks, 4 form, 5 act, 6 asks, 7 tally, 8 held, 9 worked, 10 gave, 11 gaveLast, 12 gaveNow, 13 whose, 14 room, 15 at, 16 place); the cells -/
abbrev MS : Type := (Nat → Int32) × (Nat → Nat → Int32) × (Nat → Int64)
def sS (μ : MS) (k : Nat) : Int32 := μ.1 k
def sA (μ : MS) (a i : Nat) : Int32 := μ.2.1 a i
def sC (μ : MS) (i : Nat) : Int64 := μ.2.2 i
def setS (μ : MS) (k : Nat) (v : Int32) : MS := (fun j => if j = k then v else μ.1 j, μ.2)
def setA (μ : MS) (a i : Nat) (v : Int32) : MS := (μ.1, (fun b j => if b = a ∧ j = i then v else μ.2.1 b j), μ.2.2)
def setC (μ : MS) (i : Nat) (v : Int64) : MS := (μ.1, μ.2.1, fun j => if j = i then v else μ.2.2 j)
theorem sS_setS (μ : MS) (k j : Nat) (v : Int32) : sS (setS μ k v) j = if j = k then v else sS μ j := rfl
theorem sA_setS (μ : MS) (k a i : Nat) (v : Int32) : sA (setS μ k v) a i = sA μ a i := rfl
theorem sC_setS (μ : MS) (k i : Nat) (v : Int32) : sC (setS μ k v) i = sC μ i := rfl
theorem sS_setA (μ : MS) (a i k : Nat) (v : Int32) : sS (setA μ a i v) k = sS μ k := rfl
theorem sA_setA (μ : MS) (a i b j : Nat) (v : Int32) : sA (setA μ a i v) b j = if b = a ∧ j = i then v else sA μ b j := rfl
theorem sC_setA (μ : MS) (a i j : Nat) (v : Int32) : sC (setA μ a i v) j = sC μ j := rfl
theorem sS_setC (μ : MS) (i k : Nat) (v : Int64) : sS (setC μ i v) k = sS μ k := rfl
theorem sA_setC (μ : MS) (i a j : Nat) (v : Int64) : sA (setC μ i v) a j = sA μ a j := rfl
theorem sC_setC (μ : MS) (i j : Nat) (v : Int64) : sC (setC μ i v) j = if j = i then v else sC μ j := rfl
theorem ms_ext {μ ν : MS} (h1 : ∀ k, sS μ k = sS ν k) (h2 : ∀ a i, sA μ a i = sA ν a i) (h3 : ∀ i, sC μ i = sC ν i) : μ = ν := by
  obtain ⟨a, b, c⟩ := μ
  obtain ⟨a', b', c'⟩ := ν
  have e1 : a = a' := funext h1
  have e2 : b = b' := funext fun x => funext fun i => h2 x i
  have e3 : c = c' := funext h3
  rw [e1, e2, e3]
/-- the int of a boolean -/
def bI (b : Bool) : Int32 := if b = true then 1 else 0
theorem bI_01 (b : Bool) : bI b = 0 ∨ bI b = 1 := by cases b <;> simp [bI]
theorem bI_dec {P : Prop} [Decidable P] : (if P then (1 : Int32) else 0) = bI (decide P) := by
  by_cases h : P <;> simp [bI, h]
abbrev vwCl : List vw_C := [(RX0, TX0, 11), (RX1, TX1, 27), (RX2, TX2, 1), (RX3, TX3, 1), (RX4, TX4, 1), (RX5, TX5, 1), (RX6, TX6, 9)]
/-- the array types, by number: as the kinds of things (0 to 4, 8 to 12), then Item[], Desk[], int[], long[] -/
def gT : Nat → FieldType := fun k => match k with
  | 0 => .char
  | 1 => .short
  | 2 => .double
  | 3 => .boolean
  | 4 => .array .char
  | 8 => .object "MailRooms$Card"
  | 9 => .object "MailRooms$GoldCard"
  | 10 => .object "MailRooms$Stamped"
  | 11 => .array (.object "MailRooms$Card")
  | 12 => .array (.object "MailRooms$GoldCard")
  | 13 => .object "MailRooms$Item"
  | 14 => .object "MailRooms$Desk"
  | 15 => .int
  | _ => .long
/-- the tables, as every method knows them: the classes' numbers and slots, the array classes' numbers -/
def gK (D : va_G) (tc : Nat → ClassId) (U : State) : Prop := (∀ (c : Nat) (q : vw_C), vwCl[c]? = some q → u_Kn U q.1 q.2.1 q.2.2 (D.1 c) (D.2 c)) ∧ ∀ k : Nat, (k < 5 ∨ 8 ≤ k) → k < 17 → ArrOfT U (tc k) (gT k) ∧ va_RA U (tc k) (gT k)
theorem gK.moved {D : va_G} {tc : Nat → ClassId} {u U : State} (hvm : u.vm.Alike U.vm) (h : gK D tc u) : gK D tc U := ⟨fun c q hq => u_Kn_moved hvm (h.1 c q hq), fun k h1 h2 => ⟨arrOfT_moved hvm (h.2 k h1 h2).1, (h.2 k h1 h2).2.moved hvm⟩⟩
theorem gK.k {D : va_G} {tc : Nat → ClassId} {U : State} (h : gK D tc U) (k : Nat) (h1 : k < 5 ∨ 8 ≤ k) (h2 : k < 17) : va_K D vwCl [(tc k, gT k)] U := by
  refine ⟨h.1, fun i q hq => ?_⟩
  match i, hq with
  | 0, hq => cases hq; exact h.2 k h1 h2
  | i + 1, hq => simp at hq
theorem gK.n {D : va_G} {tc : Nat → ClassId} {U : State} (h : gK D tc U) : va_K D vwCl [] U := ⟨h.1, fun i q hq => by simp at hq⟩
theorem va_P1 {D : va_G} {cl : List vw_C} {a : Nat} {e : va_E} {H : Heap} (h : va_at D cl (a, e) H) : va_P D cl [(a, e)] H := by
  intro k q hq
  match k, hq with
  | 0, hq => cases hq; exact h
  | k + 1, hq => simp at hq
/-- what a method's rows share -/
def gC (p : Program) (s : State) (m : MethodId) (args : Array Value) (c : Code) (cc : ByteArray) (own : String) (D : va_G) (tc : Nat → ClassId) : Prop := p.tables.exec = Jvm.exec ∧ c.code = cc ∧ (∀ w ∈ lw_all, w.before args s = true) ∧ s.vm.findClass own = some m.cls ∧ gK D tc s
section C1
variable {p : Program} {l : Launch} {e : Env} {R : Room} {s : State} {m : MethodId} {args : Array Value} {below : List Frame} {meth : Method} {c : Code} {H : Heap} {locs : List Loc} {cells slots : Nat} {Q : State → Prop}
variable {cc : ByteArray} {pc : Nat} {ls : Array Slot} {rest : List Value} {D : va_G} {tc : Nat → ClassId} {A : Nat → Prop} {a : Nat} {H0 : Heap} {own : String}
/-- a field is read -/
theorem w1_get (hC : gC p s m args c cc own D tc) {C ref : String} {T : u_T} {N ci index : Nat} (hin : ∀ w ∈ u_ws C T N, w ∈ lw_all) {fs : List Value} (hP : va_at D vwCl (a, .inr (ci, fs)) H) (hc : vwCl[ci]? = some (C, T, N)) (k : Nat) (hk : k < N) {v : Value} (hv : fs[k]? = some v) (hlink : Cond.fieldLink own index ref (T k).2.1 (T k).2.2.1 ∈ lw_all) (href : ref = (T k).1) (hdg : decode cc pc = .ok (.getfield index, 3))
    (kk : W p l e R s m args below meth c H locs cells slots Q (F0 m (pc + 3) ls (v :: rest))) : W p l e R s m args below meth c H locs cells slots Q (F0 m pc ls (.ref a :: rest)) := by
  obtain ⟨hx, hb, hts, hown, hG⟩ := hC
  subst href
  exact va_get hx hb hts hin hown hG.n (va_P1 hP) 0 rfl hc k hk (hts _ hlink) (fun _ h => h) hv hdg kk
/-- a field is written -/
theorem w1_put (hC : gC p s m args c cc own D tc) (hS : va_S A H0 H locs) {C ref : String} {T : u_T} {N ci index : Nat} (hin : ∀ w ∈ u_ws C T N, w ∈ lw_all) (ty0 : Nat → FieldType) (hty : ∀ k, k < N → parseFieldDescriptor (T k).2.2.1 = some (ty0 k)) (hnm : ∀ a, a < N → ∀ b, b < N → a ≠ b → (T a).2.1 ≠ (T b).2.1) {fs : List Value} (hP : va_at D vwCl (a, .inr (ci, fs)) H) (hA : A a) (hc : vwCl[ci]? = some (C, T, N)) (k : Nat) (hk : k < N) {v : Value} (hlink : Cond.fieldLink own index ref (T k).2.1 (T k).2.2.1 ∈ lw_all) (href : ref = (T k).1) (hfin : (T k).2.2.2 = false) (hn : narrow (ty0 k) v = v) (hfit : fits (ty0 k) v = true) (hl : k < fs.length) (hdg : decode cc pc = .ok (.putfield index, 3))
    (kk : ∀ (H1 : Heap) (locs1 : List Loc), H1.size = H.size → (∀ q : Nat, q ≠ a → H1[q]? = H[q]?) → va_at D vwCl (a, .inr (ci, fs.set k v)) H1 → va_S A H0 H1 locs1 → W p l e R s m args below meth c H1 locs1 cells slots Q (F0 m (pc + 3) ls rest)) : W p l e R s m args below meth c H locs cells slots Q (F0 m pc ls (v :: .ref a :: rest)) := by
  obtain ⟨hx, hb, hts, hown, hG⟩ := hC
  subst href
  have hap := va_apart (own := own) hts hin ty0 hty hnm hG.n hc
  obtain ⟨r, h1, cell, q1, q2, q3, q4⟩ := hP
  have hr : r = (C, T, N) := Option.some.inj (h1.symm.trans hc)
  subst hr
  obtain ⟨hSl, hfc, kC, hkC, hkind⟩ := hG.1 ci _ hc
  obtain ⟨cf, kf, fi, f, hi, hsl⟩ := hSl k hk
  have hlay := hts _ (hin _ (u_in_lay hk))
  unfold u_lay at hlay
  rw [if_neg (by rw [hfin]; decide)] at hlay
  have hst := (u_facts hfc hkC (u_lays hts hin hk) hi).1
  have h6 := u_store hfc hkC hkind hlay hi (hty k hk) hn hfit
  refine W.putK hx hb (f := f) ⟨hown, hts _ hlink, ⟨_, _, _, hi⟩, hst⟩ (by rw [q2]; exact h6) q1 q3 (by rw [hsl]; exact k2_hasslot (q4 k hk)) rfl rfl hdg fun H' e1 e2 e3 => ?_
  rw [hsl] at e1 ⊢
  exact kk H' _ e2 e3 ⟨_, hc, t_OB.to (V := updV (vp_V fs) k v) ⟨_, e1, q2, q3, t_set q4 hap hk v⟩ (fun j _ => vp_updV_set hl v j)⟩ (hS.put e2 e3 hA)
theorem w1_in {j n : Nat} {i : Int32} (hi : i = nI j) (hj : j < n) (hn : n < 2147483648) : vp_in i n ∧ i.toNatClampNeg = j := by
  subst hi
  exact ⟨vp_in_nI hj hn, nI_clamp (by omega)⟩
/-- an int array's place is read -/
theorem w1_iald (hC : gC p s m args c cc own D tc) {n : Nat} {f : Nat → Int32} (hP : va_at D vwCl (a, .inl (tc 15, n, .inl f)) H) {i : Int32} (j : Nat) (hi : i = nI j) (hj : j < n) (hn : n < 2147483648) (hdg : decode cc pc = .ok (.iaload, 1))
    (kk : W p l e R s m args below meth c H locs cells slots Q (F0 m (pc + 1) ls (.int (f j) :: rest))) : W p l e R s m args below meth c H locs cells slots Q (F0 m pc ls (.int i :: .ref a :: rest)) := by
  obtain ⟨h1, h2⟩ := w1_in hi hj hn
  refine va_iald hC.1 hC.2.1 (hC.2.2.2.2.k 15 (by omega) (by omega)) (va_P1 hP) 0 0 rfl rfl h1 hdg ?_
  rw [h2]
  exact kk
/-- a boolean array's place is read -/
theorem w1_zald (hC : gC p s m args c cc own D tc) {n : Nat} {f : Nat → Int32} (hP : va_at D vwCl (a, .inl (tc 3, n, .inl f)) H) {i : Int32} (j : Nat) (hi : i = nI j) (hj : j < n) (hn : n < 2147483648) (hdg : decode cc pc = .ok (.baload, 1))
    (kk : W p l e R s m args below meth c H locs cells slots Q (F0 m (pc + 1) ls (.int (f j) :: rest))) : W p l e R s m args below meth c H locs cells slots Q (F0 m pc ls (.int i :: .ref a :: rest)) := by
  obtain ⟨h1, h2⟩ := w1_in hi hj hn
  refine va_zald hC.1 hC.2.1 (hC.2.2.2.2.k 3 (by omega) (by omega)) (va_P1 hP) 0 0 rfl rfl h1 hdg ?_
  rw [h2]
  exact kk
/-- a long array's place is read -/
theorem w1_lald (hC : gC p s m args c cc own D tc) {n : Nat} {f : Nat → Int64} (hP : va_at D vwCl (a, .inl (tc 16, n, .inr (.inl f))) H) {i : Int32} (j : Nat) (hi : i = nI j) (hj : j < n) (hn : n < 2147483648) (hdg : decode cc pc = .ok (.laload, 1))
    (kk : W p l e R s m args below meth c H locs cells slots Q (F0 m (pc + 1) ls (.long (f j) :: rest))) : W p l e R s m args below meth c H locs cells slots Q (F0 m pc ls (.int i :: .ref a :: rest)) := by
  obtain ⟨h1, h2⟩ := w1_in hi hj hn
  refine va_lald hC.1 hC.2.1 (hC.2.2.2.2.k 16 (by omega) (by omega)) (va_P1 hP) 0 0 rfl rfl h1 hdg ?_
  rw [h2]
  exact kk
theorem w1_iast (hC : gC p s m args c cc own D tc) (hS : va_S A H0 H locs) {n : Nat} {f : Nat → Int32} (hP : va_at D vwCl (a, .inl (tc 15, n, .inl f)) H) (hA : A a) {i x : Int32} (j : Nat) (hi : i = nI j) (hj : j < n) (hn : n < 2147483648) (hdg : decode cc pc = .ok (.iastore, 1))
    (kk : ∀ (H1 : Heap) (locs1 : List Loc), H1.size = H.size → (∀ q : Nat, q ≠ a → H1[q]? = H[q]?) → va_at D vwCl (a, .inl (tc 15, n, .inl (fun k => if k = j then x else f k))) H1 → va_S A H0 H1 locs1 → W p l e R s m args below meth c H1 locs1 cells slots Q (F0 m (pc + 1) ls rest)) : W p l e R s m args below meth c H locs cells slots Q (F0 m pc ls (.int x :: .int i :: .ref a :: rest)) := by
  obtain ⟨h1, h2⟩ := w1_in hi hj hn
  obtain ⟨hx, hb, hts, hown, hG⟩ := hC
  refine W.iast hx hb hP ((hG.2 15 (by omega) (by omega)).1 n (fun j => .int (f j))) (fun q => by cases q) (by show ¬ (i < 0 ∨ (arrV _ _ _).slots.size ≤ _); rw [arrV_size]; exact h1) rfl rfl hdg fun H1 e z oq => ?_
  refine kk H1 _ z oq ?_ (hS.put z oq hA)
  show H1[a]? = some (vp_cell _ _)
  rw [e, vp_cell_i, vp_cell_i, arrV_store, h2]
  congr 2
  funext q
  by_cases hq : q = j
  · subst hq
    simp [updV]
  · simp [updV, hq]
theorem w1_zast (hC : gC p s m args c cc own D tc) (hS : va_S A H0 H locs) {n : Nat} {f : Nat → Int32} (hP : va_at D vwCl (a, .inl (tc 3, n, .inl f)) H) (hA : A a) {i x : Int32} (j : Nat) (hi : i = nI j) (hj : j < n) (hn : n < 2147483648) (hx01 : x = 0 ∨ x = 1) (hdg : decode cc pc = .ok (.bastore, 1))
    (kk : ∀ (H1 : Heap) (locs1 : List Loc), H1.size = H.size → (∀ q : Nat, q ≠ a → H1[q]? = H[q]?) → va_at D vwCl (a, .inl (tc 3, n, .inl (fun k => if k = j then x else f k))) H1 → va_S A H0 H1 locs1 → W p l e R s m args below meth c H1 locs1 cells slots Q (F0 m (pc + 1) ls rest)) : W p l e R s m args below meth c H locs cells slots Q (F0 m pc ls (.int x :: .int i :: .ref a :: rest)) := by
  obtain ⟨h1, h2⟩ := w1_in hi hj hn
  obtain ⟨hx, hb, hts, hown, hG⟩ := hC
  have hnar : narrow .boolean (.int x) = .int x := by rcases hx01 with rfl | rfl <;> decide +kernel
  refine W.zast hx hb hP ((hG.2 3 (by omega) (by omega)).1 n (fun j => .int (f j))) (fun q => by cases q) (by show ¬ (i < 0 ∨ (arrV _ _ _).slots.size ≤ _); rw [arrV_size]; exact h1) rfl rfl hdg fun H1 e z oq => ?_
  refine kk H1 _ z oq ?_ (hS.put z oq hA)
  show H1[a]? = some (vp_cell _ _)
  rw [e, hnar, vp_cell_i, vp_cell_i, arrV_store, h2]
  congr 2
  funext q
  by_cases hq : q = j
  · subst hq
    simp [updV]
  · simp [updV, hq]
theorem w1_last (hC : gC p s m args c cc own D tc) (hS : va_S A H0 H locs) {n : Nat} {f : Nat → Int64} (hP : va_at D vwCl (a, .inl (tc 16, n, .inr (.inl f))) H) (hA : A a) {i : Int32} {x : Int64} (j : Nat) (hi : i = nI j) (hj : j < n) (hn : n < 2147483648) (hdg : decode cc pc = .ok (.lastore, 1))
    (kk : ∀ (H1 : Heap) (locs1 : List Loc), H1.size = H.size → (∀ q : Nat, q ≠ a → H1[q]? = H[q]?) → va_at D vwCl (a, .inl (tc 16, n, .inr (.inl (fun k => if k = j then x else f k)))) H1 → va_S A H0 H1 locs1 → W p l e R s m args below meth c H1 locs1 cells slots Q (F0 m (pc + 1) ls rest)) : W p l e R s m args below meth c H locs cells slots Q (F0 m pc ls (.long x :: .int i :: .ref a :: rest)) := by
  obtain ⟨h1, h2⟩ := w1_in hi hj hn
  obtain ⟨hx, hb, hts, hown, hG⟩ := hC
  refine W.last hx hb hP ((hG.2 16 (by omega) (by omega)).1 n (fun j => .long (f j))) (fun q => by cases q) (by show ¬ (i < 0 ∨ (arrV _ _ _).slots.size ≤ _); rw [arrV_size]; exact h1) rfl rfl hdg fun H1 e z oq => ?_
  refine kk H1 _ z oq ?_ (hS.put z oq hA)
  show H1[a]? = some (vp_cell _ _)
  rw [e, vp_cell_l, vp_cell_l, arrV_store, h2]
  congr 2
  funext q
  by_cases hq : q = j
  · subst hq
    simp [updV]
  · simp [updV, hq]
/-- a value on the stack by another name -/
theorem w_top {x y : Value} (h : x = y) (k : W p l e R s m args below meth c H locs cells slots Q (F0 m pc ls (y :: rest))) : W p l e R s m args below meth c H locs cells slots Q (F0 m pc ls (x :: rest)) := by rw [h]; exact k
/-- two constants by a condition, met again behind them -/
theorem w_tern {g : JFrame} {P : Prop} [Decidable P] {x y : Int32} {pcT pcF : Nat} {pcE : Nat}
    (hbr : (P → W p l e R s m args below meth c H locs cells slots Q (F0 m pcT ls rest)) → (¬ P → W p l e R s m args below meth c H locs cells slots Q (F0 m pcF ls rest)) → W p l e R s m args below meth c H locs cells slots Q g)
    (hT : W p l e R s m args below meth c H locs cells slots Q (F0 m pcE ls (.int x :: rest)) → W p l e R s m args below meth c H locs cells slots Q (F0 m pcT ls rest))
    (hF : W p l e R s m args below meth c H locs cells slots Q (F0 m pcE ls (.int y :: rest)) → W p l e R s m args below meth c H locs cells slots Q (F0 m pcF ls rest))
    (kk : W p l e R s m args below meth c H locs cells slots Q (F0 m pcE ls (.int (if P then x else y) :: rest))) : W p l e R s m args below meth c H locs cells slots Q g := by
  refine hbr (fun h => hT ?_) (fun h => hF ?_)
  · rw [if_pos h] at kk
    exact kk
  · rw [if_neg h] at kk
    exact kk
/-- branches that meet again -/
theorem w_join {g : JFrame} (fr : Value → JFrame) (v : Value) (kk : W p l e R s m args below meth c H locs cells slots Q (fr v)) (h : (∀ x : Value, x = v → W p l e R s m args below meth c H locs cells slots Q (fr x)) → W p l e R s m args below meth c H locs cells slots Q g) : W p l e R s m args below meth c H locs cells slots Q g := h (fun x q => by rw [q]; exact kk)
/-- a loop with an empty stack at its head: a state of the loop, an invariant, a measure that falls -/
theorem w_loop {σ : Type} (I : σ → Heap → List Loc → Array Slot → Prop) (ms : σ → Nat)
    (step : ∀ (x : σ) (H : Heap) (locs : List Loc) (ls : Array Slot), I x H locs ls → (∀ (x' : σ) (H' : Heap) (locs' : List Loc) (ls' : Array Slot), I x' H' locs' ls' → ms x' < ms x → W p l e R s m args below meth c H' locs' cells slots Q (F0 m pc ls' [])) → W p l e R s m args below meth c H locs cells slots Q (F0 m pc ls []))
    (x0 : σ) (h0 : I x0 H locs ls) : W p l e R s m args below meth c H locs cells slots Q (F0 m pc ls []) := by
  have key : ∀ (n : Nat) (x : σ) (H : Heap) (locs : List Loc) (ls : Array Slot), ms x < n → I x H locs ls → W p l e R s m args below meth c H locs cells slots Q (F0 m pc ls []) := by
    intro n
    induction n with
    | zero => intro x H locs ls h; omega
    | succ n ih => intro x H locs ls h hI; exact step x H locs ls hI (fun x' H' locs' ls' hI' h' => ih x' H' locs' ls' (by omega) hI')
  exact key _ x0 H locs ls (Nat.lt_succ_self _) h0
end C1
/-! ===== contracts of static methods that touch no heap ===== -/
/-- a static method's contract: its answer, the heap as it was -/
def SC (l : Launch) (y : MethodName) (cc : ByteArray) (maxL : Nat) (rt : Option FieldType) (f loc : Nat) (av : List Value) (v : Value) : Prop := Met l y (ws_ y cc maxL rt) { frames := f, cells := 0, slots := 0, locals := loc } (va_Pc av (fun _ => True)) (k2_QcV v) 0 0 (fun _ => False)
/-- a body's frame at its entry, with its locals named -/
theorem e_start {m : MethodId} {av : List Value} {n : Nat} (hn : (lg_sl av).length ≤ n) {P : JFrame → Prop} (h : ∀ ls : Array Slot, lv_has ls n (lv_args 0 av) → P (F0 m 0 ls [])) : P (entryFrame m av.toArray n) := by
  have hl := lv_entry av hn
  rw [lg_entry_eq]
  exact h _ hl
theorem SC.of {l : Launch} {y : MethodName} {cc : ByteArray} {maxL : Nat} {rt : Option FieldType} {f loc : Nat} {av : List Value} {v : Value} (hy : plainName y.cls = true) (hn : (lg_sl av).length ≤ maxL)
    (body : ∀ (p : Program) (e : Env) (s : State) (m : MethodId) (below : List Frame) (meth : Method) (c : Code), p.tables.exec = Jvm.exec → c.code = cc → meth.sig.returnType = rt → meth.locks = false → c.maxLocals = maxL → (∀ w ∈ lw_all, w.before av.toArray s = true) → s.vm.findClass y.cls = some m.cls → ∀ ls : Array Slot, lv_has ls maxL (lv_args 0 av) →
      W p l e ({ frames := f, cells := 0, slots := 0, locals := loc } : Room) s m av.toArray below meth c s.heap [] 0 0 (MQ below (k2_QcV v) av.toArray s 0 0 (fun _ => False)) (F0 m 0 ls [])) : SC l y cc maxL rt f loc av v := by
  refine Met.ofW (cc := cc) (maxL := maxL) (ret := rt) hy rfl ?_
  intro p e s m args below meth c s₁ B hml hv
  obtain ⟨rfl, -⟩ := hv
  have hts := atoms_spec (ws := ws_ y cc maxL rt) B.pre
  exact e_start (P := fun g => W p l e (headSpec (ws_ y cc maxL rt) { frames := f, cells := 0, slots := 0, locals := loc }).room s m av.toArray below meth c s.heap [] 0 0 (MQ below (k2_QcV v) av.toArray s 0 0 (fun _ => False)) g) hn
    (fun ls hl => body p e s m below meth c B.exec B.bytes B.returns B.notSynchronized hml (fun w h => hts w (List.mem_cons_of_mem _ h)) (findClass_of_methodNamed B.named) ls hl)
section C2
variable {p : Program} {l : Launch} {e : Env} {R : Room} {s : State} {m : MethodId} {args : Array Value} {below : List Frame} {meth : Method} {c : Code} {H : Heap} {locs : List Loc} {cells slots : Nat} {Q : State → Prop}
variable {cc : ByteArray} {pc : Nat} {ls : Array Slot} {rest : List Value} {own : String}
/-- a static method by its contract -/
theorem w_SC (hx : p.tables.exec = Jvm.exec) (hb : c.code = cc) (hts : ∀ w ∈ lw_all, w.before args s = true) (hown : s.vm.findClass own = some m.cls) {nL : Nat} (hml : c.maxLocals = nL) (hls : ls.size = nL) {y : MethodName} {yc : ByteArray} {maxL n f loc index : Nat} {rt : Option FieldType} {As st0 : List Value} {v : Value}
    (hM : SC l y yc maxL rt f loc As v) (h1 : Cond.methodLink own index y ∈ lw_all) (h2 : Cond.static y ∈ lw_all) (h3 : Cond.initialized y.cls ∈ lw_all) (h4 : Cond.code y yc maxL rt ∈ lw_all) (hn : As.length = n)
    (hd : y.cls ≠ "java/lang/invoke/MethodHandle" ∧ y.cls ≠ "java/lang/invoke/VarHandle" ∧ (parseMethodDescriptor y.desc).map (fun d => d.parameters.length) = some n) (hf : f + 1 ≤ R.frames) (hlo : 8 + (maxL + 11) + loc ≤ R.locals) (hR : cells ≤ R.cells ∧ slots ≤ R.slots)
    (hst : st0 = As.reverse ++ rest) (hW : (rest.map fun v => v.category).sum ≤ 8) (hdg : decode cc pc = .ok (.invokestatic index, 3))
    (kk : W p l e R s m args below meth c H locs cells slots Q (F0 m (pc + 3) ls (v :: rest))) : W p l e R s m args below meth c H locs cells slots Q (F0 m pc ls st0) := by
  have hr := va_runS (H := H) (locs := locs) (cells := cells) (slots := slots) (below := below) (meth := meth) (e := e) (R := R) (g := F0 m pc ls st0) (As := As) (rest := rest) (Ts := lw_all) ⟨hx, hb, hml, hown, hts⟩ hM (va_cwS n hts (lw_S h1 h2 h3 h4) rfl rfl rfl hd ⟨hf, hlo⟩) ⟨fun a U g mk q => q, fun U hU hW => ⟨rfl, trivial⟩⟩ rfl hn hls hst (by show 2 * 0 + _ ≤ 8; omega) hdg ⟨hR.1, hR.2⟩
  intro T hT X
  obtain ⟨v', st₀, t, T', L, h0, X', hL, e1, e2, ⟨hv, hh⟩, st⟩ := hr T hT X
  cases hv
  obtain ⟨t2, a1, b1⟩ := kk T' (by rw [e1, hh, h0]) (Stand.forget X' (fun q h => (hL q h).elim))
  exact ⟨t2, st t2 a1, b1⟩
end C2
section N1
variable {p : Program} {l : Launch} {e : Env} {R : Room} {s : State} {m : MethodId} {args : Array Value} {below : List Frame} {meth : Method} {c : Code} {H : Heap} {locs : List Loc} {cells slots : Nat} {Q : State → Prop}
variable {cc : ByteArray} {pc : Nat} {ls : Array Slot} {rest : List Value}
theorem n_icmp_eq (hx : p.tables.exec = Jvm.exec) (hb : c.code = cc) {a b : Nat} {off : Int} {tgt : Nat} (hdg : decode cc pc = .ok (.if_icmp .eq off, 3)) (ht : (pc : Int) + off = (tgt : Int)) (ha : a < 2147483648) (hb2 : b < 2147483648) (k1 : a = b → W p l e R s m args below meth c H locs cells slots Q (F0 m tgt ls rest)) (k2 : a ≠ b → W p l e R s m args below meth c H locs cells slots Q (F0 m (pc + 3) ls rest)) : W p l e R s m args below meth c H locs cells slots Q (F0 m pc ls (.int (nI b) :: .int (nI a) :: rest)) := by
  exact lv_icmp_eq hx hb hdg ht (fun h => k1 ((nI_eq (by omega) (by omega)).mp h)) (fun h => k2 (fun q => h ((nI_eq (by omega) (by omega)).mpr q)))
theorem n_icmp_ne (hx : p.tables.exec = Jvm.exec) (hb : c.code = cc) {a b : Nat} {off : Int} {tgt : Nat} (hdg : decode cc pc = .ok (.if_icmp .ne off, 3)) (ht : (pc : Int) + off = (tgt : Int)) (ha : a < 2147483648) (hb2 : b < 2147483648) (k1 : a ≠ b → W p l e R s m args below meth c H locs cells slots Q (F0 m tgt ls rest)) (k2 : a = b → W p l e R s m args below meth c H locs cells slots Q (F0 m (pc + 3) ls rest)) : W p l e R s m args below meth c H locs cells slots Q (F0 m pc ls (.int (nI b) :: .int (nI a) :: rest)) := by
  exact lv_icmp_ne hx hb hdg ht (fun h => k1 (fun q => h ((nI_eq (by omega) (by omega)).mpr q))) (fun h => k2 ((nI_eq (by omega) (by omega)).mp h))
theorem n_icmp_lt (hx : p.tables.exec = Jvm.exec) (hb : c.code = cc) {a b : Nat} {off : Int} {tgt : Nat} (hdg : decode cc pc = .ok (.if_icmp .lt off, 3)) (ht : (pc : Int) + off = (tgt : Int)) (ha : a < 2147483648) (hb2 : b < 2147483648) (k1 : a < b → W p l e R s m args below meth c H locs cells slots Q (F0 m tgt ls rest)) (k2 : b ≤ a → W p l e R s m args below meth c H locs cells slots Q (F0 m (pc + 3) ls rest)) : W p l e R s m args below meth c H locs cells slots Q (F0 m pc ls (.int (nI b) :: .int (nI a) :: rest)) := by
  exact lv_icmp_lt hx hb hdg ht (fun h => k1 ((nI_ltI (by omega) (by omega)).mp h)) (fun h => k2 (Nat.not_lt.mp (fun q => h ((nI_ltI (by omega) (by omega)).mpr q))))
theorem n_icmp_ge (hx : p.tables.exec = Jvm.exec) (hb : c.code = cc) {a b : Nat} {off : Int} {tgt : Nat} (hdg : decode cc pc = .ok (.if_icmp .ge off, 3)) (ht : (pc : Int) + off = (tgt : Int)) (ha : a < 2147483648) (hb2 : b < 2147483648) (k1 : b ≤ a → W p l e R s m args below meth c H locs cells slots Q (F0 m tgt ls rest)) (k2 : a < b → W p l e R s m args below meth c H locs cells slots Q (F0 m (pc + 3) ls rest)) : W p l e R s m args below meth c H locs cells slots Q (F0 m pc ls (.int (nI b) :: .int (nI a) :: rest)) := by
  exact lv_icmp_ge hx hb hdg ht (fun h => k1 ((nI_leI (by omega) (by omega)).mp h)) (fun h => k2 (Nat.not_le.mp (fun q => h ((nI_leI (by omega) (by omega)).mpr q))))
theorem n_icmp_gt (hx : p.tables.exec = Jvm.exec) (hb : c.code = cc) {a b : Nat} {off : Int} {tgt : Nat} (hdg : decode cc pc = .ok (.if_icmp .gt off, 3)) (ht : (pc : Int) + off = (tgt : Int)) (ha : a < 2147483648) (hb2 : b < 2147483648) (k1 : b < a → W p l e R s m args below meth c H locs cells slots Q (F0 m tgt ls rest)) (k2 : a ≤ b → W p l e R s m args below meth c H locs cells slots Q (F0 m (pc + 3) ls rest)) : W p l e R s m args below meth c H locs cells slots Q (F0 m pc ls (.int (nI b) :: .int (nI a) :: rest)) := by
  exact lv_icmp_gt hx hb hdg ht (fun h => k1 ((nI_ltI (by omega) (by omega)).mp h)) (fun h => k2 (Nat.not_lt.mp (fun q => h ((nI_ltI (by omega) (by omega)).mpr q))))
theorem n_icmp_le (hx : p.tables.exec = Jvm.exec) (hb : c.code = cc) {a b : Nat} {off : Int} {tgt : Nat} (hdg : decode cc pc = .ok (.if_icmp .le off, 3)) (ht : (pc : Int) + off = (tgt : Int)) (ha : a < 2147483648) (hb2 : b < 2147483648) (k1 : a ≤ b → W p l e R s m args below meth c H locs cells slots Q (F0 m tgt ls rest)) (k2 : b < a → W p l e R s m args below meth c H locs cells slots Q (F0 m (pc + 3) ls rest)) : W p l e R s m args below meth c H locs cells slots Q (F0 m pc ls (.int (nI b) :: .int (nI a) :: rest)) := by
  exact lv_icmp_le hx hb hdg ht (fun h => k1 ((nI_leI (by omega) (by omega)).mp h)) (fun h => k2 (Nat.not_le.mp (fun q => h ((nI_leI (by omega) (by omega)).mpr q))))
theorem n_if_eq (hx : p.tables.exec = Jvm.exec) (hb : c.code = cc) {a : Nat} {off : Int} {tgt : Nat} (hdg : decode cc pc = .ok (.ifCond .eq off, 3)) (ht : (pc : Int) + off = (tgt : Int)) (ha : a < 2147483648) (k1 : a = 0 → W p l e R s m args below meth c H locs cells slots Q (F0 m tgt ls rest)) (k2 : a ≠ 0 → W p l e R s m args below meth c H locs cells slots Q (F0 m (pc + 3) ls rest)) : W p l e R s m args below meth c H locs cells slots Q (F0 m pc ls (.int (nI a) :: rest)) := by
  exact lv_if_eq hx hb hdg ht (fun h => k1 ((nI_eq (b := 0) (by omega) (by omega)).mp h)) (fun h => k2 (fun q => h ((nI_eq (b := 0) (by omega) (by omega)).mpr q)))
theorem n_if_ne (hx : p.tables.exec = Jvm.exec) (hb : c.code = cc) {a : Nat} {off : Int} {tgt : Nat} (hdg : decode cc pc = .ok (.ifCond .ne off, 3)) (ht : (pc : Int) + off = (tgt : Int)) (ha : a < 2147483648) (k1 : a ≠ 0 → W p l e R s m args below meth c H locs cells slots Q (F0 m tgt ls rest)) (k2 : a = 0 → W p l e R s m args below meth c H locs cells slots Q (F0 m (pc + 3) ls rest)) : W p l e R s m args below meth c H locs cells slots Q (F0 m pc ls (.int (nI a) :: rest)) := by
  exact lv_if_ne hx hb hdg ht (fun h => k1 (fun q => h ((nI_eq (b := 0) (by omega) (by omega)).mpr q))) (fun h => k2 ((nI_eq (b := 0) (by omega) (by omega)).mp h))
theorem n_if_le (hx : p.tables.exec = Jvm.exec) (hb : c.code = cc) {a : Nat} {off : Int} {tgt : Nat} (hdg : decode cc pc = .ok (.ifCond .le off, 3)) (ht : (pc : Int) + off = (tgt : Int)) (ha : a < 2147483648) (k1 : a = 0 → W p l e R s m args below meth c H locs cells slots Q (F0 m tgt ls rest)) (k2 : 0 < a → W p l e R s m args below meth c H locs cells slots Q (F0 m (pc + 3) ls rest)) : W p l e R s m args below meth c H locs cells slots Q (F0 m pc ls (.int (nI a) :: rest)) := by
  exact lv_if_le hx hb hdg ht (fun h => k1 (Nat.le_zero.mp ((nI_leI (b := 0) (by omega) (by omega)).mp h))) (fun h => k2 (Nat.not_le.mp (fun q => h ((nI_leI (b := 0) (by omega) (by omega)).mpr q))))
theorem lg_0 {x y : Int64} : lg_cmp x y = 0 ↔ x = y := by
  unfold lg_cmp
  by_cases h : x > y
  · rw [if_pos h]
    refine ⟨fun q => absurd q (by decide), fun q => ?_⟩
    rw [q] at h
    have := Int64.lt_iff_toInt_lt.mp h
    omega
  · rw [if_neg h]
    by_cases h2 : x = y
    · rw [if_pos h2]
      exact ⟨fun _ => h2, fun _ => rfl⟩
    · rw [if_neg h2]
      exact ⟨fun q => absurd q (by decide), fun q => absurd q h2⟩
theorem lg_le {x y : Int64} : lg_cmp x y ≤ 0 ↔ x ≤ y := by
  unfold lg_cmp
  by_cases h : x > y
  · rw [if_pos h]
    refine ⟨fun q => absurd q (by decide), fun q => ?_⟩
    have h1 := Int64.lt_iff_toInt_lt.mp h
    have h2 := Int64.le_iff_toInt_le.mp q
    omega
  · rw [if_neg h]
    have h3 : x ≤ y := by
      rw [Int64.le_iff_toInt_le]
      have h4 : ¬ y.toInt < x.toInt := fun q => h (Int64.lt_iff_toInt_lt.mpr q)
      omega
    by_cases h2 : x = y
    · rw [if_pos h2]
      exact ⟨fun _ => h3, fun _ => by decide⟩
    · rw [if_neg h2]
      exact ⟨fun _ => h3, fun _ => by decide⟩
theorem l_if_eq (hx : p.tables.exec = Jvm.exec) (hb : c.code = cc) {x y : Int64} {off : Int} {tgt : Nat} (hdg : decode cc pc = .ok (.ifCond .eq off, 3)) (ht : (pc : Int) + off = (tgt : Int)) (k1 : x = y → W p l e R s m args below meth c H locs cells slots Q (F0 m tgt ls rest)) (k2 : x ≠ y → W p l e R s m args below meth c H locs cells slots Q (F0 m (pc + 3) ls rest)) : W p l e R s m args below meth c H locs cells slots Q (F0 m pc ls (.int (lg_cmp x y) :: rest)) := by
  exact lv_if_eq hx hb hdg ht (fun h => k1 (lg_0.mp h)) (fun h => k2 (fun q => h (lg_0.mpr q)))
theorem l_if_ne (hx : p.tables.exec = Jvm.exec) (hb : c.code = cc) {x y : Int64} {off : Int} {tgt : Nat} (hdg : decode cc pc = .ok (.ifCond .ne off, 3)) (ht : (pc : Int) + off = (tgt : Int)) (k1 : x ≠ y → W p l e R s m args below meth c H locs cells slots Q (F0 m tgt ls rest)) (k2 : x = y → W p l e R s m args below meth c H locs cells slots Q (F0 m (pc + 3) ls rest)) : W p l e R s m args below meth c H locs cells slots Q (F0 m pc ls (.int (lg_cmp x y) :: rest)) := by
  exact lv_if_ne hx hb hdg ht (fun h => k1 (fun q => h (lg_0.mpr q))) (fun h => k2 (lg_0.mp h))
theorem l_if_le (hx : p.tables.exec = Jvm.exec) (hb : c.code = cc) {x y : Int64} {off : Int} {tgt : Nat} (hdg : decode cc pc = .ok (.ifCond .le off, 3)) (ht : (pc : Int) + off = (tgt : Int)) (k1 : x ≤ y → W p l e R s m args below meth c H locs cells slots Q (F0 m tgt ls rest)) (k2 : y < x → W p l e R s m args below meth c H locs cells slots Q (F0 m (pc + 3) ls rest)) : W p l e R s m args below meth c H locs cells slots Q (F0 m pc ls (.int (lg_cmp x y) :: rest)) := by
  refine lv_if_le hx hb hdg ht (fun h => k1 (lg_le.mp h)) (fun h => k2 ?_)
  rw [Int64.lt_iff_toInt_lt]
  have h4 : ¬ x.toInt ≤ y.toInt := fun q => h (lg_le.mpr (Int64.le_iff_toInt_le.mpr q))
  omega
end N1

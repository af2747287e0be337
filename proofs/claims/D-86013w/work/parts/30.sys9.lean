/-! SYSTEM 9: split, worked, through -/
set_option maxRecDepth 100000
set_option maxHeartbeats 4000000
section S9
variable {p : Program} {l : Launch} {e : Env} {R : Room} {s : State} {m : MethodId} {args : Array Value} {below : List Frame} {meth : Method} {c : Code} {H : Heap} {locs : List Loc} {cells slots : Nat} {Q : State → Prop}
variable {cc : ByteArray} {pc : Nat} {ls : Array Slot} {rest : List Value}
theorem w_loopC {σ : Type} (I : σ → Heap → List Loc → Array Slot → Nat → Nat → Prop) (ms : σ → Nat)
    (step : ∀ (x : σ) (H : Heap) (locs : List Loc) (ls : Array Slot) (cells slots : Nat), I x H locs ls cells slots → (∀ (x' : σ) (H' : Heap) (locs' : List Loc) (ls' : Array Slot) (cells' slots' : Nat), I x' H' locs' ls' cells' slots' → ms x' < ms x → W p l e R s m args below meth c H' locs' cells' slots' Q (F0 m pc ls' [])) → W p l e R s m args below meth c H locs cells slots Q (F0 m pc ls []))
    (x0 : σ) (h0 : I x0 H locs ls cells slots) : W p l e R s m args below meth c H locs cells slots Q (F0 m pc ls []) := by
  have key : ∀ (n : Nat) (x : σ) (H : Heap) (locs : List Loc) (ls : Array Slot) (cells slots : Nat), ms x < n → I x H locs ls cells slots → W p l e R s m args below meth c H locs cells slots Q (F0 m pc ls []) := by
    intro n
    induction n with
    | zero => intro x H locs ls cells slots h; omega
    | succ n ih => intro x H locs ls cells slots h hI; exact step x H locs ls cells slots hI (fun x' H' locs' ls' cells' slots' hI' h' => ih x' H' locs' ls' cells' slots' (by omega) hI')
  exact key _ x0 H locs ls cells slots (Nat.lt_succ_self _) h0
theorem q_astore_n (hx : p.tables.exec = Jvm.exec) (hb : c.code = cc) {k : Fin 4} {i nL : Nat} {o : Option Nat} {lv lv' : List (Nat × Value)} (hdg : decode cc pc = .ok (.astore_n k, 1)) (hi : (k : Nat) = i) (h : lv_has ls nL lv) (hn : i < nL) (hl : (i, va_rf o) :: lv.filter (fun q => !(q.1 == i) && !(q.1 + 1 == i && q.2.category == 2)) = lv')
    (kk : ∀ ls' : Array Slot, lv_has ls' nL lv' → W p l e R s m args below meth c H locs cells slots Q (F0 m (pc + 1) ls' rest)) : W p l e R s m args below meth c H locs cells slots Q (F0 m pc ls (va_rf o :: rest)) := by
  cases o with
  | none => exact lv_astore_nN hx hb hdg hi h hn hl kk
  | some a => exact lv_astore_n hx hb hdg hi h hn hl kk
theorem q_astore (hx : p.tables.exec = Jvm.exec) (hb : c.code = cc) {i nL : Nat} {o : Option Nat} {lv lv' : List (Nat × Value)} (hdg : decode cc pc = .ok (.astore i, 2)) (h : lv_has ls nL lv) (hn : i < nL) (hl : (i, va_rf o) :: lv.filter (fun q => !(q.1 == i) && !(q.1 + 1 == i && q.2.category == 2)) = lv')
    (kk : ∀ ls' : Array Slot, lv_has ls' nL lv' → W p l e R s m args below meth c H locs cells slots Q (F0 m (pc + 2) ls' rest)) : W p l e R s m args below meth c H locs cells slots Q (F0 m pc ls (va_rf o :: rest)) := by
  cases o with
  | none => exact lv_astoreN hx hb hdg h hn hl kk
  | some a => exact lv_astore hx hb hdg h hn hl kk
end S9
def oB (β : Nat → Nat) (o : Option Nat) : Option Nat := o.map (fun y => β (64 + y))
def TH (l : Launch) (D : va_G) (tc : Nat → ClassId) (x mo : Nat) (β : Nat → Nat) (g B d r : Nat) : Prop := ∀ (b : Nat) (μ : MS) (t M : Nat), b + cst d ≤ B → PX g b μ → t < nn μ → cnt (thr d r μ t).1 ≤ cnt μ + M →
  YC l yX0_through cX0_through 7 (some (.object "java/lang/Object")) (10 + 4 * d) (10400 + 100 * d) (3 * M) (1000 * M) D tc x mo β [.ref (β 0), .ref (β (64 + t)), .int (nI r)] μ (thr d r μ t).1 (some (va_rf (oB β (thr d r μ t).2)))
def splR (sub : MS → Nat → MS) (r : Nat) (μ : MS) (t : Nat) : MS := if thgN (kd μ t) = true ∧ r < 7 then p_rowL sub t (sz μ t) 0 μ else μ
theorem stampAll_low {μ : MS} {t : Nat} (h : thgN (kd μ t) = false) (h12 : kd μ t ≤ 12) : p_stampAll μ t = p_stampLow μ t := by
  have h11 : kd μ t < 11 := by simp [thgN] at h; omega
  unfold p_stampAll p_stampRow
  rw [if_pos h11, h, if_neg (by decide)]
  rfl
theorem stampAll_row {μ : MS} {t : Nat} (h11 : kd μ t < 11) : p_stampAll μ t = p_stampRow μ t := by
  unfold p_stampAll
  rw [if_pos h11]
theorem i32_gt {v : Int32} (h1 : 0 ≤ v.toInt) (h2 : v.toInt < 2147483647) : ¬ v + 1 ≤ v := by
  intro q
  have h3 := Int32.le_iff_toInt_le.mp q
  rw [i32_succ h1 h2] at h3
  omega
theorem k_X0_split (l : Launch) (hst : l.stackTraces = false) (D : va_G) (tc : Nat → ClassId) (x mo : Nat) (β : Nat → Nat) (μ : MS) (g B : Nat) (hg : g < 1073741824) (hB : B < 2 ^ 51) (d r : Nat) (hrd : r + (d + 1) = 8) (hTH : r < 7 → TH l D tc x mo β g B d (r + 1)) (b : Nat) (t M : Nat) (hb : b + 3 * cst d ≤ B) (hP : PX g b μ) (ht : t < nn μ) (hM9 : cnt (splR (fun ν9 y9 => (thr d (r + 1) ν9 y9).1) r μ t) ≤ cnt μ + M) : YC l yX0_split cX0_split 5 none (8 + 4 * (d + 1)) (10352 + 100 * (d + 1)) (3 * M) (1000 * M) D tc x mo β [.ref (β 0), .ref (β (64 + t)), .int (nI (r + 1))] μ (splR (fun ν9 y9 => (thr d (r + 1) ν9 y9).1) r μ t) none := by
  refine YC.of (by decide) rfl (Nat.le_of_ble_eq_true rfl) ?_
  intro p e s m below meth c hC hX hZ hr hlk hml hM hS ls hl
  have hx := hC.1
  have hb := hC.2.1
  have hts := hC.2.2.1
  have hown := hC.2.2.2.1
  have hl : lv_has ls 5 [(0, .ref (β 0)), (1, .ref (β (64 + t))), (2, .int (nI (r + 1)))] := hl
  have hI := hP.1
  have hn := hI.1.1.1.2
  have hW := hI.1.1
  have h12 := (hW.2.1 t (by omega)).2.1
  have h3 := (hW.2.1 t (by omega)).2.2.2
  refine lv_iload_n hx hb dX0_split_0 rfl (lv_at hl 2 rfl) ?_
  refine lv_bipush (v := 8) hx hb dX0_split_1 (by decide) ?_
  refine n_icmp_eq (a := (r + 1)) (b := 8) (tgt := 13) hx hb dX0_split_3 (by decide) (by omega) (by omega) (fun c_3 => ?_) (fun c_3 => ?_)
  · exact sy_vret hC hr hlk hM hS (by unfold splR; rw [if_neg (by first | (intro q; omega) | (rw [c_10]; intro q; cases q.1))]) (by omega) (by omega) dX0_split_13
  · refine lv_aload_n hx hb dX0_split_6 rfl (lv_at hl 1 rfl) ?_
    refine w_YS (As := [.ref (β (64 + t))]) hC hX hZ hM hS hml hl.1 (k_X0_isOfThings l hst D tc x mo β μ t ht hn h12) q448 q449 q23 q450 rfl ⟨by decide, by decide, rfl⟩ (by show _ ≤ 8 + 4 * (d + 1); omega) (by show _ ≤ 10352 + 100 * (d + 1); omega) ⟨by show _ ≤ 3 * M; omega, by show _ ≤ 1000 * M; omega⟩ rfl (Nat.le_of_ble_eq_true rfl) dX0_split_7 (fun H locs hM hS => ?_)
    refine b_ifne (w := (thgN (kd μ t))) (tgt := 14) hx hb dX0_split_10 (by decide) (fun c_10 => ?_) (fun c_10 => ?_)
    · refine lv_iconst (v := 0) hx hb dX0_split_14 (by decide) ?_
      refine lv_istore_n (lv' := [(3, .int 0), (0, .ref (β 0)), (1, .ref (β (64 + t))), (2, .int (nI (r + 1)))]) hx hb dX0_split_15 rfl hl (by decide) rfl (fun ls hl => ?_)
      have hr7 : r < 7 := by omega
      have hsub := SubP_thr (g := g) (B := B) (d := d) (r := r + 1) (by omega) hg (by omega)
      have hfin : splR (fun ν9 y9 => (thr d (r + 1) ν9 y9).1) r μ t = p_rowL (fun ν9 y9 => (thr d (r + 1) ν9 y9).1) t (sz μ t) 0 μ := if_pos ⟨c_10, hr7⟩
      have hm3 : sz μ t * cst d ≤ 3 * cst d := Nat.mul_le_mul_right _ h3
      refine w_loopC (σ := Nat × MS) (fun y9 H locs ls cells slots => y9.1 ≤ sz μ t ∧ p_rowL (fun ν9 y9 => (thr d (r + 1) ν9 y9).1) t (sz μ t - y9.1) y9.1 y9.2 = splR (fun ν9 y9 => (thr d (r + 1) ν9 y9).1) r μ t ∧ SR μ y9.2 ∧ PX g (b + y9.1 * cst d) y9.2 ∧ (cnt μ ≤ cnt y9.2 ∧ cells ≤ 3 * (cnt y9.2 - cnt μ) ∧ slots ≤ 1000 * (cnt y9.2 - cnt μ)) ∧ Sys D tc x mo β y9.2 H ∧ va_S (sy_A x mo) s.heap H locs ∧ lv_has ls 5 [(3, .int (nI y9.1)), (0, .ref (β 0)), (1, .ref (β (64 + t))), (2, .int (nI (r + 1)))]) (fun y9 => sz μ t - y9.1) ?_ (0, μ) ⟨Nat.zero_le _, hfin.symm, SR.rf, (by rw [Nat.zero_mul]; exact hP), ⟨Nat.le_refl _, by omega, by omega⟩, hM, hS, lv_sub hl [0, 1, 2, 3] rfl⟩
      intro y9 H locs ls cells slots hI9 ih
      obtain ⟨i, ν⟩ := y9
      obtain ⟨hi, hp, hsr, hPν, ⟨hc1, hc2, hc3⟩, hM, hS, hl⟩ := hI9
      dsimp only at hi hp hsr hPν hc1 hc2 hc3 hM hl ih
      have hn9 : nn ν = nn μ := SR_nn hsr
      have hic : i * cst d ≤ sz μ t * cst d := Nat.mul_le_mul_right _ hi
      have hfinc : cnt ν ≤ cnt (splR (fun ν9 y9 => (thr d (r + 1) ν9 y9).1) r μ t) := by rw [← hp]; exact (rowL_PX hsub (show t < 60 by omega) (sz μ t - i) i (b + i * cst d) ν (by have := Nat.add_mul i (sz μ t - i) (cst d); rw [show i + (sz μ t - i) = sz μ t by omega] at this; omega) hPν (by rw [SR_kd hsr]; exact c_10) (by omega)).2.2
      refine lv_iload_n hx hb dX0_split_16 rfl (lv_at hl 0 rfl) ?_
      refine lv_aload_n hx hb dX0_split_17 rfl (lv_at hl 2 rfl) ?_
      refine w_YS (As := [.ref (β (64 + t))]) hC hX hZ hM hS hml hl.1 (k_X0_size l hst D tc x mo β ν t (by rw [SR_nn hsr]; exact ht) (by rw [SR_nn hsr]; exact hn) (by rw [SR_kd hsr]; exact h12)) q399 q400 q23 q401 rfl ⟨by decide, by decide, rfl⟩ (by show _ ≤ 8 + 4 * (d + 1); omega) (by show _ ≤ 10352 + 100 * (d + 1); omega) ⟨by show _ ≤ 3 * M; omega, by show _ ≤ 1000 * M; omega⟩ rfl (Nat.le_of_ble_eq_true rfl) dX0_split_18 (fun H locs hM hS => ?_)
      have ho : oneN (kd μ t) = false := by simp [thgN, oneN] at c_10 ⊢; omega
      refine w_top (y := .int (nI (sz μ t))) (by unfold talI; rw [SR_kd hsr, SR_sz hsr, ho]; rfl) ?_
      refine n_icmp_ge (a := i) (b := (sz μ t)) (tgt := 51) hx hb dX0_split_21 (by decide) (by omega) (by omega) (fun c_21 => ?_) (fun c_21 => ?_)
      · exact sy_vret hC hr hlk hM hS (rowL_end (by omega) hp) (by omega) (by omega) dX0_split_51
      · refine lv_aload_n hx hb dX0_split_24 rfl (lv_at hl 2 rfl) ?_
        refine lv_iload_n hx hb dX0_split_25 rfl (lv_at hl 0 rfl) ?_
        refine w_YS (As := [.ref (β (64 + t)), .int (nI i)]) hC hX hZ hM hS hml hl.1 (k_X0_part_ok l hst D tc x mo β ν t (by rw [SR_nn hsr]; exact ht) (by rw [SR_nn hsr]; exact hn) (by rw [SR_kd hsr]; exact c_10) (by rw [SR_kd hsr]; exact h12) (by rw [SR_sz hsr]; exact h3) i (by rw [SR_sz hsr]; omega)) q291 q292 q23 q293 rfl ⟨by decide, by decide, rfl⟩ (by show _ ≤ 8 + 4 * (d + 1); omega) (by show _ ≤ 10352 + 100 * (d + 1); omega) ⟨by show _ ≤ 3 * M; omega, by show _ ≤ 1000 * M; omega⟩ rfl (Nat.le_of_ble_eq_true rfl) dX0_split_26 (fun H locs hM hS => ?_)
        rcases CV_thg (j := t) hPν.1.1 (by omega) (show i < 3 by omega) (by rw [SR_kd hsr]; exact c_10) with e8 | ⟨y8, hy8, e8, g8⟩
        · refine w_top (y := .null) (by rw [e8]; rfl) ?_
          refine lv_astoreN (lv' := [(4, .null), (3, .int (nI i)), (0, .ref (β 0)), (1, .ref (β (64 + t))), (2, .int (nI (r + 1)))]) hx hb dX0_split_29 hl (by decide) rfl (fun ls hl => ?_)
          refine lv_aloadN hx hb dX0_split_31 (lv_at hl 0 rfl) ?_
          refine lv_ifnullN (tgt := 45) hx hb dX0_split_33 (by decide) ?_
          refine lv_iinc (v := (nI (i + 1))) (lv' := [(3, .int (nI (i + 1))), (4, .null), (0, .ref (β 0)), (1, .ref (β (64 + t))), (2, .int (nI (r + 1)))]) hx hb dX0_split_45 hl (k := 1) rfl (nI_1 i) (by decide) rfl (fun ls hl => ?_)
          refine lv_goto (tgt := 16) hx hb dX0_split_48 (by decide) ?_
          exact ih (i + 1, ν) H locs ls _ _ ⟨by show i + 1 ≤ _; omega, rowL_skip (by omega) hp e8, hsr, PX_mono hPν (by rw [Nat.add_mul]; omega), ⟨hc1, by show _ ≤ 3 * (cnt ν - cnt μ); omega, by show _ ≤ 1000 * (cnt ν - cnt μ); omega⟩, hM, hS, lv_sub hl [0, 2, 3, 4] rfl⟩ (by show sz μ t - (i + 1) < sz μ t - i; omega)
        · refine w_top (y := .ref (β (64 + y8))) (by rw [e8, qT_N (by omega)]; rfl) ?_
          refine lv_astore (lv' := [(4, .ref (β (64 + y8))), (3, .int (nI i)), (0, .ref (β 0)), (1, .ref (β (64 + t))), (2, .int (nI (r + 1)))]) hx hb dX0_split_29 hl (by decide) rfl (fun ls hl => ?_)
          refine lv_aload hx hb dX0_split_31 (lv_at hl 0 rfl) ?_
          refine lv_ifnull hx hb dX0_split_33 ?_
          refine lv_aload_n hx hb dX0_split_36 rfl (lv_at hl 2 rfl) ?_
          refine lv_aload hx hb dX0_split_37 (lv_at hl 0 rfl) ?_
          refine lv_iload_n hx hb dX0_split_39 rfl (lv_at hl 4 rfl) ?_
          have hbi : b + i * cst d + cst d ≤ B := by have := Nat.mul_le_mul_right (cst d) (show i + 1 ≤ sz μ t by omega); rw [Nat.add_mul, Nat.one_mul] at this; omega
          obtain ⟨b1, b2, b3⟩ := hsub (b + i * cst d) ν y8 hbi hPν hy8
          dsimp only at b1 b2 b3
          have hp2 := rowL_do (by omega) hp (by rw [e8]; exact lN_m1 (by omega)) (by omega) e8
          have hfin2 : cnt (thr d (r + 1) ν y8).1 ≤ cnt (splR (fun ν9 y9 => (thr d (r + 1) ν9 y9).1) r μ t) := by rw [← hp2]; exact (rowL_PX hsub (show t < 60 by omega) (sz μ t - (i + 1)) (i + 1) (b + i * cst d + cst d) _ (by have := Nat.add_mul (i + 1) (sz μ t - (i + 1)) (cst d); rw [show i + 1 + (sz μ t - (i + 1)) = sz μ t by omega] at this; rw [Nat.add_mul i 1, Nat.one_mul] at this; omega) b1 (by rw [SR_kd b2, SR_kd hsr]; exact c_10) (by omega)).2.2
          refine w_YV (As := [.ref (β (64 + y8)), .int (nI (r + 1))]) hC hX hZ hM hS hml hl.1 (sy_mainR hC.2.2.2.2 hM) (hTH hr7 (b + i * cst d) ν y8 (cnt (thr d (r + 1) ν y8).1 - cnt ν) hbi hPν hy8 (by omega)) q384 q386 qs5 q23 q387 rfl ⟨by decide, by decide, rfl⟩ (by show _ ≤ 8 + 4 * (d + 1); omega) (by show _ ≤ 10352 + 100 * (d + 1); omega) ⟨by show _ ≤ 3 * M; omega, by show _ ≤ 1000 * M; omega⟩ rfl (Nat.le_of_ble_eq_true rfl) dX0_split_40 (fun H locs hM hS => ?_)
          refine q_astore (lv' := [(4, va_rf (oB β (thr d (r + 1) ν y8).2)), (3, .int (nI i)), (0, .ref (β 0)), (1, .ref (β (64 + t))), (2, .int (nI (r + 1)))]) hx hb dX0_split_43 hl (by decide) rfl (fun ls hl => ?_)
          refine lv_iinc (v := (nI (i + 1))) (lv' := [(3, .int (nI (i + 1))), (4, va_rf (oB β (thr d (r + 1) ν y8).2)), (0, .ref (β 0)), (1, .ref (β (64 + t))), (2, .int (nI (r + 1)))]) hx hb dX0_split_45 hl (k := 1) rfl (nI_1 i) (by decide) rfl (fun ls hl => ?_)
          refine lv_goto (tgt := 16) hx hb dX0_split_48 (by decide) ?_
          exact ih (i + 1, (thr d (r + 1) ν y8).1) H locs ls _ _ ⟨by show i + 1 ≤ _; omega, hp2, hsr.tr b2, PX_mono b1 (by rw [Nat.add_mul]; omega), ⟨by show cnt μ ≤ cnt (thr d (r + 1) ν y8).1; omega, by show _ ≤ 3 * (cnt (thr d (r + 1) ν y8).1 - cnt μ); omega, by show _ ≤ 1000 * (cnt (thr d (r + 1) ν y8).1 - cnt μ); omega⟩, hM, hS, lv_sub hl [0, 2, 3, 4] rfl⟩ (by show sz μ t - (i + 1) < sz μ t - i; omega)
    · exact sy_vret hC hr hlk hM hS (by unfold splR; rw [if_neg (by first | (intro q; omega) | (rw [c_10]; intro q; cases q.1))]) (by omega) (by omega) dX0_split_13
theorem k_X0_worked (l : Launch) (hst : l.stackTraces = false) (D : va_G) (tc : Nat → ClassId) (x mo : Nat) (β : Nat → Nat) (μ : MS) (g B : Nat) (hg : g < 1073741824) (hB : B < 2 ^ 51) (d r : Nat) (hrd : r + (d + 1) = 8) (hTH : r < 7 → TH l D tc x mo β g B d (r + 1)) (b : Nat) (q t M : Nat) (hb : b + (12 + 3 * cst d) ≤ B) (hP : PX g b μ) (hq : q < 32) (hlv : q % 4 < dk μ (q / 4)) (ht : t < nn μ) (hM9 : cnt (wrkR (fun ν9 y9 => (thr d (r + 1) ν9 y9).1) μ q t r).1 ≤ cnt μ + M) : YC l yX0_worked cX0_worked 5 (some (.object "java/lang/Object")) (9 + 4 * (d + 1)) (10376 + 100 * (d + 1)) (3 * M) (1000 * M) D tc x mo β [.ref (β 0), .ref (β (124 + q)), .ref (β (64 + t)), .int (nI r)] μ ((wrkR (fun ν9 y9 => (thr d (r + 1) ν9 y9).1) μ q t r).1) (some ((va_rf (oB β (wrkR (fun ν9 y9 => (thr d (r + 1) ν9 y9).1) μ q t r).2)))) := by
  refine YC.of (by decide) rfl (Nat.le_of_ble_eq_true rfl) ?_
  intro p e s m below meth c hC hX hZ hr hlk hml hM hS ls hl
  have hx := hC.1
  have hb := hC.2.1
  have hts := hC.2.2.1
  have hown := hC.2.2.2.1
  have hl : lv_has ls 5 [(0, .ref (β 0)), (1, .ref (β (124 + q))), (2, .ref (β (64 + t))), (3, .int (nI r))] := hl
  have hI := hP.1
  have hn := hI.1.1.1.2
  have hW := hI.1.1
  have h12 := (hW.2.1 t (by omega)).2.1
  have h3 := (hW.2.1 t (by omega)).2.2.2
  refine lv_aload_n hx hb dX0_worked_0 rfl (lv_at hl 1 rfl) ?_
  refine sy_dget (v := .int (sA μ 5 q)) hC hM hq hlv 1 (by decide) rfl q342 rfl dX0_worked_1 ?_
  have hac4 := (hW.2.2.2 q hq).2.2.2
  refine w_top (y := .int (nI (ac μ q))) (by rw [(hW.2.2.2 q hq).2.2.1]) ?_
  rcases (by omega : ac μ q = 0 ∨ ac μ q = 1 ∨ ac μ q = 2 ∨ ac μ q = 3 ∨ ac μ q = 4) with hac | hac | hac | hac | hac
  · refine w_top (y := .int 0) (by rw [hac]; rfl) ?_
    refine lv_tableIn (off := 32) (tgt := 36) hx hb dX0_worked_4 (by decide) (by decide) rfl (by decide) ?_
    refine lv_aload_n hx hb dX0_worked_36 rfl (lv_at hl 1 rfl) ?_
    refine lv_dup hx hb dX0_worked_37 rfl ?_
    refine sy_dget (v := .int (sA μ 7 q)) hC hM hq hlv 3 (by decide) rfl q344 rfl dX0_worked_38 ?_
    refine lv_aload_n hx hb dX0_worked_41 rfl (lv_at hl 2 rfl) ?_
    refine w_YS (As := [.ref (β (64 + t))]) hC hX hZ hM hS hml hl.1 (k_X0_size l hst D tc x mo β μ t ht hn h12) q399 q400 q23 q401 rfl ⟨by decide, by decide, rfl⟩ (by show _ ≤ 9 + 4 * (d + 1); omega) (by show _ ≤ 10376 + 100 * (d + 1); omega) ⟨by show _ ≤ 3 * M; omega, by show _ ≤ 1000 * M; omega⟩ rfl (Nat.le_of_ble_eq_true rfl) dX0_worked_42 (fun H locs hM hS => ?_)
    refine lv_iadd hx hb dX0_worked_45 ?_
    refine sy_dput hC hM hS hq hlv 7 3 (by decide) (by decide) (w := ((sA μ 7 q) + (talI μ t))) (deskF_set (by simp)) q344 rfl rfl rfl rfl dX0_worked_46 (fun H locs hM hS => ?_)
    refine lv_aload_n hx hb dX0_worked_49 rfl (lv_at hl 2 rfl) ?_
    exact sy_aret hC hr hlk hM hS (by unfold wrkR; rw [hac]; rfl) (by unfold wrkR; rw [hac]; rfl) (by omega) (by omega) dX0_worked_50
  · refine w_top (y := .int 1) (by rw [hac]; rfl) ?_
    refine lv_tableIn (off := 47) (tgt := 51) hx hb dX0_worked_4 (by decide) (by decide) rfl (by decide) ?_
    refine lv_aload_n hx hb dX0_worked_51 rfl (lv_at hl 2 rfl) ?_
    refine w_YS (As := [.ref (β (64 + t))]) hC hX hZ hM hS hml hl.1 (k_X0_turn l hst D tc x mo β μ hI.1 hP.2.1 t ht) q402 q403 q23 q404 rfl ⟨by decide, by decide, rfl⟩ (by show _ ≤ 9 + 4 * (d + 1); omega) (by show _ ≤ 10376 + 100 * (d + 1); omega) ⟨by show _ ≤ 3 * M; omega, by show _ ≤ 1000 * M; omega⟩ rfl (Nat.le_of_ble_eq_true rfl) dX0_worked_52 (fun H locs hM hS => ?_)
    refine lv_aload_n hx hb dX0_worked_55 rfl (lv_at hl 2 rfl) ?_
    exact sy_aret hC hr hlk hM hS (by unfold wrkR; rw [hac]; rfl) (by unfold wrkR; rw [hac]; rfl) (by omega) (by omega) dX0_worked_56
  · refine w_top (y := .int 2) (by rw [hac]; rfl) ?_
    refine lv_tableIn (off := 53) (tgt := 57) hx hb dX0_worked_4 (by decide) (by decide) rfl (by decide) ?_
    refine lv_aload_n hx hb dX0_worked_57 rfl (lv_at hl 2 rfl) ?_
    cases hth : thgN (kd μ t)
    · refine w_YS (As := [.ref (β (64 + t))]) hC hX hZ hM hS hml hl.1 (k_X0_stamp0 l hst D tc x mo β μ hI.1 b (by omega) hP.2.2.2.2 t ht hth) q411 q412 q23 q413 rfl ⟨by decide, by decide, rfl⟩ (by show _ ≤ 9 + 4 * (d + 1); omega) (by show _ ≤ 10376 + 100 * (d + 1); omega) ⟨by show _ ≤ 3 * M; omega, by show _ ≤ 1000 * M; omega⟩ rfl (Nat.le_of_ble_eq_true rfl) dX0_worked_58 (fun H locs hM hS => ?_)
      refine lv_aload_n hx hb dX0_worked_61 rfl (lv_at hl 2 rfl) ?_
      exact sy_aret hC hr hlk hM hS (by unfold wrkR; rw [hac]; exact (stampAll_low hth h12).symm) (by unfold wrkR; rw [hac]; rfl) (by omega) (by omega) dX0_worked_62
    · by_cases h11 : kd μ t < 11
      · refine w_YS (As := [.ref (β (64 + t))]) hC hX hZ hM hS hml hl.1 (k_X0_stamp1 l hst D tc x mo β μ hI.1 b (by omega) hP.2.2.2.2 t ht hth h11) q411 q412 q23 q413 rfl ⟨by decide, by decide, rfl⟩ (by show _ ≤ 9 + 4 * (d + 1); omega) (by show _ ≤ 10376 + 100 * (d + 1); omega) ⟨by show _ ≤ 3 * M; omega, by show _ ≤ 1000 * M; omega⟩ rfl (Nat.le_of_ble_eq_true rfl) dX0_worked_58 (fun H locs hM hS => ?_)
        refine lv_aload_n hx hb dX0_worked_61 rfl (lv_at hl 2 rfl) ?_
        exact sy_aret hC hr hlk hM hS (by unfold wrkR; rw [hac]; exact (stampAll_row h11).symm) (by unfold wrkR; rw [hac]; rfl) (by omega) (by omega) dX0_worked_62
      · refine w_YS (As := [.ref (β (64 + t))]) hC hX hZ hM hS hml hl.1 (k_X0_stamp2 l hst D tc x mo β μ hI.1 b (by omega) hP.2.2.2.2 t ht hth h11) q411 q412 q23 q413 rfl ⟨by decide, by decide, rfl⟩ (by show _ ≤ 9 + 4 * (d + 1); omega) (by show _ ≤ 10376 + 100 * (d + 1); omega) ⟨by show _ ≤ 3 * M; omega, by show _ ≤ 1000 * M; omega⟩ rfl (Nat.le_of_ble_eq_true rfl) dX0_worked_58 (fun H locs hM hS => ?_)
        refine lv_aload_n hx hb dX0_worked_61 rfl (lv_at hl 2 rfl) ?_
        exact sy_aret hC hr hlk hM hS (by unfold wrkR; rw [hac]; rfl) (by unfold wrkR; rw [hac]; rfl) (by omega) (by omega) dX0_worked_62
  · refine w_top (y := .int 3) (by rw [hac]; rfl) ?_
    refine lv_tableIn (off := 59) (tgt := 63) hx hb dX0_worked_4 (by decide) (by decide) rfl (by decide) ?_
    refine lv_aload_n hx hb dX0_worked_63 rfl (lv_at hl 0 rfl) ?_
    refine lv_aload_n hx hb dX0_worked_64 rfl (lv_at hl 2 rfl) ?_
    refine lv_iload_n hx hb dX0_worked_65 rfl (lv_at hl 3 rfl) ?_
    refine lv_iconst (v := 1) hx hb dX0_worked_66 (by decide) ?_
    refine lv_iadd hx hb dX0_worked_67 ?_
    refine w_top (congrArg Value.int (nI_add r 1)) ?_
    have hspl : (wrkR (fun ν9 y9 => (thr d (r + 1) ν9 y9).1) μ q t r).1 = splR (fun ν9 y9 => (thr d (r + 1) ν9 y9).1) r μ t := by unfold wrkR splR; rw [hac]; simp only [if_neg (show ¬ (3 : Nat) = 0 by decide), if_neg (show ¬ (3 : Nat) = 1 by decide), if_neg (show ¬ (3 : Nat) = 2 by decide), if_true]; split <;> rfl
    refine w_YV (As := [.ref (β (64 + t)), .int (nI (r + 1))]) hC hX hZ hM hS hml hl.1 (sy_mainR hC.2.2.2.2 hM) (k_X0_split l hst D tc x mo β μ g B hg hB d r hrd hTH b t M (by omega) hP ht (by rw [← hspl]; exact hM9)) q444 q446 qs8 q23 q447 rfl ⟨by decide, by decide, rfl⟩ (by show _ ≤ 9 + 4 * (d + 1); omega) (by show _ ≤ 10376 + 100 * (d + 1); omega) ⟨by show _ ≤ 3 * M; omega, by show _ ≤ 1000 * M; omega⟩ rfl (Nat.le_of_ble_eq_true rfl) dX0_worked_68 (fun H locs hM hS => ?_)
    refine lv_aload_n hx hb dX0_worked_71 rfl (lv_at hl 2 rfl) ?_
    exact sy_aret hC hr hlk hM hS hspl.symm (by unfold wrkR; rw [hac]; simp only [if_neg (show ¬ (3 : Nat) = 0 by decide), if_neg (show ¬ (3 : Nat) = 1 by decide), if_neg (show ¬ (3 : Nat) = 2 by decide), if_true]; split <;> rfl) (by omega) (by omega) dX0_worked_72
  · refine w_top (y := .int 4) (by rw [hac]; rfl) ?_
    refine lv_tableOut (tgt := 73) hx hb dX0_worked_4 (by decide) (by decide) ?_
    refine lv_aload_n hx hb dX0_worked_73 rfl (lv_at hl 1 rfl) ?_
    refine sy_dget (v := va_rf (qI β (sA μ 8 q))) hC hM hq hlv 4 (by decide) rfl q345 rfl dX0_worked_74 ?_
    rcases (hI.2.1 q hq hlv).1 with e8 | ⟨y8, hy8, e8⟩
    · refine w_top (y := .null) (by rw [e8]; rfl) ?_
      refine lv_astoreN (lv' := [(4, .null), (0, .ref (β 0)), (1, .ref (β (124 + q))), (2, .ref (β (64 + t))), (3, .int (nI r))]) hx hb dX0_worked_77 hl (by decide) rfl (fun ls hl => ?_)
      refine lv_aload_n hx hb dX0_worked_79 rfl (lv_at hl 2 rfl) ?_
      refine lv_aload_n hx hb dX0_worked_80 rfl (lv_at hl 3 rfl) ?_
      refine w_top (y := va_rf (qI β (nI t))) (by rw [qI_N (by omega)]; rfl) ?_
      refine sy_dput hC hM hS hq hlv 8 4 (by decide) (by decide) (w := (nI t)) (deskF_set (by simp)) q345 rfl rfl (nar_rf _) (fit_rf _) dX0_worked_81 (fun H locs hM hS => ?_)
      refine lv_aloadN hx hb dX0_worked_84 (lv_at hl 0 rfl) ?_
      exact sy_aret hC hr hlk hM hS (by unfold wrkR; rw [hac]; rfl) (by unfold wrkR; rw [hac]; show _ = va_rf (oB β (if sA μ 8 q = -1 then none else some (sA μ 8 q).toNatClampNeg)); rw [e8]; first | rfl | (rw [if_neg (nI_m1 (by omega)), cl_nI (by omega)]; rfl)) (by omega) (by omega) dX0_worked_86
    · refine w_top (y := .ref (β (64 + y8))) (by rw [e8, qI_N (by omega)]; rfl) ?_
      refine lv_astore (lv' := [(4, .ref (β (64 + y8))), (0, .ref (β 0)), (1, .ref (β (124 + q))), (2, .ref (β (64 + t))), (3, .int (nI r))]) hx hb dX0_worked_77 hl (by decide) rfl (fun ls hl => ?_)
      refine lv_aload_n hx hb dX0_worked_79 rfl (lv_at hl 2 rfl) ?_
      refine lv_aload_n hx hb dX0_worked_80 rfl (lv_at hl 3 rfl) ?_
      refine w_top (y := va_rf (qI β (nI t))) (by rw [qI_N (by omega)]; rfl) ?_
      refine sy_dput hC hM hS hq hlv 8 4 (by decide) (by decide) (w := (nI t)) (deskF_set (by simp)) q345 rfl rfl (nar_rf _) (fit_rf _) dX0_worked_81 (fun H locs hM hS => ?_)
      refine lv_aload hx hb dX0_worked_84 (lv_at hl 0 rfl) ?_
      exact sy_aret hC hr hlk hM hS (by unfold wrkR; rw [hac]; rfl) (by unfold wrkR; rw [hac]; show _ = va_rf (oB β (if sA μ 8 q = -1 then none else some (sA μ 8 q).toNatClampNeg)); rw [e8]; first | rfl | (rw [if_neg (nI_m1 (by omega)), cl_nI (by omega)]; rfl)) (by omega) (by omega) dX0_worked_86

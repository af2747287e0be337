/-! DOUBLES: whole eighths are exact (from the float core's own definitions; the library's float laws are not among this claim's imports) -/
set_option maxRecDepth 100000
/-- n * 2^x with the sign s, as the core writes it -/
def fpC (s : Bool) (n : Nat) (x : Int) : FP.Core.Datum := if n = 0 then .fin s 0 (-1074) else .fin s (n * 2 ^ (52 - n.log2)) ((n.log2 : Int) + x - 52)
theorem fp_log {n : Nat} (h0 : n ≠ 0) (hn : n < 2 ^ 53) : n.log2 ≤ 52 ∧ 2 ^ 52 ≤ n * 2 ^ (52 - n.log2) ∧ n * 2 ^ (52 - n.log2) < 2 ^ 53 := by
  have l1 : 2 ^ n.log2 ≤ n := Nat.log2_self_le h0
  have l2 : n < 2 ^ (n.log2 + 1) := Nat.lt_log2_self
  have l3 : n.log2 < 53 := (Nat.pow_lt_pow_iff_right (by decide : 1 < 2)).mp (Nat.lt_of_le_of_lt l1 hn)
  generalize n.log2 = L at l1 l2 l3
  refine ⟨by omega, ?_, ?_⟩
  · calc 2 ^ 52 = 2 ^ L * 2 ^ (52 - L) := by rw [← Nat.pow_add]; congr 1; omega
      _ ≤ n * 2 ^ (52 - L) := Nat.mul_le_mul_right _ l1
  · calc n * 2 ^ (52 - L) < 2 ^ (L + 1) * 2 ^ (52 - L) := Nat.mul_lt_mul_of_pos_right l2 (Nat.two_pow_pos _)
      _ = 2 ^ 53 := by rw [← Nat.pow_add]; congr 1; omega
theorem fp_log_mul {n a : Nat} (h0 : n ≠ 0) : (n * 2 ^ a).log2 = n.log2 + a := by
  have p := Nat.two_pow_pos a
  have h1 : n * 2 ^ a ≠ 0 := Nat.mul_ne_zero h0 (Nat.ne_of_gt p)
  refine (Nat.log2_eq_iff h1).mpr ⟨?_, ?_⟩
  · rw [Nat.pow_add]
    exact Nat.mul_le_mul_right _ (Nat.log2_self_le h0)
  · rw [show n.log2 + a + 1 = (n.log2 + 1) + a by omega, Nat.pow_add]
    exact Nat.mul_lt_mul_of_pos_right Nat.lt_log2_self p
theorem fp_near {M B : Nat} (hB : 0 < B) : FP.Core.nearest (M * B) B = M := by
  unfold FP.Core.nearest
  rw [Nat.mul_mod_left, if_pos (by omega), Nat.mul_div_cancel _ hB]
/-- what is whole is rounded to itself -/
theorem fp_round (s : Bool) {n a d : Nat} {e x : Int} (hn : n < 2 ^ 53) (hx : (a : Int) - d + e = x) (h1 : -60 ≤ x) (h2 : x ≤ 60) : FP.Core.roundRatio FP.Core.b64 s (n * 2 ^ a) (2 ^ d) e = fpC s n x := by
  have hq : FP.Core.Fmt.qmin FP.Core.b64 = -1074 := by decide
  have hM : FP.Core.Fmt.qmax FP.Core.b64 = 971 := by decide
  unfold FP.Core.roundRatio fpC
  by_cases h0 : n = 0
  · rw [if_pos h0, if_pos (by rw [h0, Nat.zero_mul]), hq]
  · obtain ⟨l1, l2, l3⟩ := fp_log h0 hn
    have p := Nat.two_pow_pos a
    have hne : n * 2 ^ a ≠ 0 := Nat.mul_ne_zero h0 (Nat.ne_of_gt p)
    rw [if_neg h0, if_neg hne]
    have hlog := fp_log_mul (a := a) h0
    have hld : FP.Core.leading (n * 2 ^ a) (2 ^ d) = (n.log2 : Int) + a - d := by
      unfold FP.Core.leading
      rw [hlog, Nat.log2_two_pow]
      have hk : (((n.log2 + a : Nat) : Int) - (d : Int)) = (n.log2 : Int) + a - d := by omega
      rw [hk]
      simp only []
      rw [if_pos]
      have hs : 2 ^ (n.log2 + a) ≤ n * 2 ^ a := by rw [Nat.pow_add]; exact Nat.mul_le_mul_right _ (Nat.log2_self_le h0)
      by_cases hc : d ≤ n.log2 + a
      · rw [show (-((n.log2 : Int) + a - d)).toNat = 0 by omega, Nat.pow_zero, Nat.mul_one, ← Nat.pow_add, show d + ((n.log2 : Int) + a - d).toNat = n.log2 + a by omega]
        exact hs
      · rw [show ((n.log2 : Int) + a - d).toNat = 0 by omega, Nat.pow_zero, Nat.mul_one]
        have h3 : 2 ^ d = 2 ^ (n.log2 + a) * 2 ^ (-((n.log2 : Int) + a - d)).toNat := by rw [← Nat.pow_add]; congr 1; omega
        rw [h3]
        exact Nat.mul_le_mul_right _ hs
    have hqu : FP.Core.quantum FP.Core.b64 (n * 2 ^ a) (2 ^ d) e = (n.log2 : Int) + x - 52 := by
      unfold FP.Core.quantum
      rw [hld, hq, show ((FP.Core.Fmt.p FP.Core.b64 : Nat) : Int) = 53 from rfl]
      omega
    unfold FP.Core.roundAt
    rw [hqu]
    unfold FP.Core.unitsNum FP.Core.unitsDen
    have hM2 : n * 2 ^ a * 2 ^ (e - ((n.log2 : Int) + x - 52)).toNat = n * 2 ^ (52 - n.log2) * (2 ^ d * 2 ^ ((n.log2 : Int) + x - 52 - e).toNat) := by
      rw [Nat.mul_assoc, ← Nat.pow_add, ← Nat.pow_add, Nat.mul_assoc, ← Nat.pow_add]
      congr 2
      omega
    rw [hM2, fp_near (Nat.mul_pos (Nat.two_pow_pos _) (Nat.two_pow_pos _))]
    unfold FP.Core.settle FP.Core.bound
    rw [if_pos (show n * 2 ^ (52 - n.log2) < 2 ^ FP.Core.Fmt.p FP.Core.b64 from l3), hM, if_pos (by omega)]
theorem fp_round1 (s : Bool) {n a : Nat} {e x : Int} (hn : n < 2 ^ 53) (hx : (a : Int) + e = x) (h1 : -60 ≤ x) (h2 : x ≤ 60) : FP.Core.roundRatio FP.Core.b64 s (n * 2 ^ a) 1 e = fpC s n x :=
  fp_round (d := 0) s hn (by omega) h1 h2
/-- its bits -/
theorem fp_key (s : Bool) {n : Nat} {x : Int} (hn : n < 2 ^ 53) (h1 : -60 ≤ x) (h2 : x ≤ 60) : ∃ (e t : Nat), FP.Core.encode FP.Core.b64 (fpC s n x) = FP.Core.assemble FP.Core.b64 s e t ∧ e < 2047 ∧ t < 4503599627370496 ∧ ((e = 0 ∧ fpC s n x = .fin s t (-1074)) ∨ (e ≠ 0 ∧ fpC s n x = .fin s (FP.Core.Fmt.tails FP.Core.b64 + t) (-1074 + ((e : Int) - 1)))) := by
  have hq : FP.Core.Fmt.qmin FP.Core.b64 = -1074 := by decide
  have ht : FP.Core.Fmt.tails FP.Core.b64 = 4503599627370496 := rfl
  unfold fpC
  by_cases h0 : n = 0
  · refine ⟨0, 0, ?_, by omega, by omega, Or.inl ⟨rfl, ?_⟩⟩
    · rw [if_pos h0]
      unfold FP.Core.encode
      exact if_pos (by rw [ht]; omega)
    · rw [if_pos h0]
  · obtain ⟨l1, l2, l3⟩ := fp_log h0 hn
    rw [if_neg h0]
    generalize n * 2 ^ (52 - n.log2) = c at l2 l3
    refine ⟨((n.log2 : Int) + x - 52 + 1074).toNat + 1, c - FP.Core.Fmt.tails FP.Core.b64, ?_, by omega, by rw [ht]; omega, Or.inr ⟨Nat.succ_ne_zero _, ?_⟩⟩
    · have e1 : ((n.log2 : Int) + x - 52 - FP.Core.Fmt.qmin FP.Core.b64) = (n.log2 : Int) + x - 52 + 1074 := by rw [hq]; omega
      rw [← e1]
      unfold FP.Core.encode
      exact if_neg (by rw [ht]; omega)
    · have a1 : FP.Core.Fmt.tails FP.Core.b64 + (c - FP.Core.Fmt.tails FP.Core.b64) = c := by rw [ht]; omega
      have a2 : (-1074 + (((((n.log2 : Int) + x - 52 + 1074).toNat + 1 : Nat) : Int) - 1)) = (n.log2 : Int) + x - 52 := by omega
      rw [a1, a2]
theorem fp_asm (s : Bool) {e t : Nat} (k2 : e < 2047) (k3 : t < 4503599627370496) : (UInt64.ofNat (FP.Core.assemble FP.Core.b64 s e t)).toNat = FP.Core.assemble FP.Core.b64 s e t ∧ FP.Core.assemble FP.Core.b64 s e t = (s.toNat * 2048 + e) * 4503599627370496 + t := by
  have ht : FP.Core.Fmt.tails FP.Core.b64 = 4503599627370496 := rfl
  have he : FP.Core.Fmt.exps FP.Core.b64 = 2048 := rfl
  have e1 : FP.Core.assemble FP.Core.b64 s e t = (s.toNat * 2048 + e) * 4503599627370496 + t := by
    unfold FP.Core.assemble
    rw [ht, he]
  have hs : s.toNat ≤ 1 := by cases s <;> decide
  refine ⟨?_, e1⟩
  rw [UInt64.toNat_ofNat', e1]
  exact Nat.mod_eq_of_lt (by omega)
theorem fp_E {s : Bool} {e t : Nat} (k2 : e < 2047) (k3 : t < 4503599627370496) : FP.Core.fieldE FP.Core.b64 (FP.Core.assemble FP.Core.b64 s e t) = e := by
  have ht : FP.Core.Fmt.tails FP.Core.b64 = 4503599627370496 := rfl
  have he : FP.Core.Fmt.exps FP.Core.b64 = 2048 := rfl
  rw [(fp_asm s k2 k3).2]
  unfold FP.Core.fieldE
  rw [ht, he]
  omega
theorem fp_T {s : Bool} {e t : Nat} (k2 : e < 2047) (k3 : t < 4503599627370496) : FP.Core.fieldT FP.Core.b64 (FP.Core.assemble FP.Core.b64 s e t) = t := by
  have ht : FP.Core.Fmt.tails FP.Core.b64 = 4503599627370496 := rfl
  rw [(fp_asm s k2 k3).2]
  unfold FP.Core.fieldT
  rw [ht]
  omega
theorem fp_S {s : Bool} {e t : Nat} (k2 : e < 2047) (k3 : t < 4503599627370496) : FP.Core.fieldS FP.Core.b64 (FP.Core.assemble FP.Core.b64 s e t) = s := by
  have ht : FP.Core.Fmt.tails FP.Core.b64 = 4503599627370496 := rfl
  have he : FP.Core.Fmt.exps FP.Core.b64 = 2048 := rfl
  rw [(fp_asm s k2 k3).2]
  unfold FP.Core.fieldS
  rw [ht, he]
  have : ((s.toNat * 2048 + e) * 4503599627370496 + t) / 4503599627370496 / 2048 % 2 = s.toNat := by
    have hs : s.toNat ≤ 1 := by cases s <;> decide
    omega
  rw [this]
  cases s <;> rfl
theorem fp_bits (s : Bool) {n : Nat} {x : Int} (hn : n < 2 ^ 53) (h1 : -60 ≤ x) (h2 : x ≤ 60) : FP.Core.decode FP.Core.b64 (UInt64.ofNat (FP.Core.encode FP.Core.b64 (fpC s n x))).toNat = fpC s n x := by
  obtain ⟨e, t, k1, k2, k3, k4⟩ := fp_key s hn h1 h2
  rw [k1, (fp_asm s k2 k3).1]
  have hq : FP.Core.Fmt.qmin FP.Core.b64 = -1074 := by decide
  have he : FP.Core.Fmt.exps FP.Core.b64 = 2048 := rfl
  unfold FP.Core.decode
  rw [fp_E k2 k3, fp_T k2 k3, fp_S k2 k3, he, hq, if_neg (by omega)]
  rcases k4 with ⟨a, b⟩ | ⟨a, b⟩
  · rw [if_pos a, b]
  · rw [if_neg a, b]
theorem fp_nn (s : Bool) {n : Nat} {x : Int} (hn : n < 2 ^ 53) (h1 : -60 ≤ x) (h2 : x ≤ 60) : vf_n64 (UInt64.ofNat (FP.Core.encode FP.Core.b64 (fpC s n x))) := by
  obtain ⟨e, t, k1, k2, k3, k4⟩ := fp_key s hn h1 h2
  obtain ⟨a1, a2⟩ := fp_asm s k2 k3
  rw [k1]
  unfold vf_n64
  rw [UInt64.le_iff_toNat_le, UInt64.toNat_and, a1, a2, show (0x7fffffffffffffff : UInt64).toNat = 2 ^ 63 - 1 from rfl, Nat.and_two_pow_sub_one_eq_mod, show (0x7ff0000000000000 : UInt64).toNat = 9218868437227405312 from rfl]
  omega
def fpB (v x : Int) : UInt64 := UInt64.ofNat (FP.Core.encode FP.Core.b64 (fpC (decide (v < 0)) v.natAbs x))
theorem fp_dec {v x : Int} (hv : v.natAbs < 2 ^ 53) (h1 : -60 ≤ x) (h2 : x ≤ 60) : FP.Core.decode FP.Core.b64 (fpB v x).toNat = fpC (decide (v < 0)) v.natAbs x := fp_bits _ hv h1 h2
theorem fp_n64 {v x : Int} (hv : v.natAbs < 2 ^ 53) (h1 : -60 ≤ x) (h2 : x ≤ 60) : vf_n64 (fpB v x) := fp_nn _ hv h1 h2
theorem fp_int {v : Int} (hv : v.natAbs < 2 ^ 53) : UInt64.ofNat (FP.Core.fromInt FP.Core.b64 v) = fpB v 0 := by
  unfold fpB
  congr 1
  show FP.Core.encode FP.Core.b64 (FP.Core.roundRatio FP.Core.b64 (decide (v < 0)) v.natAbs 1 0) = _
  have := fp_round1 (decide (v < 0)) (n := v.natAbs) (a := 0) (e := 0) (x := 0) hv (by omega) (by omega) (by omega)
  rw [Nat.pow_zero, Nat.mul_one] at this
  rw [this]
theorem fp_8 : FP.Core.decode FP.Core.b64 (4620693217682128896 : UInt64).toNat = .fin false (2 ^ 52) (-49) := by decide +kernel
theorem fp_p8 : FP.Core.decode FP.Core.b64 (4593671619917905920 : UInt64).toNat = .fin false (2 ^ 52) (-55) := by decide +kernel
/-- n * 2^x, its digits and its exponent -/
theorem fpC_fin (s : Bool) {n : Nat} {x : Int} (hn : n < 2 ^ 53) (h1 : -60 ≤ x) : ∃ k : Nat, fpC s n x = .fin s (n * 2 ^ k) (x - k) := by
  unfold fpC
  by_cases h0 : n = 0
  · refine ⟨(x + 1074).toNat, ?_⟩
    rw [if_pos h0, h0, Nat.zero_mul]
    congr 1
    omega
  · obtain ⟨l1, -, -⟩ := fp_log h0 hn
    refine ⟨52 - n.log2, ?_⟩
    rw [if_neg h0]
    congr 1
    omega
theorem fp_div8 {v : Int} (hv : v.natAbs < 2 ^ 53) : FP.ddiv (fpB v 0) 4620693217682128896 = fpB v (-3) := by
  show UInt64.ofNat (FP.Core.encode FP.Core.b64 (FP.Core.quotient FP.Core.b64 (FP.Core.decode FP.Core.b64 (fpB v 0).toNat) (FP.Core.decode FP.Core.b64 (4620693217682128896 : UInt64).toNat))) = _
  rw [fp_8, fp_dec hv (by omega) (by omega)]
  obtain ⟨k, e⟩ := fpC_fin (decide (v < 0)) (x := 0) hv (by omega)
  rw [e]
  unfold fpB
  congr 2
  show (if 2 ^ 52 = 0 then (if v.natAbs * 2 ^ k = 0 then FP.Core.Datum.nan else FP.Core.Datum.inf (decide (v < 0) != false)) else FP.Core.roundRatio FP.Core.b64 (decide (v < 0) != false) (v.natAbs * 2 ^ k) (2 ^ 52) (0 - (k : Int) - -49)) = _
  rw [if_neg (by decide), Bool.bne_false]
  exact fp_round _ hv (by omega) (by omega) (by omega)
theorem i32_small (v : Int32) : v.toInt.natAbs < 2 ^ 53 := by
  have h1 := v.toInt_lt
  have h2 := v.le_toInt
  omega
theorem v_dE {v : Int64} (hv : v.toInt.natAbs < 2 ^ 53) : dE v = fpB v.toInt (-3) := by
  have e : FP.l2d v = fpB v.toInt 0 := fp_int hv
  unfold dE
  rw [e, fp_div8 hv]
/-- a number that is put -/
theorem de_put (v : Int32) : FP.ddiv (FP.i2d v) 4620693217682128896 = dE v.toInt64 ∧ vf_n64 (FP.ddiv (FP.i2d v) 4620693217682128896) := by
  have hv := i32_small v
  have e : FP.i2d v = fpB v.toInt 0 := fp_int hv
  rw [e, fp_div8 hv, v_dE (by rw [Int32.toInt_toInt64]; exact hv), Int32.toInt_toInt64]
  exact ⟨rfl, fp_n64 hv (by omega) (by omega)⟩
/-- one eighth more -/
theorem de_add {v : Int64} (h1 : v.toInt.natAbs < 2 ^ 53) (h2 : (v.toInt + 1).natAbs < 2 ^ 53) : FP.dadd (dE v) 4593671619917905920 = dE (v + 1) ∧ vf_n64 (FP.dadd (dE v) 4593671619917905920) := by
  have ev : (v + 1).toInt = v.toInt + 1 := by
    rw [Int64.toInt_add]
    have : (1 : Int64).toInt = 1 := by decide
    rw [this]
    apply Int.bmod_eq_of_le <;> omega
  have e : FP.dadd (dE v) 4593671619917905920 = fpB (v.toInt + 1) (-3) := by
    rw [v_dE h1]
    show UInt64.ofNat (FP.Core.encode FP.Core.b64 (FP.Core.round FP.Core.b64 (FP.Core.exactSum (FP.Core.decode FP.Core.b64 (fpB v.toInt (-3)).toNat) (FP.Core.decode FP.Core.b64 (4593671619917905920 : UInt64).toNat)))) = _
    rw [fp_p8, fp_dec h1 (by omega) (by omega)]
    obtain ⟨k, ek⟩ := fpC_fin (decide (v.toInt < 0)) (x := -3) h1 (by omega)
    rw [ek]
    unfold fpB
    congr 2
    generalize hK : max k 52 = K
    have hmin : min (-3 - (k : Int)) (-55) = -3 - (K : Int) := by omega
    have hp : (0 : Int) < ((2 ^ K : Nat) : Int) := by have := Nat.two_pow_pos K; omega
    have hu : FP.Core.sumUnits (decide (v.toInt < 0)) (v.toInt.natAbs * 2 ^ k) (-3 - (k : Int)) false (2 ^ 52) (-55) (-3 - (K : Int)) = (v.toInt + 1) * ((2 ^ K : Nat) : Int) := by
      unfold FP.Core.sumUnits FP.Core.inUnits
      rw [show (-3 - (k : Int) - (-3 - (K : Int))).toNat = K - k by omega, show (-55 - (-3 - (K : Int))).toNat = K - 52 by omega]
      have a1 : v.toInt.natAbs * 2 ^ k * 2 ^ (K - k) = v.toInt.natAbs * 2 ^ K := by rw [Nat.mul_assoc, ← Nat.pow_add]; congr 2; omega
      have a2 : 2 ^ 52 * 2 ^ (K - 52) = 2 ^ K := by rw [← Nat.pow_add]; congr 1; omega
      rw [a1, a2]
      have a3 : FP.Core.signed (decide (v.toInt < 0)) (v.toInt.natAbs * 2 ^ K) = v.toInt * ((2 ^ K : Nat) : Int) := by
        unfold FP.Core.signed
        by_cases h : v.toInt < 0
        · rw [decide_eq_true h, if_pos rfl, Int.natCast_mul, ← Int.neg_mul]
          congr 1
          omega
        · rw [decide_eq_false h, if_neg (by decide), Int.natCast_mul]
          congr 1
          omega
      rw [a3]
      show _ + ((2 ^ K : Nat) : Int) = _
      rw [Int.add_mul, Int.one_mul]
    show FP.Core.round FP.Core.b64 (FP.Core.Datum.fin (FP.Core.sumSign _ _ (FP.Core.sumUnits _ _ _ _ _ _ (min (-3 - (k : Int)) (-55)))) (FP.Core.sumUnits _ _ _ _ _ _ (min (-3 - (k : Int)) (-55))).natAbs (min (-3 - (k : Int)) (-55))) = _
    rw [hmin, hu]
    have hs : FP.Core.sumSign (decide (v.toInt < 0)) false ((v.toInt + 1) * ((2 ^ K : Nat) : Int)) = decide (v.toInt + 1 < 0) := by
      unfold FP.Core.sumSign
      by_cases h0 : v.toInt + 1 = 0
      · rw [h0]; simp
      · rw [if_neg (fun q => by rcases Int.mul_eq_zero.mp q with q | q <;> omega)]
        rw [decide_eq_decide]
        constructor
        · intro hlt
          refine Int.lt_of_not_ge fun hge => ?_
          have := Int.mul_nonneg hge (Int.le_of_lt hp)
          omega
        · intro hlt
          exact Int.mul_neg_of_neg_of_pos hlt hp
    rw [hs]
    show FP.Core.roundRatio FP.Core.b64 (decide (v.toInt + 1 < 0)) ((v.toInt + 1) * ((2 ^ K : Nat) : Int)).natAbs 1 (-3 - (K : Int)) = _
    rw [Int.natAbs_mul, Int.natAbs_natCast]
    exact fp_round1 _ h2 (by omega) (by omega) (by omega)
  rw [e, v_dE (by rw [ev]; exact h2), ev]
  exact ⟨rfl, fp_n64 h2 (by omega) (by omega)⟩
/-- a number that is read -/
theorem de_get {v : Int64} (h1 : v.toInt.natAbs < 2 ^ 53) (h0 : -2147483648 ≤ v.toInt) : FP.d2i (FP.dmul (dE v) 4620693217682128896) = satI v ∧ vf_n64 (FP.dmul (dE v) 4620693217682128896) := by
  have e : FP.dmul (dE v) 4620693217682128896 = fpB v.toInt 0 := by
    rw [v_dE h1]
    show UInt64.ofNat (FP.Core.encode FP.Core.b64 (FP.Core.round FP.Core.b64 (FP.Core.exactProduct (FP.Core.decode FP.Core.b64 (fpB v.toInt (-3)).toNat) (FP.Core.decode FP.Core.b64 (4620693217682128896 : UInt64).toNat)))) = _
    rw [fp_8, fp_dec h1 (by omega) (by omega)]
    obtain ⟨k, ek⟩ := fpC_fin (decide (v.toInt < 0)) (x := -3) h1 (by omega)
    rw [ek]
    unfold fpB
    congr 2
    show FP.Core.roundRatio FP.Core.b64 (decide (v.toInt < 0) != false) (v.toInt.natAbs * 2 ^ k * 2 ^ 52) 1 (-3 - (k : Int) + -49) = _
    rw [Bool.bne_false, Nat.mul_assoc, ← Nat.pow_add]
    exact fp_round1 _ h1 (by omega) (by omega) (by omega)
  rw [e]
  refine ⟨?_, fp_n64 h1 (by omega) (by omega)⟩
  show FP.Core.toI (FP.Core.decode FP.Core.b64 (fpB v.toInt 0).toNat) = _
  rw [fp_dec h1 (by omega) (by omega)]
  obtain ⟨k, ek⟩ := fpC_fin (decide (v.toInt < 0)) (x := 0) h1 (by omega)
  rw [ek]
  have ht : FP.Core.truncate (decide (v.toInt < 0)) (v.toInt.natAbs * 2 ^ k) (0 - (k : Int)) = v.toInt := by
    unfold FP.Core.truncate
    rw [show (0 - (k : Int)).toNat = 0 by omega, show (-(0 - (k : Int))).toNat = k by omega, Nat.pow_zero, Nat.mul_one, Nat.mul_div_cancel _ (Nat.two_pow_pos _)]
    unfold FP.Core.signed
    by_cases h : v.toInt < 0
    · rw [decide_eq_true h, if_pos rfl]; omega
    · rw [decide_eq_false h, if_neg (by decide)]; omega
  show Int32.ofInt (max (-2 ^ 31) (min (2 ^ 31 - 1) (FP.Core.truncate (decide (v.toInt < 0)) (v.toInt.natAbs * 2 ^ k) (0 - (k : Int))))) = _
  rw [ht]
  by_cases hc : v ≤ 2147483647
  · rw [satI_le hc]
    have h3 := Int64.le_iff_toInt_le.mp hc
    have h4 : (2147483647 : Int64).toInt = 2147483647 := by decide
    rw [h4] at h3
    rw [show max (-2 ^ 31 : Int) (min (2 ^ 31 - 1) v.toInt) = v.toInt by omega]
    apply Int32.toInt_inj.mp
    rw [Int32.toInt_ofInt, Int64.toInt_toInt32]
  · have hg : 2147483647 < v := by
      refine Int64.lt_iff_toInt_lt.mpr ?_
      have h3 : ¬ v.toInt ≤ (2147483647 : Int64).toInt := fun q => hc (Int64.le_iff_toInt_le.mpr q)
      omega
    rw [satI_gt hg]
    have h3 := Int64.lt_iff_toInt_lt.mp hg
    have h4 : (2147483647 : Int64).toInt = 2147483647 := by decide
    rw [h4] at h3
    rw [show max (-2 ^ 31 : Int) (min (2 ^ 31 - 1) v.toInt) = 2 ^ 31 - 1 by omega]
    decide
theorem de_0 : dE 0 = 0 := by decide +kernel

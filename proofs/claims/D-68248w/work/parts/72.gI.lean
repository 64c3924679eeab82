/-! A QUOTIENT of longs is a number, if the divisor is not zero -/
section GI
def NN (n : Nat) : Prop := n < 18446744073709551616 ∧ n % 9223372036854775808 ≤ 9218868437227405312
theorem asm_eq (s : Bool) (e t : Nat) : FP.Core.assemble FP.Core.b64 s e t = (s.toNat * 2048 + e) * 4503599627370496 + t := rfl
theorem asm_NN {s : Bool} {e t : Nat} (h : (e < 2047 ∧ t < 4503599627370496) ∨ (e = 2047 ∧ t = 0)) : NN (FP.Core.assemble FP.Core.b64 s e t) := by
  rw [asm_eq]
  unfold NN
  cases s
  · show (0 * 2048 + e) * 4503599627370496 + t < _ ∧ ((0 * 2048 + e) * 4503599627370496 + t) % _ ≤ _
    omega
  · show (1 * 2048 + e) * 4503599627370496 + t < _ ∧ ((1 * 2048 + e) * 4503599627370496 + t) % _ ≤ _
    omega
theorem enc_fin (s : Bool) (c : Nat) (q : Int) : FP.Core.encode FP.Core.b64 (.fin s c q) = if c < 4503599627370496 then FP.Core.assemble FP.Core.b64 s 0 c else FP.Core.assemble FP.Core.b64 s ((q - (-1074)).toNat + 1) (c - 4503599627370496) := rfl
theorem enc_bound {s : Bool} {c : Nat} {q : Int} (hc : c < 9007199254740992) : NN (FP.Core.encode FP.Core.b64 (FP.Core.bound FP.Core.b64 s c q)) := by
  unfold FP.Core.bound
  split
  · rename_i hq
    have hq : q ≤ 971 := hq
    rw [enc_fin]
    by_cases h : c < 4503599627370496
    · rw [if_pos h]
      exact asm_NN (Or.inl ⟨by omega, h⟩)
    · rw [if_neg h]
      exact asm_NN (Or.inl ⟨by omega, by omega⟩)
  · exact asm_NN (Or.inr ⟨rfl, rfl⟩)
theorem enc_ratio (s : Bool) (a b : Nat) (e : Int) : NN (FP.Core.encode FP.Core.b64 (FP.Core.roundRatio FP.Core.b64 s a b e)) := by
  unfold FP.Core.roundRatio
  split
  · rw [enc_fin, if_pos (by decide)]
    exact asm_NN (Or.inl ⟨by omega, by omega⟩)
  · unfold FP.Core.roundAt FP.Core.settle
    split
    · rename_i h
      exact enc_bound h
    · exact enc_bound (by decide)
theorem dm48 {n e : Nat} (h : e < 2048) : (n * 2048 + e) % 2048 = e ∧ (n * 2048 + e) / 2048 = n := by omega
theorem dec_asm {s : Bool} {e t : Nat} (he : 0 < e ∧ e < 2047) (ht : t < 4503599627370496) : FP.Core.decode FP.Core.b64 (FP.Core.assemble FP.Core.b64 s e t) = .fin s (4503599627370496 + t) (-1074 + ((e : Int) - 1)) := by
  have e1 : FP.Core.Fmt.qmin FP.Core.b64 = -1074 := by decide
  have e2 : FP.Core.Fmt.tails FP.Core.b64 = 4503599627370496 := by decide
  have e3 : FP.Core.Fmt.exps FP.Core.b64 = 2048 := by decide
  unfold FP.Core.decode FP.Core.fieldE FP.Core.fieldT FP.Core.fieldS
  rw [asm_eq, e1, e2, e3]
  have k1 : ((s.toNat * 2048 + e) * 4503599627370496 + t) / 4503599627370496 = s.toNat * 2048 + e := by omega
  have k2 : ((s.toNat * 2048 + e) * 4503599627370496 + t) % 4503599627370496 = t := by omega
  rw [k1, k2]
  have k3 : (s.toNat * 2048 + e) % 2048 = e := (dm48 (Nat.lt_trans he.2 (by decide))).1
  have k4 : (s.toNat * 2048 + e) / 2048 = s.toNat := (dm48 (Nat.lt_trans he.2 (by decide))).2
  rw [k3, k4, if_neg (by omega), if_neg (by omega)]
  cases s <;> rfl
theorem dec_zero (s : Bool) : FP.Core.decode FP.Core.b64 (FP.Core.assemble FP.Core.b64 s 0 0) = .fin s 0 (-1074) := by cases s <;> decide
/-- a long as a double is finite, and not zero but for zero -/
theorem l2d_shape (x : Int64) : ∃ s c q, FP.Core.decode FP.Core.b64 (FP.l2d x).toNat = .fin s c q ∧ (x ≠ 0 → c ≠ 0) := by
  have hx : x.toInt.natAbs ≤ 9223372036854775808 := by
    have h1 := x.toInt_lt
    have h2 := x.le_toInt
    omega
  have e0 : (FP.l2d x).toNat = FP.Core.encode FP.Core.b64 (FP.Core.roundRatio FP.Core.b64 (decide (x.toInt < 0)) x.toInt.natAbs 1 0) := by
    have := enc_ratio (decide (x.toInt < 0)) x.toInt.natAbs 1 0
    show (UInt64.ofNat (FP.Core.encode FP.Core.b64 (FP.Core.roundRatio FP.Core.b64 (decide (x.toInt < 0)) x.toInt.natAbs 1 0))).toNat = _
    rw [UInt64.toNat_ofNat_of_lt' (by exact this.1)]
  rw [e0]
  generalize decide (x.toInt < 0) = s
  have hz : x ≠ 0 → x.toInt.natAbs ≠ 0 := by
    intro h1 h2
    apply h1
    apply Int64.toInt.inj
    rw [show (0 : Int64).toInt = 0 by decide]
    omega
  generalize x.toInt.natAbs = a at *
  unfold FP.Core.roundRatio
  split
  · rename_i h
    refine ⟨s, 0, -1074, ?_, fun z => absurd h (hz z)⟩
    exact dec_zero s
  · rename_i ha
    have l1 := Nat.log2_self_le ha
    have l2 := Nat.lt_log2_self (n := a)
    have ll : a.log2 ≤ 63 := by
      rcases Nat.lt_or_ge 63 a.log2 with w | w
      · have : 2 ^ 64 ≤ 2 ^ a.log2 := Nat.pow_le_pow_right (by decide) w
        have e : (2 : Nat) ^ 64 = 18446744073709551616 := by decide
        omega
      · exact w
    have el : FP.Core.leading a 1 = (a.log2 : Int) := by
      unfold FP.Core.leading
      have : (1 : Nat).log2 = 0 := by decide
      rw [this]
      dsimp only
      rw [if_pos]
      · omega
      · rw [show ((a.log2 : Int) - ((0 : Nat) : Int)).toNat = a.log2 by omega, show (-((a.log2 : Int) - ((0 : Nat) : Int))).toNat = 0 by omega]
        omega
    have eq : FP.Core.quantum FP.Core.b64 a 1 0 = (a.log2 : Int) - 52 := by
      unfold FP.Core.quantum
      rw [el, show FP.Core.Fmt.qmin FP.Core.b64 = -1074 by decide, show (FP.Core.b64.p : Int) = 53 by decide]
      omega
    rw [eq]
    have fin : ∀ c q, 4503599627370496 ≤ c → c < 9007199254740992 → -52 ≤ q → q ≤ 12 → ∃ s' c' q', FP.Core.decode FP.Core.b64 (FP.Core.encode FP.Core.b64 (FP.Core.bound FP.Core.b64 s c q)) = .fin s' c' q' ∧ (x ≠ 0 → c' ≠ 0) := by
      intro c q h1 h2 h3 h4
      have e5 : FP.Core.Fmt.qmax FP.Core.b64 = 971 := by decide
      unfold FP.Core.bound
      rw [e5, if_pos (by omega)]
      rw [enc_fin, if_neg (by omega)]
      rw [dec_asm (by omega) (by omega)]
      exact ⟨_, _, _, rfl, fun _ => by omega⟩
    have near : 4503599627370496 ≤ FP.Core.nearest (FP.Core.unitsNum a 0 ((a.log2 : Int) - 52)) (FP.Core.unitsDen 1 0 ((a.log2 : Int) - 52)) ∧ FP.Core.nearest (FP.Core.unitsNum a 0 ((a.log2 : Int) - 52)) (FP.Core.unitsDen 1 0 ((a.log2 : Int) - 52)) ≤ 9007199254740992 := by
      have fl : ∀ n d, 4503599627370496 ≤ n / d → n / d < 9007199254740992 → 4503599627370496 ≤ FP.Core.nearest n d ∧ FP.Core.nearest n d ≤ 9007199254740992 := by
        intro n d h1 h2
        unfold FP.Core.nearest
        split
        · omega
        · split
          · omega
          · omega
      have p52 : (2 : Nat) ^ 52 = 4503599627370496 := by decide
      have p53 : (2 : Nat) ^ 53 = 9007199254740992 := by decide
      unfold FP.Core.unitsNum FP.Core.unitsDen
      by_cases w : a.log2 ≤ 52
      · rw [show (0 - ((a.log2 : Int) - 52)).toNat = 52 - a.log2 by omega, show (((a.log2 : Int) - 52) - 0).toNat = 0 by omega]
        refine fl _ _ ?_ ?_
        · rw [Nat.pow_zero, Nat.mul_one, Nat.div_one]
          have := Nat.mul_le_mul_right (2 ^ (52 - a.log2)) l1
          rw [← Nat.pow_add, show a.log2 + (52 - a.log2) = 52 by omega, p52] at this
          exact this
        · rw [Nat.pow_zero, Nat.mul_one, Nat.div_one]
          have := Nat.mul_lt_mul_of_pos_right l2 (Nat.two_pow_pos (52 - a.log2))
          rw [← Nat.pow_add, show a.log2 + 1 + (52 - a.log2) = 53 by omega, p53] at this
          exact this
      · rw [show (0 - ((a.log2 : Int) - 52)).toNat = 0 by omega, show (((a.log2 : Int) - 52) - 0).toNat = a.log2 - 52 by omega]
        rw [Nat.pow_zero, Nat.mul_one, Nat.one_mul]
        refine fl _ _ ?_ ?_
        · rw [Nat.le_div_iff_mul_le (Nat.two_pow_pos _), ← p52, ← Nat.pow_add, show 52 + (a.log2 - 52) = a.log2 by omega]
          exact l1
        · rw [Nat.div_lt_iff_lt_mul (Nat.two_pow_pos _), ← p53, ← Nat.pow_add, show 53 + (a.log2 - 52) = a.log2 + 1 by omega]
          exact l2
    unfold FP.Core.roundAt FP.Core.settle
    generalize FP.Core.nearest (FP.Core.unitsNum a 0 ((a.log2 : Int) - 52)) (FP.Core.unitsDen 1 0 ((a.log2 : Int) - 52)) = c at near
    split
    · rename_i h
      have h : c < 9007199254740992 := h
      exact fin c _ near.1 h (by omega) (by omega)
    · exact fin _ _ (by decide) (by decide) (by omega) (by omega)
theorem mid_ok {x y : Int64} (hy : y ≠ 0) : vf_n64 (FP.ddiv (FP.l2d x) (FP.l2d y)) := by
  obtain ⟨s, c, q, e1, -⟩ := l2d_shape x
  obtain ⟨t, d, r, e2, hd⟩ := l2d_shape y
  have e : (FP.ddiv (FP.l2d x) (FP.l2d y)) = UInt64.ofNat (FP.Core.encode FP.Core.b64 (FP.Core.roundRatio FP.Core.b64 (s != t) c d (q - r))) := by
    show UInt64.ofNat (FP.Core.encode FP.Core.b64 (FP.Core.quotient FP.Core.b64 (FP.Core.decode FP.Core.b64 (FP.l2d x).toNat) (FP.Core.decode FP.Core.b64 (FP.l2d y).toNat))) = _
    rw [e1, e2]
    unfold FP.Core.quotient
    dsimp only
    rw [if_neg (hd hy)]
  have h := enc_ratio (s != t) c d (q - r)
  rw [e]
  unfold vf_n64
  rw [UInt64.le_iff_toNat_le, UInt64.toNat_and, UInt64.toNat_ofNat_of_lt' (by exact h.1), show (0x7fffffffffffffff : UInt64).toNat = 2 ^ 63 - 1 from rfl, Nat.and_two_pow_sub_one_eq_mod]
  exact h.2
end GI

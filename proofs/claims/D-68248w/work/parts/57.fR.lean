/-! THE MODEL: planes that are tried -/
section FR
/-- points of the model: present ones, those of the hull -/
def CP (σ : Tab) : Nat → V3 := fun i => (σ 0 24 0 i, σ 0 25 0 i, σ 0 26 0 i)
def MP (σ : Tab) : Nat → V3 := fun i => (σ 0 27 0 i, σ 0 28 0 i, σ 0 29 0 i)
/-- the tables that the search for faces writes -/
def MF (σ : Tab) (v : V3) (fc : Int) (a b c d : Nat → Int) : Tab := fun g' k' i' j' =>
  if g' = 0 ∧ k' = 23 ∧ i' = 0 ∧ j' = 23 then v.1 else if g' = 0 ∧ k' = 23 ∧ i' = 0 ∧ j' = 24 then v.2.1 else if g' = 0 ∧ k' = 23 ∧ i' = 0 ∧ j' = 25 then v.2.2 else
  if g' = 0 ∧ k' = 23 ∧ i' = 0 ∧ j' = 11 then fc else if g' = 0 ∧ k' = 30 ∧ i' = 0 then a j' else if g' = 0 ∧ k' = 31 ∧ i' = 0 then b j' else if g' = 0 ∧ k' = 32 ∧ i' = 0 then c j' else if g' = 0 ∧ k' = 33 ∧ i' = 0 then d j' else σ g' k' i' j'
variable {σ : Tab} {v : V3} {fc : Int} {a b c d : Nat → Int}
theorem MF_0 (σ : Tab) : σ = MF σ (σ 0 23 0 23, σ 0 23 0 24, σ 0 23 0 25) (σ 0 23 0 11) (σ 0 30 0) (σ 0 31 0) (σ 0 32 0) (σ 0 33 0) := by
  funext g' k' i' j'
  unfold MF
  split
  · rename_i h; obtain ⟨rfl, rfl, rfl, rfl⟩ := h; rfl
  · split
    · rename_i h; obtain ⟨rfl, rfl, rfl, rfl⟩ := h; rfl
    · split
      · rename_i h; obtain ⟨rfl, rfl, rfl, rfl⟩ := h; rfl
      · split
        · rename_i h; obtain ⟨rfl, rfl, rfl, rfl⟩ := h; rfl
        · split
          · rename_i h; obtain ⟨rfl, rfl, rfl⟩ := h; rfl
          · split
            · rename_i h; obtain ⟨rfl, rfl, rfl⟩ := h; rfl
            · split
              · rename_i h; obtain ⟨rfl, rfl, rfl⟩ := h; rfl
              · split
                · rename_i h; obtain ⟨rfl, rfl, rfl⟩ := h; rfl
                · rfl
theorem MF_t1 : MF σ v fc a b c d 0 23 0 23 = v.1 := by simp [MF]
theorem MF_t2 : MF σ v fc a b c d 0 23 0 24 = v.2.1 := by simp [MF]
theorem MF_t3 : MF σ v fc a b c d 0 23 0 25 = v.2.2 := by simp [MF]
theorem MF_fc : MF σ v fc a b c d 0 23 0 11 = fc := by simp [MF]
theorem MF_30 (j : Nat) : MF σ v fc a b c d 0 30 0 j = a j := by simp [MF]
theorem MF_31 (j : Nat) : MF σ v fc a b c d 0 31 0 j = b j := by simp [MF]
theorem MF_32 (j : Nat) : MF σ v fc a b c d 0 32 0 j = c j := by simp [MF]
theorem MF_33 (j : Nat) : MF σ v fc a b c d 0 33 0 j = d j := by simp [MF]
theorem MF_h {j : Nat} (h : j ≠ 23 ∧ j ≠ 24 ∧ j ≠ 25 ∧ j ≠ 11) : MF σ v fc a b c d 0 23 0 j = σ 0 23 0 j := by simp [MF, h]
theorem MF_o {k : Nat} (h : k ≠ 23 ∧ k ≠ 30 ∧ k ≠ 31 ∧ k ≠ 32 ∧ k ≠ 33) (g' i' : Nat) : MF σ v fc a b c d g' k i' = σ g' k i' := by
  funext j'
  simp [MF, h]
theorem MF_g {g' : Nat} (h : g' ≠ 0) (k' i' : Nat) : MF σ v fc a b c d g' k' i' = σ g' k' i' := by
  funext j'
  simp [MF, h]
theorem MF_st1 (x : Int) : st (MF σ v fc a b c d) 0 23 0 23 x = MF σ (x, v.2.1, v.2.2) fc a b c d := by
  funext g' k' i' j'
  rw [st_app]
  unfold MF
  by_cases h : g' = 0 ∧ k' = 23 ∧ i' = 0 ∧ j' = 23
  · rw [if_pos h, if_pos h]
  · rw [if_neg h, if_neg h, if_neg h]
theorem MF_st2 (x : Int) : st (MF σ v fc a b c d) 0 23 0 24 x = MF σ (v.1, x, v.2.2) fc a b c d := by
  funext g' k' i' j'
  rw [st_app]
  unfold MF
  by_cases h : g' = 0 ∧ k' = 23 ∧ i' = 0 ∧ j' = 24
  · obtain ⟨rfl, rfl, rfl, rfl⟩ := h; simp
  · rw [if_neg h, if_neg h, if_neg h]
theorem MF_st3 (x : Int) : st (MF σ v fc a b c d) 0 23 0 25 x = MF σ (v.1, v.2.1, x) fc a b c d := by
  funext g' k' i' j'
  rw [st_app]
  unfold MF
  by_cases h : g' = 0 ∧ k' = 23 ∧ i' = 0 ∧ j' = 25
  · obtain ⟨rfl, rfl, rfl, rfl⟩ := h; simp
  · rw [if_neg h, if_neg h, if_neg h]
theorem MF_stf (x : Int) : st (MF σ v fc a b c d) 0 23 0 11 x = MF σ v x a b c d := by
  funext g' k' i' j'
  rw [st_app]
  unfold MF
  by_cases h : g' = 0 ∧ k' = 23 ∧ i' = 0 ∧ j' = 11
  · obtain ⟨rfl, rfl, rfl, rfl⟩ := h; simp
  · rw [if_neg h, if_neg h, if_neg h]
theorem MF_s30 (j : Nat) (x : Int) : st (MF σ v fc a b c d) 0 30 0 j x = MF σ v fc (upr a j x) b c d := by
  funext g' k' i' j'
  rw [st_app]
  unfold MF upr
  by_cases h : g' = 0 ∧ k' = 30 ∧ i' = 0
  · obtain ⟨rfl, rfl, rfl⟩ := h
    by_cases e : j' = j <;> simp [e]
  · rw [if_neg (fun z => h ⟨z.1, z.2.1, z.2.2.1⟩), if_neg h, if_neg h]
theorem MF_s31 (j : Nat) (x : Int) : st (MF σ v fc a b c d) 0 31 0 j x = MF σ v fc a (upr b j x) c d := by
  funext g' k' i' j'
  rw [st_app]
  unfold MF upr
  by_cases h : g' = 0 ∧ k' = 31 ∧ i' = 0
  · obtain ⟨rfl, rfl, rfl⟩ := h
    by_cases e : j' = j <;> simp [e]
  · rw [if_neg (fun z => h ⟨z.1, z.2.1, z.2.2.1⟩), if_neg h, if_neg h]
theorem MF_s32 (j : Nat) (x : Int) : st (MF σ v fc a b c d) 0 32 0 j x = MF σ v fc a b (upr c j x) d := by
  funext g' k' i' j'
  rw [st_app]
  unfold MF upr
  by_cases h : g' = 0 ∧ k' = 32 ∧ i' = 0
  · obtain ⟨rfl, rfl, rfl⟩ := h
    by_cases e : j' = j <;> simp [e]
  · rw [if_neg (fun z => h ⟨z.1, z.2.1, z.2.2.1⟩), if_neg h, if_neg h]
theorem MF_s33 (j : Nat) (x : Int) : st (MF σ v fc a b c d) 0 33 0 j x = MF σ v fc a b c (upr d j x) := by
  funext g' k' i' j'
  rw [st_app]
  unfold MF upr
  by_cases h : g' = 0 ∧ k' = 33 ∧ i' = 0
  · obtain ⟨rfl, rfl, rfl⟩ := h
    by_cases e : j' = j <;> simp [e]
  · rw [if_neg (fun z => h ⟨z.1, z.2.1, z.2.2.1⟩), if_neg h, if_neg h]
/-- Euclid within 64 steps -/
theorem f_com33 (P : Int → Tab → Prop) (τ : Tab) : ∀ (m k : Nat) (p q : Int) (n : Nat), 0 ≤ p → 0 ≤ q → p ≤ 1000000000000000000 → q < 2 ^ m → m ≤ 30 → k + 2 * m ≤ 64 → 2 * m < n → P (Int.gcd p q) τ → wlX8_common_33 P n p q k τ := by
  have gz : ∀ p q : Int, 0 ≤ p → 0 ≤ q → q ≠ 0 → Int.gcd q (p % q) = Int.gcd p q := by
    intro p q hp hq _
    obtain ⟨a, rfl⟩ := Int.eq_ofNat_of_zero_le hp
    obtain ⟨b, rfl⟩ := Int.eq_ofNat_of_zero_le hq
    rw [← Int.natCast_emod]
    show Nat.gcd b (a % b) = Nat.gcd a b
    rw [Nat.gcd_comm a b, Nat.gcd_rec b a, Nat.gcd_comm]
  intro m
  induction m with
  | zero =>
    intro k p q n hp hq hp1 hq1 _ hk hn hP
    obtain ⟨n, rfl⟩ : ∃ n', n = n' + 1 := ⟨n - 1, by omega⟩
    have e : q = 0 := by have : (2:Int) ^ 0 = 1 := rfl; omega
    subst e
    rw [Int.gcd_zero, Int.natAbs_of_nonneg hp] at hP
    unfold wlX8_common_33
    exact ⟨inI_sm ⟨by omega, by omega⟩, fun _ => hP, fun _ => ⟨⟨by decide, by decide⟩, fun _ => hP, fun z => absurd (by decide) z⟩⟩
  | succ m ih =>
    intro k p q n hp hq hp1 hq1 hm hk hn hP
    obtain ⟨n, rfl⟩ : ∃ n', n = n' + 2 := ⟨n - 2, by omega⟩
    have pw : (2:Int) ^ (m + 1) = 2 * 2 ^ m := by rw [Int.pow_succ]; omega
    have pb : (2:Int) ^ m ≤ 1073741824 := by
      have : (2:Nat) ^ m ≤ 2 ^ 30 := Nat.pow_le_pow_right (by decide) (by omega)
      have e : ((2 ^ m : Nat) : Int) = (2:Int) ^ m := by simp
      rw [← e]
      have : ((2:Nat) ^ 30) = 1073741824 := by decide
      omega
    have done : ∀ (n k : Nat) (x : Int), 0 ≤ x → k ≤ 64 → P x τ → wlX8_common_33 P (n + 1) x 0 k τ := by
      intro n k x hx hk hP
      unfold wlX8_common_33
      exact ⟨inI_sm ⟨by omega, by omega⟩, fun _ => hP, fun _ => ⟨⟨by decide, by decide⟩, fun _ => hP, fun z => absurd (by decide) z⟩⟩
    by_cases q0 : q = 0
    · subst q0
      rw [Int.gcd_zero, Int.natAbs_of_nonneg hp] at hP
      exact done _ k p hp (by omega) hP
    · unfold wlX8_common_33
      have h1 := Int.emod_nonneg p q0
      have h2 := Int.emod_lt_of_pos p (show 0 < q by omega)
      rw [Int.tmod_eq_emod_of_nonneg hp, ic]
      refine ⟨inI_sm ⟨by omega, by omega⟩, fun z => by omega, fun _ => ⟨inL_sm ⟨by omega, by omega⟩, fun z => by omega, fun _ => ⟨inL_sm ⟨by omega, by omega⟩, q0, ?_⟩⟩⟩
      rw [← gz p q hp hq q0] at hP
      by_cases r0 : p % q = 0
      · rw [r0, Int.gcd_zero, Int.natAbs_of_nonneg hq] at hP
        rw [r0]
        exact done n (k + 1) q hq (by omega) hP
      · unfold wlX8_common_33
        have h3 := Int.emod_nonneg q r0
        have h4 := Int.emod_lt_of_pos q (show 0 < p % q by omega)
        have h5 : q % (p % q) + (p % q) ≤ q := by
          have e := Int.emod_add_mul_ediv q (p % q)
          have hd : 1 ≤ q / (p % q) := by
            have := Int.ediv_nonneg hq h1
            rcases Int.lt_or_le 0 (q / (p % q)) with z | z
            · omega
            · have z0 : q / (p % q) = 0 := by omega
              rw [z0, Int.mul_zero] at e
              omega
          have : (p % q) * 1 ≤ (p % q) * (q / (p % q)) := Int.mul_le_mul_of_nonneg_left hd h1
          omega
        rw [Int.tmod_eq_emod_of_nonneg hq, ic]
        refine ⟨inI_sm ⟨by omega, by omega⟩, fun z => by omega, fun _ => ⟨inL_sm ⟨by omega, by omega⟩, fun z => by omega, fun _ => ⟨inL_sm ⟨by omega, by omega⟩, r0, ?_⟩⟩⟩
        rw [← gz q (p % q) hq h1 r0] at hP
        exact ih (k + 1 + 1) (p % q) (q % (p % q)) n h1 h3 (by omega) (by omega) (by omega) (by omega) (by omega) hP
theorem f_common (P : Int → Tab → Prop) (τ : Tab) (x y : Int) (hx : -4194304 ≤ x ∧ x ≤ 4194304) (hy : -4194304 ≤ y ∧ y ≤ 4194304) (hP : P (Int.gcd x y) τ) : wpX8_common x y τ P := by
  have key : ∀ p : Int, 0 ≤ p → p ≤ 4194304 → Int.gcd p y = Int.gcd x y → wlX8_common_13 P y p τ := by
    intro p hp hp1 e
    unfold wlX8_common_13
    refine ⟨inL_sm ⟨by omega, by omega⟩, fun h => ⟨60, ?_⟩, fun h => ⟨60, ?_⟩⟩
    · exact f_com33 P τ 24 0 p y 60 hp h (by omega) (by have : (2:Int) ^ 24 = 16777216 := by decide
                                                        omega) (by decide) (by decide) (by decide) (by rw [e]; exact hP)
    · exact f_com33 P τ 24 0 p (0 - y) 60 hp (by omega) (by omega) (by have : (2:Int) ^ 24 = 16777216 := by decide
                                                                       omega) (by decide) (by decide) (by decide) (by rw [Int.zero_sub, Int.gcd_neg, e]; exact hP)
  unfold wpX8_common
  refine ⟨inL_sm ⟨by omega, by omega⟩, fun h => key x h hx.2 rfl, fun h => key (0 - x) (by omega) (by omega) (by rw [Int.zero_sub]; exact Int.neg_gcd)⟩
theorem f_across {P : Tab → Prop} {x y z : Nat} (hx : x < 24) (hy : y < 24) (hz : z < 24) (hP : P (MF σ (cr (sb (MP σ y) (MP σ x)) (sb (MP σ z) (MP σ x))) fc a b c d)) : wpX8_across x y z (MF σ v fc a b c d) P := by
  unfold wpX8_across
  have r27 : MF σ v fc a b c d 0 27 0 = σ 0 27 0 := MF_o (by decide) 0 0
  have r28 : MF σ v fc a b c d 0 28 0 = σ 0 28 0 := MF_o (by decide) 0 0
  have r29 : MF σ v fc a b c d 0 29 0 = σ 0 29 0 := MF_o (by decide) 0 0
  rw [r27, r28, r29, Int.toNat_natCast, Int.toNat_natCast, Int.toNat_natCast]
  refine ⟨⟨by omega, by omega⟩, ⟨by omega, by omega⟩, fun y3 e3 y4 e4 y5 e5 => ⟨⟨by omega, by omega⟩, fun y7 e7 y8 e8 y9 e9 σ10 e10 σ11 e11 σ12 e12 => ?_⟩⟩
  rw [e12, e11, e10, MF_st1, MF_st2, MF_st3]
  have e : (y4 * y9 - y5 * y8, y5 * y7 - y3 * y9, y3 * y8 - y4 * y7) = cr (sb (MP σ y) (MP σ x)) (sb (MP σ z) (MP σ x)) := by
    simp only [cr, sb, MP, e3, e4, e5, e7, e8, e9]
  rw [e]
  exact hP
theorem f_above8 {P : Int → Tab → Prop} {x y : Nat} (hx : x < 24) (hy : y < 24) (hP : P (dt v (sb (MP σ y) (MP σ x))) (MF σ v fc a b c d)) : wpX8_above x y (MF σ v fc a b c d) P := by
  unfold wpX8_above
  have r27 : MF σ v fc a b c d 0 27 0 = σ 0 27 0 := MF_o (by decide) 0 0
  have r28 : MF σ v fc a b c d 0 28 0 = σ 0 28 0 := MF_o (by decide) 0 0
  have r29 : MF σ v fc a b c d 0 29 0 = σ 0 29 0 := MF_o (by decide) 0 0
  rw [r27, r28, r29, Int.toNat_natCast, Int.toNat_natCast, MF_t1, MF_t2, MF_t3]
  exact ⟨⟨by omega, by omega⟩, ⟨by omega, by omega⟩, hP⟩
/-- is the plane known -/
def knw (a b c d : Nat → Int) (fc : Nat) (v : V3) (o : Int) : Prop := ∃ f, f < fc ∧ a f = v.1 ∧ b f = v.2.1 ∧ c f = v.2.2 ∧ d f = o
theorem f_known {P : Int → Tab → Prop} {m : Nat} {o : Int} (hm : m ≤ 64) (hv : inL v.1 ∧ inL v.2.1 ∧ inL v.2.2) (ho : inL o) (hr : ∀ f, f < m → inL (a f) ∧ inL (b f) ∧ inL (c f) ∧ inL (d f)) (h1 : knw a b c d m v o → P 1 (MF σ v m a b c d)) (h0 : ¬ knw a b c d m v o → P 0 (MF σ v m a b c d)) : wpX8_knownFace o (MF σ v m a b c d) P := by
  have iM : inI (m : Int) := inI_sm ⟨by omega, by omega⟩
  have lp : ∀ (q f : Nat) (x3 : Int), m - f = q → f ≤ m → ((x3 = 1 ∧ knw a b c d f v o) ∨ (x3 = 0 ∧ ¬ knw a b c d f v o)) → wlX8_knownFace_5 P (q + 1) o x3 f (MF σ v m a b c d) := by
    intro q
    induction q with
    | zero =>
      intro f x3 e1 e2 e3
      have : f = m := by omega
      subst this
      unfold wlX8_knownFace_5
      rw [MF_fc]
      refine ⟨iM, iM, fun _ => ⟨?_, ?_⟩, fun z => by omega⟩
      · rcases e3 with ⟨z, _⟩ | ⟨z, _⟩
        · exact Or.inr z
        · exact Or.inl z
      · rcases e3 with ⟨z, w⟩ | ⟨z, w⟩
        · rw [z]; exact h1 w
        · rw [z]; exact h0 w
    | succ q ih =>
      intro f x3 e1 e2 e3
      obtain ⟨r1, r2, r3, r4⟩ := hr f (by omega)
      have hx3 : x3 = 0 ∨ x3 = 1 := by
        rcases e3 with ⟨z, _⟩ | ⟨z, _⟩
        · exact Or.inr z
        · exact Or.inl z
      unfold wlX8_knownFace_5
      rw [MF_fc, Int.toNat_natCast, MF_30, MF_31, MF_32, MF_33, MF_t1, MF_t2, MF_t3, ic]
      have up : ∀ f, knw a b c d f v o → knw a b c d (f + 1) v o := fun f ⟨x, hx, hq⟩ => ⟨x, by omega, hq⟩
      have no : ¬ x3 ≠ 0 → ¬ (a f = v.1 ∧ b f = v.2.1 ∧ c f = v.2.2 ∧ d f = o) → wlX8_knownFace_5 P (q + 1) o 0 ((f + 1 : Nat) : Int) (MF σ v m a b c d) := by
        intro hz hn
        refine ih (f + 1) 0 (by omega) (by omega) (Or.inr ⟨rfl, ?_⟩)
        rintro ⟨x, hx, hq⟩
        by_cases e : x = f
        · subst e; exact hn hq
        · rcases e3 with ⟨z, _⟩ | ⟨_, w⟩
          · exact hz (by omega)
          · exact w ⟨x, by omega, hq⟩
      refine ⟨inI_sm ⟨by omega, by omega⟩, iM, fun z => by omega, fun _ => ⟨inI_f hx3, fun z => ih (f + 1) 1 (by omega) (by omega) (Or.inl ⟨rfl, ?_⟩), fun z => ⟨⟨by omega, by omega⟩, r1, hv.1, fun w => no z (fun y => w y.1), fun w1 => ⟨r2, hv.2.1, fun w => no z (fun y => w y.2.1), fun w2 => ⟨r3, hv.2.2, fun w => no z (fun y => w y.2.2.1), fun w3 => ⟨r4, ho, fun w => no z (fun y => w y.2.2.2), fun w4 => ih (f + 1) 1 (by omega) (by omega) (Or.inl ⟨rfl, f, by omega, ?_⟩)⟩⟩⟩⟩⟩⟩
      · rcases e3 with ⟨_, w⟩ | ⟨w, _⟩
        · exact up f w
        · exact absurd w z
      · exact ⟨Decidable.of_not_not w1, Decidable.of_not_not w2, Decidable.of_not_not w3, Decidable.of_not_not w4⟩
  exact ⟨_, lp _ 0 0 rfl (by omega) (Or.inr ⟨rfl, fun ⟨x, hx, _⟩ => absurd hx (Nat.not_lt_zero _)⟩)⟩
theorem f_addFace {P : Tab → Prop} {m : Nat} {o : Int} (hm : m ≤ 64) (hv : inL v.1 ∧ inL v.2.1 ∧ inL v.2.2) (ho : inL o) (hr : ∀ f, f < m → inL (a f) ∧ inL (b f) ∧ inL (c f) ∧ inL (d f)) (h1 : knw a b c d m v o → P (MF σ v m a b c d)) (h0 : ¬ knw a b c d m v o → m < 64 ∧ P (MF σ v ((m + 1 : Nat) : Int) (upr a m v.1) (upr b m v.2.1) (upr c m v.2.2) (upr d m o))) : wpX8_addFace o (MF σ v m a b c d) P := by
  refine f_known hm hv ho hr (fun h => ?_) (fun h => ?_)
  · exact ⟨⟨by decide, by decide⟩, fun _ => h1 h, fun z => absurd (by decide) z⟩
  · obtain ⟨hlt, hp⟩ := h0 h
    refine ⟨⟨by decide, by decide⟩, fun z => absurd rfl z, fun _ => ?_⟩
    rw [MF_fc, Int.toNat_natCast, MF_t1]
    refine ⟨⟨by omega, by omega⟩, fun σ5 e5 => ?_⟩
    rw [e5, MF_s30, MF_fc, Int.toNat_natCast, MF_t2]
    refine ⟨⟨by omega, by omega⟩, fun σ7 e7 => ?_⟩
    rw [e7, MF_s31, MF_fc, Int.toNat_natCast, MF_t3]
    refine ⟨⟨by omega, by omega⟩, fun σ9 e9 => ?_⟩
    rw [e9, MF_s32, MF_fc, Int.toNat_natCast]
    refine ⟨⟨by omega, by omega⟩, fun σ11 e11 σ12 e12 => ?_⟩
    rw [e12, e11, MF_s33, MF_fc, MF_stf, ic]
    exact hp
end FR

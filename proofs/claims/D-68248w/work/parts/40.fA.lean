/-! WHAT THE LEAVES COMPUTE, in plain Lean over tables -/
section FA
theorem st_app (σ : Tab) (g k i j : Nat) (v : Int) (g' k' i' j' : Nat) : st σ g k i j v g' k' i' j' = if g' = g ∧ k' = k ∧ i' = i ∧ j' = j then v else σ g' k' i' j' := by
  unfold st upr
  by_cases h : g' = g ∧ k' = k ∧ i' = i
  · obtain ⟨rfl, rfl, rfl⟩ := h
    by_cases h2 : j' = j
    · simp [h2]
    · simp [h2]
  · rw [if_neg h, if_neg (fun z => h ⟨z.1, z.2.1, z.2.2.1⟩)]
theorem st_same (σ : Tab) (g k i j : Nat) (v : Int) : st σ g k i j v g k i j = v := by simp [st_app]
theorem st_j {σ : Tab} {g k i j : Nat} {v : Int} {g' k' i' j' : Nat} (h : j' ≠ j) : st σ g k i j v g' k' i' j' = σ g' k' i' j' := by simp [st_app, h]
theorem st_k {σ : Tab} {g k i j : Nat} {v : Int} {g' k' i' : Nat} (h : k' ≠ k) : st σ g k i j v g' k' i' = σ g' k' i' := st_ne (fun z => h z.2.1)
theorem st_i {σ : Tab} {g k i j : Nat} {v : Int} {g' k' i' : Nat} (h : i' ≠ i) : st σ g k i j v g' k' i' = σ g' k' i' := st_ne (fun z => h z.2.2)
/-- all rows but one are kept -/
def keepR (σ τ : Tab) (g k i : Nat) : Prop := ∀ g' k' i', ¬ (g' = g ∧ k' = k ∧ i' = i) → τ g' k' i' = σ g' k' i'
theorem keepR_st {σ τ : Tab} {g k i j : Nat} {v : Int} (h : keepR σ τ g k i) : keepR σ (st τ g k i j v) g k i := fun g' k' i' hn => by rw [st_ne hn]; exact h g' k' i' hn
theorem keepR_rf (σ : Tab) (g k i : Nat) : keepR σ σ g k i := fun _ _ _ _ => rfl
def v3 (σ : Tab) (g k i : Nat) : V3 := (σ g k i 0, σ g k i 1, σ g k i 2)
def B9 (x : Int) : Prop := -512 ≤ x ∧ x ≤ 512
def B93 (p : V3) : Prop := B9 p.1 ∧ B9 p.2.1 ∧ B9 p.2.2
theorem inI_sm {x : Int} (h : -1000000000 ≤ x ∧ x ≤ 1000000000) : inI x := ⟨by omega, by omega⟩
theorem inL_sm {x : Int} (h : -1000000000000000000 ≤ x ∧ x ≤ 1000000000000000000) : inL x := ⟨by omega, by omega⟩
theorem inL_of_inI {x : Int} (h : inI x) : inL x := ⟨by have := h.1; omega, by have := h.2; omega⟩
/-- divisor -/
theorem f_div28 (P : Int → Tab → Prop) (σ : Tab) : ∀ (n : Nat) (p q : Int), 0 ≤ p → 0 ≤ q → p ≤ 1000000000000000000 → q ≤ 1000000000000000000 → q.toNat < n → P (Int.gcd p q) σ → wlX3_divisor_28 P n p q σ := by
  intro n
  induction n with
  | zero => intro p q _ _ _ _ h; exact absurd h (Nat.not_lt_zero _)
  | succ n ih =>
    intro p q hp hq hp1 hq1 hn hP
    unfold wlX3_divisor_28
    refine ⟨inL_sm ⟨by omega, hq1⟩, fun h => ?_, fun h => ⟨inL_sm ⟨by omega, hp1⟩, by omega, ?_⟩⟩
    · have e : q = 0 := by omega
      subst e
      rw [Int.gcd_zero, Int.natAbs_of_nonneg hp] at hP
      exact hP
    · have e : p.tmod q = p % q := Int.tmod_eq_emod_of_nonneg hp
      have h1 := Int.emod_nonneg p (show q ≠ 0 by omega)
      have h2 := Int.emod_lt_of_pos p (show 0 < q by omega)
      rw [e]
      refine ih q (p % q) hq h1 hq1 (by omega) (by omega) ?_
      have e2 : Int.gcd q (p % q) = Int.gcd p q := by
        obtain ⟨a, rfl⟩ := Int.eq_ofNat_of_zero_le hp
        obtain ⟨b, rfl⟩ := Int.eq_ofNat_of_zero_le hq
        rw [← Int.natCast_emod]
        show Nat.gcd b (a % b) = Nat.gcd a b
        rw [Nat.gcd_comm a b, Nat.gcd_rec b a, Nat.gcd_comm]
      rw [e2]
      exact hP
theorem f_div (P : Int → Tab → Prop) (σ : Tab) (x y : Int) (hx : -1000000000000000000 ≤ x ∧ x ≤ 1000000000000000000) (hy : -1000000000000000000 ≤ y ∧ y ≤ 1000000000000000000) (hP : P (Int.gcd x y) σ) : wpX3_divisor x y σ P := by
  have key : ∀ p : Int, 0 ≤ p → p ≤ 1000000000000000000 → Int.gcd p y = Int.gcd x y → wlX3_divisor_12 P y p σ := by
    intro p hp hp1 e
    unfold wlX3_divisor_12
    refine ⟨inL_sm hy, fun h => ?_, fun h => ?_⟩
    · exact ⟨y.toNat + 1, f_div28 P σ _ p y hp h hp1 hy.2 (by omega) (by rw [e]; exact hP)⟩
    · exact ⟨(-y).toNat + 1, f_div28 P σ _ p (-y) hp (by omega) hp1 (by omega) (by omega) (by rw [Int.gcd_neg, e]; exact hP)⟩
  unfold wpX3_divisor
  refine ⟨inL_sm hx, fun h => key x h hx.2 rfl, fun h => key (-x) (by omega) (by omega) Int.neg_gcd⟩
/-- reduced: divided by the greatest common divisor -/
theorem red_ok {x y z : Int} {G : Nat} (hG : G = Int.gcd (Int.gcd x y : Nat) z) (h0 : G ≠ 0) : sm G (x.tdiv G, y.tdiv G, z.tdiv G) = (x, y, z) ∧ prim (x.tdiv G, y.tdiv G, z.tdiv G) := by
  have dz : (G : Int) ∣ z := by rw [hG]; exact Int.gcd_dvd_right _ _
  have dg : (G : Int) ∣ (Int.gcd x y : Nat) := by rw [hG]; exact Int.gcd_dvd_left _ _
  have dx : (G : Int) ∣ x := Int.dvd_trans dg (Int.gcd_dvd_left _ _)
  have dy : (G : Int) ∣ y := Int.dvd_trans dg (Int.gcd_dvd_right _ _)
  have ex := Int.mul_tdiv_cancel' dx
  have ey := Int.mul_tdiv_cancel' dy
  have ez := Int.mul_tdiv_cancel' dz
  refine ⟨by simp only [sm]; rw [ex, ey, ez], ?_⟩
  show Int.gcd (Int.gcd (x.tdiv G) (y.tdiv G)) (z.tdiv G) = 1
  have h : Int.gcd (Int.gcd (G * x.tdiv G) (G * y.tdiv G) : Nat) (G * z.tdiv G) = G * Int.gcd (Int.gcd (x.tdiv G) (y.tdiv G)) (z.tdiv G) := by
    rw [Int.gcd_mul_left, Int.natAbs_natCast, Int.natCast_mul, Int.gcd_mul_left, Int.natAbs_natCast]
  rw [ex, ey, ez, ← hG] at h
  have h1 : G * 1 = G * Int.gcd (Int.gcd (x.tdiv G) (y.tdiv G)) (z.tdiv G) := by omega
  exact (Nat.eq_of_mul_eq_mul_left (by omega) h1).symm
theorem gcd3_zero {x y z : Int} (h : Int.gcd (Int.gcd x y : Nat) z = 0) : x = 0 ∧ y = 0 ∧ z = 0 := by
  have h1 := Int.gcd_eq_zero_iff.mp h
  have h2 := Int.gcd_eq_zero_iff.mp (show Int.gcd x y = 0 by omega)
  exact ⟨h2.1, h2.2, h1.2⟩
theorem mul_bd {x y a b : Int} (hx : -a ≤ x ∧ x ≤ a) (hy : -b ≤ y ∧ y ≤ b) (hb : 0 ≤ b) : -(a * b) ≤ x * y ∧ x * y ≤ a * b := by
  have h1 : 0 ≤ (a - x) * (b + y) := Int.mul_nonneg (by omega) (by omega)
  have h2 : 0 ≤ (a + x) * (b - y) := Int.mul_nonneg (by omega) (by omega)
  have h3 : 0 ≤ (a - x) * (b - y) := Int.mul_nonneg (by omega) (by omega)
  have h4 : 0 ≤ (a + x) * (b + y) := Int.mul_nonneg (by omega) (by omega)
  have e1 : (a - x) * (b + y) = a * b + a * y - x * b - x * y := by grind
  have e2 : (a + x) * (b - y) = a * b - a * y + x * b - x * y := by grind
  have e3 : (a - x) * (b - y) = a * b - a * y - x * b + x * y := by grind
  have e4 : (a + x) * (b + y) = a * b + a * y + x * b + x * y := by grind
  omega
/-- through -/
theorem f_through {g0 k0 i0 g1 k1 i1 g2 k2 i2 g3 k3 i3 : Nat} {σ : Tab} {P : Int → Tab → Prop} (n1 : k1 ≠ k0) (b1 : B93 (v3 σ g1 k1 i1)) (b2 : B93 (v3 σ g2 k2 i2)) (b3 : B93 (v3 σ g3 k3 i3))
    (h0 : cr (sb (v3 σ g2 k2 i2) (v3 σ g1 k1 i1)) (sb (v3 σ g3 k3 i3) (v3 σ g1 k1 i1)) = (0, 0, 0) → ∀ τ, keepR σ τ g0 k0 i0 → P 0 τ)
    (h1 : cr (sb (v3 σ g2 k2 i2) (v3 σ g1 k1 i1)) (sb (v3 σ g3 k3 i3) (v3 σ g1 k1 i1)) ≠ (0, 0, 0) → ∀ τ, keepR σ τ g0 k0 i0 → ∀ G : Int, 0 < G → sm G (v3 τ g0 k0 i0) = cr (sb (v3 σ g2 k2 i2) (v3 σ g1 k1 i1)) (sb (v3 σ g3 k3 i3) (v3 σ g1 k1 i1)) → prim (v3 τ g0 k0 i0) → τ g0 k0 i0 3 = dt (v3 τ g0 k0 i0) (v3 σ g1 k1 i1) → P 1 τ) :
    wpX3_through g0 k0 i0 g1 k1 i1 g2 k2 i2 g3 k3 i3 σ P := by
  obtain ⟨⟨a1, a2⟩, ⟨a3, a4⟩, a5, a6⟩ := b1
  obtain ⟨⟨c1, c2⟩, ⟨c3, c4⟩, c5, c6⟩ := b2
  obtain ⟨⟨d1, d2⟩, ⟨d3, d4⟩, d5, d6⟩ := b3
  simp only [v3] at a1 a2 a3 a4 a5 a6 c1 c2 c3 c4 c5 c6 d1 d2 d3 d4 d5 d6
  unfold wpX3_through
  refine ⟨inI_sm ⟨by omega, by omega⟩, fun y2 e2 => ⟨inI_sm ⟨by omega, by omega⟩, fun y4 e4 => ⟨inI_sm ⟨by omega, by omega⟩, fun y6 e6 => ⟨inI_sm ⟨by omega, by omega⟩, fun y8 e8 => ⟨inI_sm ⟨by omega, by omega⟩, fun y10 e10 => ⟨inI_sm ⟨by omega, by omega⟩, fun y12 e12 => ?_⟩⟩⟩⟩⟩⟩
  have hcr : cr (sb (v3 σ g2 k2 i2) (v3 σ g1 k1 i1)) (sb (v3 σ g3 k3 i3) (v3 σ g1 k1 i1)) = (y4 * y12 - y6 * y10, y6 * y8 - y2 * y12, y2 * y10 - y4 * y8) := by
    simp only [cr, sb, v3, e2, e4, e6, e8, e10, e12]
  rw [hcr] at h0 h1
  have r2 : -1024 ≤ y2 ∧ y2 ≤ 1024 := by omega
  have r4 : -1024 ≤ y4 ∧ y4 ≤ 1024 := by omega
  have r6 : -1024 ≤ y6 ∧ y6 ≤ 1024 := by omega
  have r8 : -1024 ≤ y8 ∧ y8 ≤ 1024 := by omega
  have r10 : -1024 ≤ y10 ∧ y10 ≤ 1024 := by omega
  have r12 : -1024 ≤ y12 ∧ y12 ≤ 1024 := by omega
  have m1 := mul_bd r4 r12 (by decide)
  have m2 := mul_bd r6 r10 (by decide)
  have m3 := mul_bd r6 r8 (by decide)
  have m4 := mul_bd r2 r12 (by decide)
  have m5 := mul_bd r2 r10 (by decide)
  have m6 := mul_bd r4 r8 (by decide)
  clear e2 e4 e6 e8 e10 e12 r2 r4 r6 r8 r10 r12 hcr
  obtain ⟨X, hX⟩ : ∃ X, X = y4 * y12 - y6 * y10 := ⟨_, rfl⟩
  obtain ⟨Y, hY⟩ : ∃ Y, Y = y6 * y8 - y2 * y12 := ⟨_, rfl⟩
  obtain ⟨Z, hZ⟩ : ∃ Z, Z = y2 * y10 - y4 * y8 := ⟨_, rfl⟩
  rw [← hX, ← hY, ← hZ] at h0 h1
  have bX : -2097152 ≤ X ∧ X ≤ 2097152 := by omega
  have bY : -2097152 ≤ Y ∧ Y ≤ 2097152 := by omega
  have bZ : -2097152 ≤ Z ∧ Z ≤ 2097152 := by omega
  rw [← hX, ← hY, ← hZ]
  clear hX hY hZ m1 m2 m3 m4 m5 m6
  intro σ13 q13 σ14 q14 σ15 q15
  have k15 : keepR σ σ15 g0 k0 i0 := by rw [q15, q14, q13]; exact keepR_st (keepR_st (keepR_st (keepR_rf _ _ _ _)))
  have x15 : σ15 g0 k0 i0 0 = X := by rw [q15, st_j (by decide), q14, st_j (by decide), q13, st_same]
  have y15 : σ15 g0 k0 i0 1 = Y := by rw [q15, st_j (by decide), q14, st_same]
  have z15 : σ15 g0 k0 i0 2 = Z := by rw [q15, st_same]
  clear q13 q14 q15
  refine f_div _ _ _ _ (by omega) (by omega) ?_
  have gb : (Int.gcd (σ15 g0 k0 i0 0) (σ15 g0 k0 i0 1) : Int) ≤ 4194304 := by
    rw [x15, y15]
    by_cases hx : X = 0
    · rw [hx, Int.zero_gcd]; omega
    · have := Int.gcd_le_natAbs_left Y hx
      omega
  refine f_div _ _ _ _ (by omega) (by omega) ?_
  obtain ⟨G, hG⟩ : ∃ G : Nat, G = Int.gcd (Int.gcd X Y : Nat) Z := ⟨_, rfl⟩
  rw [x15, y15, z15, ← hG]
  have gb2 : G ≤ 4194304 := by
    by_cases hz : Z = 0
    · rw [x15, y15] at gb
      rw [hG, hz, Int.gcd_zero]; omega
    · have h := Int.gcd_le_natAbs_right ((Int.gcd X Y : Nat) : Int) hz
      omega
  refine ⟨inL_sm ⟨by omega, by omega⟩, fun hne => ?_, fun hz => ?_⟩
  · have G0 : G ≠ 0 := by omega
    obtain ⟨rd1, rd2⟩ := red_ok hG G0
    refine ⟨inL_sm ⟨by omega, by omega⟩, hne, fun σ22 q22 => ?_⟩
    have k22 : keepR σ σ22 g0 k0 i0 := by rw [q22]; exact keepR_st k15
    have x22 : σ22 g0 k0 i0 0 = X.tdiv G := by rw [q22, st_same]
    have y22 : σ22 g0 k0 i0 1 = Y := by rw [q22, st_j (by decide), y15]
    have z22 : σ22 g0 k0 i0 2 = Z := by rw [q22, st_j (by decide), z15]
    clear q22
    rw [y22]
    refine ⟨inL_sm ⟨by omega, by omega⟩, hne, fun σ25 q25 => ?_⟩
    have k25 : keepR σ σ25 g0 k0 i0 := by rw [q25]; exact keepR_st k22
    have x25 : σ25 g0 k0 i0 0 = X.tdiv G := by rw [q25, st_j (by decide), x22]
    have y25 : σ25 g0 k0 i0 1 = Y.tdiv G := by rw [q25, st_same]
    have z25 : σ25 g0 k0 i0 2 = Z := by rw [q25, st_j (by decide), z22]
    clear q25
    rw [z25]
    refine ⟨inL_sm ⟨by omega, by omega⟩, hne, fun σ28 q28 => ?_⟩
    have k28 : keepR σ σ28 g0 k0 i0 := by rw [q28]; exact keepR_st k25
    have x28 : σ28 g0 k0 i0 0 = X.tdiv G := by rw [q28, st_j (by decide), x25]
    have y28 : σ28 g0 k0 i0 1 = Y.tdiv G := by rw [q28, st_j (by decide), y25]
    have z28 : σ28 g0 k0 i0 2 = Z.tdiv G := by rw [q28, st_same]
    clear q28
    have e1 : σ28 g1 k1 i1 = σ g1 k1 i1 := k28 _ _ _ (fun z => n1 z.2.1)
    rw [e1]
    refine ⟨inI_sm ⟨by omega, by omega⟩, inI_sm ⟨by omega, by omega⟩, inI_sm ⟨by omega, by omega⟩, fun σ32 q32 => ?_⟩
    have k32 : keepR σ σ32 g0 k0 i0 := by rw [q32]; exact keepR_st k28
    have v32 : v3 σ32 g0 k0 i0 = (X.tdiv G, Y.tdiv G, Z.tdiv G) := by
      unfold v3
      rw [q32, st_j (by decide), st_j (by decide), st_j (by decide), x28, y28, z28]
    refine h1 (fun z => ?_) σ32 k32 G (by omega) (by rw [v32]; exact rd1) (by rw [v32]; exact rd2) ?_
    · simp only [Prod.mk.injEq] at z
      obtain ⟨rfl, rfl, rfl⟩ := z
      simp at hG
      omega
    · rw [v32, q32, st_same, x28, y28, z28]
      rfl
  · have e := gcd3_zero (show Int.gcd (Int.gcd X Y : Nat) Z = 0 by omega)
    exact h0 (by rw [e.1, e.2.1, e.2.2]) σ15 k15
end FA
section FA2
variable {σ : Tab} {P : Int → Tab → Prop}
theorem f_above {g0 k0 i0 g1 k1 i1 : Nat} (b1 : B93 (v3 σ g1 k1 i1)) (hP : P (dt (v3 σ g0 k0 i0) (v3 σ g1 k1 i1) - σ g0 k0 i0 3) σ) : wpX3_above g0 k0 i0 g1 k1 i1 σ P := by
  obtain ⟨⟨a1, a2⟩, ⟨a3, a4⟩, a5, a6⟩ := b1
  simp only [v3] at a1 a2 a3 a4 a5 a6
  exact ⟨inI_sm ⟨by omega, by omega⟩, inI_sm ⟨by omega, by omega⟩, inI_sm ⟨by omega, by omega⟩, hP⟩
theorem f_get5 {g i0 : Nat} {x : Int} (hx : 0 ≤ x ∧ x ≤ 3) (hP : P (σ g 14 i0 (1 + x.toNat % 3)) σ) : wpX5_get g i0 x σ P := by
  have hI : inI x := inI_sm ⟨by omega, by omega⟩
  have e : x.tmod 3 = x % 3 := Int.tmod_eq_emod_of_nonneg hx.1
  have cs : x = 0 ∨ x = 1 ∨ x = 2 ∨ x = 3 := by omega
  refine ⟨hI, by rw [e]; exact inI_sm ⟨by omega, by omega⟩, fun h => ⟨hI, fun h2 => ?_, fun h2 => ?_⟩, fun h => ?_⟩
  · rw [e] at h h2
    have : x = 2 := by omega
    subst this
    exact hP
  · rw [e] at h h2
    have : x = 1 := by omega
    subst this
    exact hP
  · rw [e] at h
    have : x = 0 ∨ x = 3 := by omega
    rcases this with rfl | rfl <;> exact hP
/-- a triangle's three corners -/
def tgo (σ : Tab) (g k : Nat) (x y : Int) : Prop := (σ g 14 k 1 = x ∧ σ g 14 k 2 = y) ∨ (σ g 14 k 2 = x ∧ σ g 14 k 3 = y) ∨ (σ g 14 k 3 = x ∧ σ g 14 k 1 = y)
theorem f_goes {g i0 : Nat} {x y : Int} (r1 : inI (σ g 14 i0 1)) (r2 : inI (σ g 14 i0 2)) (r3 : inI (σ g 14 i0 3)) (rx : inI x) (ry : inI y) (h1 : tgo σ g i0 x y → P 1 σ) (h0 : ¬ tgo σ g i0 x y → P 0 σ) : wpX5_goes g i0 x y σ P := by
  have k32 : ¬ (σ g 14 i0 1 = x ∧ σ g 14 i0 2 = y) → ¬ (σ g 14 i0 2 = x ∧ σ g 14 i0 3 = y) → wlX5_goes_32 g i0 P x y σ := by
    intro a b
    refine ⟨r3, rx, fun h => h0 ?_, fun h => ⟨r1, ry, fun h2 => h0 ?_, fun h2 => h1 ?_⟩⟩
    · rintro (z | z | z)
      · exact a z
      · exact b z
      · exact h z.1
    · rintro (z | z | z)
      · exact a z
      · exact b z
      · exact h2 z.2
    · exact Or.inr (Or.inr ⟨Decidable.of_not_not h, Decidable.of_not_not h2⟩)
  have k16 : ¬ (σ g 14 i0 1 = x ∧ σ g 14 i0 2 = y) → wlX5_goes_16 g i0 P x y σ := by
    intro a
    refine ⟨r2, rx, fun h => k32 a (fun z => h z.1), fun h => ⟨r3, ry, fun h2 => h1 ?_, fun h2 => k32 a (fun z => h2 z.2)⟩⟩
    exact Or.inr (Or.inl ⟨Decidable.of_not_not h, h2⟩)
  refine ⟨r1, rx, fun h => k16 (fun z => h z.1), fun h => ⟨r2, ry, fun h2 => h1 ?_, fun h2 => k16 (fun z => h2 z.2)⟩⟩
  exact Or.inl ⟨Decidable.of_not_not h, h2⟩
def psame (σ : Tab) (g0 k0 i0 g1 k1 i1 : Nat) : Prop := σ g0 k0 i0 0 = σ g1 k1 i1 0 ∧ σ g0 k0 i0 1 = σ g1 k1 i1 1 ∧ σ g0 k0 i0 2 = σ g1 k1 i1 2 ∧ σ g0 k0 i0 3 = σ g1 k1 i1 3
def inP (σ : Tab) (g k i : Nat) : Prop := inL (σ g k i 0) ∧ inL (σ g k i 1) ∧ inL (σ g k i 2) ∧ inL (σ g k i 3)
theorem f_same {g0 k0 i0 g1 k1 i1 : Nat} (r0 : inP σ g0 k0 i0) (r1 : inP σ g1 k1 i1) (h1 : psame σ g0 k0 i0 g1 k1 i1 → P 1 σ) (h0 : ¬ psame σ g0 k0 i0 g1 k1 i1 → P 0 σ) : wpX3_same g0 k0 i0 g1 k1 i1 σ P := by
  refine ⟨r0.1, r1.1, fun h => h0 (fun z => h z.1), fun h => ⟨r0.2.1, r1.2.1, fun h2 => h0 (fun z => h2 z.2.1), fun h2 => ⟨r0.2.2.1, r1.2.2.1, fun h3 => h0 (fun z => h3 z.2.2.1), fun h3 => ⟨r0.2.2.2, r1.2.2.2, fun h4 => h0 (fun z => h4 z.2.2.2), fun h4 => h1 ?_⟩⟩⟩⟩
  exact ⟨Decidable.of_not_not h, Decidable.of_not_not h2, Decidable.of_not_not h3, Decidable.of_not_not h4⟩
end FA2

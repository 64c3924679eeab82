/-! THE MODEL: three points tried as a face -/
section FS
/-- a plane by three of its points -/
theorem plane_uniq {Q : Nat → V3} {S : Nat → Prop} {n n' : V3} {o o' : Int} (hF : Fac Q S n o) (hF' : Fac Q S n' o') (hp : prim n) (hp' : prim n') {x y z q : Nat} (hx : dt n (Q x) = o) (hy : dt n (Q y) = o) (hz : dt n (Q z) = o) (hx' : dt n' (Q x) = o') (hy' : dt n' (Q y) = o') (hz' : dt n' (Q z) = o') (hcr : cr (sb (Q y) (Q x)) (sb (Q z) (Q x)) ≠ (0, 0, 0)) (hq : S q) (hqn : dt n (Q q) ≠ o) : n = n' ∧ o = o' := by
  obtain ⟨u, hu⟩ : ∃ u, u = sb (Q y) (Q x) := ⟨_, rfl⟩
  obtain ⟨w, hw⟩ : ∃ w, w = sb (Q z) (Q x) := ⟨_, rfl⟩
  have u1 := inp_perp hy hx
  have w1 := inp_perp hz hx
  have u2 := inp_perp hy' hx'
  have w2 := inp_perp hz' hx'
  rw [← hu] at u1 u2 hcr
  rw [← hw] at w1 w2 hcr
  have nn := dt_pos n hF.1
  have mm := dt_pos n' hF'.1
  have key : ∀ y : V3, tp u w n' * dt n y = tp u w n * dt n' y := by
    intro y
    have e1 := perp3 u1 w1 n'
    have e2 := perp3 u1 w1 y
    have e3 := perp3 u2 w2 y
    have e4 := perp3 u2 w2 n
    have e5 := dt_comm n n'
    have f1 : dt n n * dt n' n' * (tp u w n' * dt n y - tp u w n * dt n' y) = 0 := by grind
    rcases Int.mul_eq_zero.mp f1 with z | z
    · have := Int.mul_pos nn mm; omega
    · omega
  have tn0 : tp u w n ≠ 0 := by
    intro z
    apply hcr
    exact perp_cr hF.1 u1 w1 z
  have tn0' : tp u w n' ≠ 0 := by
    intro z
    apply hcr
    exact perp_cr hF'.1 u2 w2 z
  have A : dt n (sb (Q q) (Q x)) < 0 := by have := hF.2.1 q hq; rw [dt_sb]; omega
  have A' : dt n' (sb (Q q) (Q x)) ≤ 0 := by have := hF'.2.1 q hq; rw [dt_sb]; omega
  have kq := key (sb (Q q) (Q x))
  have vec : ∀ k k' : Int, (∀ y : V3, k * dt n y = k' * dt n' y) → sm k n = sm k' n' := by
    intro k k' h
    have k1 := h (1, 0, 0)
    have k2 := h (0, 1, 0)
    have k3 := h (0, 0, 1)
    simp only [dt, Int.mul_one, Int.mul_zero, Int.add_zero, Int.zero_add] at k1 k2 k3
    simp only [sm]
    exact Prod.ext k1 (Prod.ext k2 k3)
  have en : n = n' := by
    rcases Int.lt_or_lt_of_ne tn0' with s1 | s1
    · have s2 : tp u w n < 0 := by
        have h1 : 0 < tp u w n' * dt n (sb (Q q) (Q x)) := Int.mul_pos_of_neg_of_neg s1 A
        rcases Int.lt_or_lt_of_ne tn0 with s | s
        · exact s
        · have : tp u w n * dt n' (sb (Q q) (Q x)) ≤ 0 := Int.mul_nonpos_of_nonneg_of_nonpos (Int.le_of_lt s) A'
          omega
      refine prim_eq hp hp' (k := - tp u w n') (k' := - tp u w n) (by omega) (by omega) (vec _ _ (fun y => ?_))
      have := key y
      rw [Int.neg_mul, Int.neg_mul]
      omega
    · have s2 : 0 < tp u w n := by
        have h1 : tp u w n' * dt n (sb (Q q) (Q x)) < 0 := Int.mul_neg_of_pos_of_neg s1 A
        rcases Int.lt_or_lt_of_ne tn0 with s | s
        · have : 0 ≤ tp u w n * dt n' (sb (Q q) (Q x)) := Int.mul_nonneg_of_nonpos_of_nonpos (Int.le_of_lt s) A'
          omega
        · exact s
      exact prim_eq hp hp' s1 s2 (vec _ _ key)
  exact ⟨en, by rw [← hx, ← hx', en]⟩
/-- how many faces -/
theorem capF {Q : Nat → V3} {N : Nat} {T : Nat → Nat → Nat → Prop} (H : Hul Q N (fun q => q < N) T) (hgen : ∀ a b, a < N → b < N → dt gen3 (Q a) = dt gen3 (Q b) → a = b) (K : Nat) (nn : Nat → V3) (o : Nat → Int) (h1 : ∀ i, i < K → prim (nn i) ∧ Fac Q (fun q => q < N) (nn i) (o i)) (h2 : ∀ i j, i < j → j < K → ¬ (nn i = nn j ∧ o i = o j)) : K + 4 ≤ 2 * N := by
  have ex : ∀ i, i < K → ∃ t : Nat × Nat × Nat, T t.1 t.2.1 t.2.2 ∧ dt (nn i) (Q t.1) = o i ∧ dt (nn i) (Q t.2.1) = o i ∧ dt (nn i) (Q t.2.2) = o i := by
    intro i hi
    obtain ⟨v, a, b, t, hv⟩ := H.top (h1 i hi).2
    obtain ⟨x, y, t1, hx, hy, _, _⟩ := H.goOn_first (h1 i hi).2 t hv
    exact ⟨(v, x, y), t1, hv, hx, hy⟩
  have sp := fun i (hi : i < K) => Classical.epsilon_spec (ex i hi)
  refine H.countT gen3 hgen K (fun i => Classical.epsilon (fun t : Nat × Nat × Nat => T t.1 t.2.1 t.2.2 ∧ dt (nn i) (Q t.1) = o i ∧ dt (nn i) (Q t.2.1) = o i ∧ dt (nn i) (Q t.2.2) = o i)) (fun i hi => (sp i hi).1) (fun i j hij hj hr => ?_)
  obtain ⟨t1, a1, a2, a3⟩ := sp i (by omega)
  obtain ⟨t2, b1, b2, b3⟩ := sp j hj
  apply h2 i j hij hj
  generalize Classical.epsilon (fun t : Nat × Nat × Nat => T t.1 t.2.1 t.2.2 ∧ dt (nn i) (Q t.1) = o i ∧ dt (nn i) (Q t.2.1) = o i ∧ dt (nn i) (Q t.2.2) = o i) = p at *
  generalize Classical.epsilon (fun t : Nat × Nat × Nat => T t.1 t.2.1 t.2.2 ∧ dt (nn j) (Q t.1) = o j ∧ dt (nn j) (Q t.2.1) = o j ∧ dt (nn j) (Q t.2.2) = o j) = r at *
  obtain ⟨x, y, z⟩ := p
  obtain ⟨x', y', z'⟩ := r
  simp only [rot3, Prod.mk.injEq] at hr
  dsimp only at t1 a1 a2 a3 t2 b1 b2 b3
  have c : dt (nn j) (Q x) = o j ∧ dt (nn j) (Q y) = o j ∧ dt (nn j) (Q z) = o j := by
    rcases hr with ⟨rfl, rfl, rfl⟩ | ⟨rfl, rfl, rfl⟩ | ⟨rfl, rfl, rfl⟩
    · exact ⟨b1, b2, b3⟩
    · exact ⟨b3, b1, b2⟩
    · exact ⟨b2, b3, b1⟩
  exact H.fac_eq (h1 i (by omega)).2 (h1 j hj).2 (h1 i (by omega)).1 (h1 j hj).1 t1 a1 a2 a3 c.1 c.2.1 c.2.2
def bN (x : Int) : Prop := -2097152 ≤ x ∧ x ≤ 2097152
def bO (x : Int) : Prop := -3221225472 ≤ x ∧ x ≤ 3221225472
/-- the planes found so far -/
def GM (Q : Nat → V3) (N m : Nat) (a b c d : Nat → Int) : Prop := (∀ f, f < m → prim (a f, b f, c f) ∧ Fac Q (fun q => q < N) (a f, b f, c f) (d f) ∧ bN (a f) ∧ bN (b f) ∧ bN (c f) ∧ bO (d f)) ∧ ∀ i j, i < j → j < m → ¬ ((a i, b i, c i) = (a j, b j, c j) ∧ d i = d j)
theorem prim_neg {n : V3} (h : prim n) : prim (sm (-1) n) := by
  unfold prim sm at *
  dsimp only
  rw [show (-1) * n.1 = - n.1 by omega, show (-1) * n.2.1 = - n.2.1 by omega, show (-1) * n.2.2 = - n.2.2 by omega, Int.gcd_neg, Int.neg_gcd, Int.gcd_neg]
  exact h
variable {σ : Tab} {v : V3} {a b c d : Nat → Int} {N : Nat}
theorem f_tries {P : Int → Tab → Prop} {m : Nat} {x y z : Nat} (hN : N ≤ 24) (hheld : σ 0 23 0 7 = N) (hB : ∀ i, i < N → B93 (MP σ i)) (hinj : ∀ i j, i < N → j < N → MP σ i = MP σ j → i = j) (hsol : ∃ a b c d, a < N ∧ b < N ∧ c < N ∧ d < N ∧ VV (MP σ) a b c d ≠ 0) (hx : x < N) (hy : y < N) (hz : z < N) (hG : GM (MP σ) N m a b c d)
    (hP : ∀ (r : Int) (v' : V3) (m' : Nat) (a' b' c' d' : Nat → Int), GM (MP σ) N m' a' b' c' d' → m ≤ m' → (∀ f, f < m → a' f = a f ∧ b' f = b f ∧ c' f = c f ∧ d' f = d f) → (∀ n o, prim n → Fac (MP σ) (fun q => q < N) n o → dt n (MP σ x) = o → dt n (MP σ y) = o → dt n (MP σ z) = o → cr (sb (MP σ y) (MP σ x)) (sb (MP σ z) (MP σ x)) ≠ (0, 0, 0) → knw a' b' c' d' m' n o) → P r (MF σ v' m' a' b' c' d')) :
    wpX8_tries x y z (MF σ v m a b c d) P := by
  have gen : ∀ i j, i < N → j < N → dt gen3 (MP σ i) = dt gen3 (MP σ j) → i = j := by
    intro i j hi hj h
    obtain ⟨⟨a1, a2⟩, ⟨a3, a4⟩, a5, a6⟩ := hB i hi
    obtain ⟨⟨b1, b2⟩, ⟨b3, b4⟩, b5, b6⟩ := hB j hj
    apply hinj i j hi hj
    simp only [dt, gen3] at h
    refine Prod.ext ?_ (Prod.ext ?_ ?_) <;> omega
  have H : ∃ T, Hul (MP σ) N (fun q => q < N) T := by
    obtain ⟨p, q, r, s, h1, h2, h3, h4, h5⟩ := hsol
    exact Hul_ex hinj h1 h2 h3 h4 h5
  obtain ⟨T, H⟩ := H
  have hm : m + 4 ≤ 2 * N := capF H gen m (fun f => (a f, b f, c f)) d (fun i hi => ⟨(hG.1 i hi).1, (hG.1 i hi).2.1⟩) hG.2
  unfold wpX8_tries
  refine f_across (by omega) (by omega) (by omega) ?_
  rw [MF_t1, MF_t2, MF_t3]
  obtain ⟨t, ht⟩ : ∃ t, t = cr (sb (MP σ y) (MP σ x)) (sb (MP σ z) (MP σ x)) := ⟨_, rfl⟩
  rw [← ht]
  have tb : bN t.1 ∧ bN t.2.1 ∧ bN t.2.2 := by
    obtain ⟨⟨a1, a2⟩, ⟨a3, a4⟩, a5, a6⟩ := hB x hx
    obtain ⟨⟨b1, b2⟩, ⟨b3, b4⟩, b5, b6⟩ := hB y hy
    obtain ⟨⟨c1, c2⟩, ⟨c3, c4⟩, c5, c6⟩ := hB z hz
    rw [ht]
    simp only [cr, sb]
    generalize MP σ x = X at *
    generalize MP σ y = Y at *
    generalize MP σ z = Z at *
    have m1 := mul_bd (a := 1024) (b := 1024) (x := Y.2.1 - X.2.1) (y := Z.2.2 - X.2.2) (by omega) (by omega) (by decide)
    have m2 := mul_bd (a := 1024) (b := 1024) (x := Y.2.2 - X.2.2) (y := Z.2.1 - X.2.1) (by omega) (by omega) (by decide)
    have m3 := mul_bd (a := 1024) (b := 1024) (x := Y.2.2 - X.2.2) (y := Z.1 - X.1) (by omega) (by omega) (by decide)
    have m4 := mul_bd (a := 1024) (b := 1024) (x := Y.1 - X.1) (y := Z.2.2 - X.2.2) (by omega) (by omega) (by decide)
    have m5 := mul_bd (a := 1024) (b := 1024) (x := Y.1 - X.1) (y := Z.2.1 - X.2.1) (by omega) (by omega) (by decide)
    have m6 := mul_bd (a := 1024) (b := 1024) (x := Y.2.1 - X.2.1) (y := Z.1 - X.1) (by omega) (by omega) (by decide)
    unfold bN
    omega
  obtain ⟨tb1, tb2, tb3⟩ := tb
  unfold bN at tb1 tb2 tb3
  have il : ∀ w : Int, -2097152 ≤ w ∧ w ≤ 2097152 → inL w := fun w h => inL_sm ⟨by omega, by omega⟩
  -- nothing new
  have same : ∀ r v', (∀ n o, prim n → Fac (MP σ) (fun q => q < N) n o → dt n (MP σ x) = o → dt n (MP σ y) = o → dt n (MP σ z) = o → t ≠ (0, 0, 0) → knw a b c d m n o) → P r (MF σ v' m a b c d) := by
    intro r v' h
    refine hP r v' m a b c d hG (Nat.le_refl _) (fun f _ => ⟨rfl, rfl, rfl, rfl⟩) (fun n o h1 h2 h3 h4 h5 h6 => h n o h1 h2 h3 h4 h5 (by rw [ht]; exact h6))
  have main : t ≠ (0, 0, 0) → ∃ k, wlX8_tries_45 P k x 0 0 0 (MF σ t m a b c d) := by
    intro t0
    -- heights
    have hb : ∀ p, p < N → inL (dt t (sb (MP σ p) (MP σ x))) := by
      intro p hp
      obtain ⟨⟨a1, a2⟩, ⟨a3, a4⟩, a5, a6⟩ := hB x hx
      obtain ⟨⟨b1, b2⟩, ⟨b3, b4⟩, b5, b6⟩ := hB p hp
      simp only [dt, sb]
      have m1 := mul_bd (a := 2097152) (b := 1024) tb1 (y := (MP σ p).1 - (MP σ x).1) (by omega) (by decide)
      have m2 := mul_bd (a := 2097152) (b := 1024) tb2 (y := (MP σ p).2.1 - (MP σ x).2.1) (by omega) (by decide)
      have m3 := mul_bd (a := 2097152) (b := 1024) tb3 (y := (MP σ p).2.2 - (MP σ x).2.2) (by omega) (by decide)
      exact inL_sm ⟨by omega, by omega⟩
    have txyz : dt t (sb (MP σ y) (MP σ x)) = 0 ∧ dt t (sb (MP σ z) (MP σ x)) = 0 := by
      rw [ht]
      constructor
      · simp only [dt, cr]; grind
      · exact tp_self _ _
    -- a plane with these three points
    have par : ∀ n o, Fac (MP σ) (fun q => q < N) n o → dt n (MP σ x) = o → dt n (MP σ y) = o → dt n (MP σ z) = o → ∃ K : Int, K ≠ 0 ∧ ∀ w : V3, dt n n * dt t w = K * dt n w := by
      intro n o hF h1 h2 h3
      refine ⟨dt t n, ?_, fun w => ?_⟩
      · intro e
        apply t0
        rw [ht]
        refine perp_cr hF.1 (inp_perp h2 h1) (inp_perp h3 h1) ?_
        rw [ht] at e
        exact e
      · rw [ht]
        exact perp3 (inp_perp h2 h1) (inp_perp h3 h1) w
    have notflat : ∃ p, p < N ∧ dt t (sb (MP σ p) (MP σ x)) ≠ 0 := by
      by_cases q : ∃ p, p < N ∧ dt t (sb (MP σ p) (MP σ x)) ≠ 0
      · exact q
      · exfalso
        obtain ⟨i, j, k, l, h1, h2, h3, h4, h5⟩ := hsol
        apply h5
        refine flat_plane (m := t) t0 (o := dt t (MP σ x)) (fun w hw => ?_) h1 h2 h3 h4
        rcases Decidable.em (dt t (sb (MP σ w) (MP σ x)) = 0) with y | y
        · rw [dt_sb] at y; omega
        · exact absurd ⟨w, hw, y⟩ q
    -- the end with a sign
    have k139 : ∀ s : Int, (s = 1 ∨ s = -1) → (∀ p, p < N → s * dt t (sb (MP σ p) (MP σ x)) ≤ 0) → wlX8_tries_139 P x s (MF σ t m a b c d) := by
      intro s hs hside
      unfold wlX8_tries_139
      rw [MF_t1, MF_t2]
      refine f_common _ _ _ _ (by omega) (by omega) ?_
      have gb : (Int.gcd t.1 t.2.1 : Int) ≤ 4194304 := by
        by_cases h : t.1 = 0
        · rw [h, Int.zero_gcd]; omega
        · have := Int.gcd_le_natAbs_left t.2.1 h; omega
      rw [MF_t3]
      refine f_common _ _ _ _ (by omega) (by omega) ?_
      obtain ⟨G, hGd⟩ : ∃ G : Nat, G = Int.gcd (Int.gcd t.1 t.2.1 : Nat) t.2.2 := ⟨_, rfl⟩
      rw [← hGd]
      have G0 : G ≠ 0 := by
        intro e
        have := gcd3_zero (show Int.gcd (Int.gcd t.1 t.2.1 : Nat) t.2.2 = 0 by omega)
        apply t0
        exact Prod.ext this.1 (Prod.ext this.2.1 this.2.2)
      have gb2 : G ≤ 4194304 := by
        by_cases h : t.2.2 = 0
        · rw [hGd, h, Int.gcd_zero]; omega
        · have h2 := Int.gcd_le_natAbs_right ((Int.gcd t.1 t.2.1 : Nat) : Int) h; omega
      obtain ⟨rd1, rd2⟩ := red_ok hGd G0
      have sG : s * (G : Int) ≠ 0 := by rcases hs with rfl | rfl <;> omega
      have iG : inL (s * (G : Int)) := by rcases hs with rfl | rfl <;> exact inL_sm ⟨by omega, by omega⟩
      rw [MF_t1]
      refine ⟨il _ tb1, iG, sG, fun σ6 e6 => ?_⟩
      rw [e6, MF_st1, MF_t2]
      refine ⟨il _ tb2, iG, sG, fun σ10 e10 => ?_⟩
      rw [e10, MF_st2, MF_t3]
      refine ⟨il _ tb3, iG, sG, fun σ14 e14 => ⟨⟨by omega, by omega⟩, ?_⟩⟩
      rw [e14, MF_st3, MF_t1, MF_t2, MF_t3, Int.toNat_natCast]
      have r27 : ∀ v', MF σ v' m a b c d 0 27 0 = σ 0 27 0 := fun v' => MF_o (by decide) 0 0
      have r28 : ∀ v', MF σ v' m a b c d 0 28 0 = σ 0 28 0 := fun v' => MF_o (by decide) 0 0
      have r29 : ∀ v', MF σ v' m a b c d 0 29 0 = σ 0 29 0 := fun v' => MF_o (by decide) 0 0
      rw [r27, r28, r29]
      obtain ⟨n', hn'⟩ : ∃ n' : V3, n' = (t.1.tdiv (s * G), t.2.1.tdiv (s * G), t.2.2.tdiv (s * G)) := ⟨_, rfl⟩
      have en : n' = sm s (t.1.tdiv G, t.2.1.tdiv G, t.2.2.tdiv G) := by
        rw [hn']
        rcases hs with rfl | rfl
        · simp [sm]
        · simp only [sm]
          rw [show (-1 : Int) * (G : Int) = - (G : Int) by omega, Int.tdiv_neg, Int.tdiv_neg, Int.tdiv_neg, Int.neg_one_mul, Int.neg_one_mul, Int.neg_one_mul]
      have hpr : prim n' := by
        rw [en]
        rcases hs with rfl | rfl
        · rw [sm_one]; exact rd2
        · exact prim_neg rd2
      have hdt : ∀ w : V3, (G : Int) * dt n' w = s * dt t w := by
        intro w
        have e1 : dt t w = (G : Int) * dt (t.1.tdiv G, t.2.1.tdiv G, t.2.2.tdiv G) w := by
          rw [← sm_dt, rd1]
        rw [en, sm_dt, e1]
        grind
      have n'b : bN n'.1 ∧ bN n'.2.1 ∧ bN n'.2.2 := by
        have q : ∀ w : Int, -2097152 ≤ w ∧ w ≤ 2097152 → bN (w.tdiv (s * G)) := by
          intro w hw
          have h1 : (w.tdiv (s * G)).natAbs ≤ w.natAbs := by
            rw [Int.natAbs_tdiv]; exact Nat.div_le_self _ _
          unfold bN; omega
        rw [hn']
        exact ⟨q _ tb1, q _ tb2, q _ tb3⟩
      obtain ⟨nb1, nb2, nb3⟩ := n'b
      obtain ⟨o', ho'⟩ : ∃ o', o' = n'.1 * σ 0 27 0 x + n'.2.1 * σ 0 28 0 x + n'.2.2 * σ 0 29 0 x := ⟨_, rfl⟩
      have odt : dt n' (MP σ x) = o' := by rw [ho']; rfl
      have ob : bO o' := by
        obtain ⟨⟨a1, a2⟩, ⟨a3, a4⟩, a5, a6⟩ := hB x hx
        simp only [MP] at a1 a2 a3 a4 a5 a6
        have m1 := mul_bd (a := 2097152) (b := 512) nb1 (y := σ 0 27 0 x) (by omega) (by decide)
        have m2 := mul_bd (a := 2097152) (b := 512) nb2 (y := σ 0 28 0 x) (by omega) (by decide)
        have m3 := mul_bd (a := 2097152) (b := 512) nb3 (y := σ 0 29 0 x) (by omega) (by decide)
        unfold bO
        omega
      have sub : ∀ p, p < N → dt n' (MP σ p) ≤ o' := by
        intro p hp
        have h1 := hside p hp
        rw [← hdt, dt_sb] at h1
        rw [← odt]
        rcases Int.lt_or_le (dt n' (MP σ x)) (dt n' (MP σ p)) with w | w
        · have := Int.mul_pos (show (0:Int) < G by omega) (show 0 < dt n' (MP σ p) - dt n' (MP σ x) by omega)
          omega
        · exact w
      have onp : ∀ p, dt t (sb (MP σ p) (MP σ x)) = 0 → dt n' (MP σ p) = o' := by
        intro p hp
        have h1 := hdt (sb (MP σ p) (MP σ x))
        rw [hp, Int.mul_zero, dt_sb] at h1
        rcases Int.mul_eq_zero.mp h1 with w | w <;> omega
      have yo := onp y txyz.1
      have zo := onp z txyz.2
      have hF' : Fac (MP σ) (fun q => q < N) n' o' := by
        refine ⟨fun e => ?_, sub, x, y, z, ⟨hx, odt⟩, ⟨hy, yo⟩, ⟨hz, zo⟩, by rw [← ht]; exact t0⟩
        obtain ⟨p, hp, hp2⟩ := notflat
        have h1 := hdt (sb (MP σ p) (MP σ x))
        rw [e] at h1
        simp only [dt] at h1 hp2
        rcases hs with rfl | rfl <;> omega
      have uniq : ∀ n o, prim n → Fac (MP σ) (fun q => q < N) n o → dt n (MP σ x) = o → dt n (MP σ y) = o → dt n (MP σ z) = o → n = n' ∧ o = o' := by
        intro n o h1 h2 h3 h4 h5
        obtain ⟨p, hp, hp2⟩ := notflat
        refine plane_uniq h2 hF' h1 hpr h3 h4 h5 odt yo zo (by rw [← ht]; exact t0) hp (fun e => hp2 ?_)
        obtain ⟨K, hK, hk⟩ := par n o h2 h3 h4 h5
        have := hk (sb (MP σ p) (MP σ x))
        rw [dt_sb n, e, h3, Int.sub_self, Int.mul_zero] at this
        rcases Int.mul_eq_zero.mp this with w | w
        · have := dt_pos n h2.1; omega
        · exact w
      have rg : ∀ f, f < m → inL (a f) ∧ inL (b f) ∧ inL (c f) ∧ inL (d f) := by
        intro f hf
        obtain ⟨-, -, q1, q2, q3, q4⟩ := hG.1 f hf
        unfold bN at q1 q2 q3
        unfold bO at q4
        exact ⟨il _ q1, il _ q2, il _ q3, inL_sm ⟨by omega, by omega⟩⟩
      have io : inL o' := by unfold bO at ob; exact inL_sm ⟨by omega, by omega⟩
      rw [← hn']
      show wpX8_addFace (n'.1 * σ 0 27 0 x + n'.2.1 * σ 0 28 0 x + n'.2.2 * σ 0 29 0 x) (MF σ n' m a b c d) (fun σ16 => P 0 σ16)
      rw [← ho']
      refine f_addFace (by omega) ⟨il _ nb1, il _ nb2, il _ nb3⟩ io rg (fun hk => ?_) (fun hk => ⟨by omega, ?_⟩)
      · refine same 0 n' (fun n o h1 h2 h3 h4 h5 _ => ?_)
        obtain ⟨e1, e2⟩ := uniq n o h1 h2 h3 h4 h5
        rw [e1, e2]; exact hk
      · have old : ∀ f, f < m → upr a m n'.1 f = a f ∧ upr b m n'.2.1 f = b f ∧ upr c m n'.2.2 f = c f ∧ upr d m o' f = d f := by
          intro f hf
          unfold upr
          rw [if_neg (by omega), if_neg (by omega), if_neg (by omega), if_neg (by omega)]
          exact ⟨rfl, rfl, rfl, rfl⟩
        have nw : upr a m n'.1 m = n'.1 ∧ upr b m n'.2.1 m = n'.2.1 ∧ upr c m n'.2.2 m = n'.2.2 ∧ upr d m o' m = o' := by
          unfold upr
          rw [if_pos rfl, if_pos rfl, if_pos rfl, if_pos rfl]
          exact ⟨rfl, rfl, rfl, rfl⟩
        refine hP 0 n' (m + 1) _ _ _ _ ⟨fun f hf => ?_, fun i j hij hj => ?_⟩ (by omega) old (fun n o h1 h2 h3 h4 h5 _ => ?_)
        · by_cases e : f = m
          · subst e
            obtain ⟨w1, w2, w3, w4⟩ := nw
            rw [w1, w2, w3, w4]
            exact ⟨hpr, hF', nb1, nb2, nb3, ob⟩
          · obtain ⟨w1, w2, w3, w4⟩ := old f (by omega)
            rw [w1, w2, w3, w4]
            exact hG.1 f (by omega)
        · obtain ⟨w1, w2, w3, w4⟩ := old i (by omega)
          rw [w1, w2, w3, w4]
          by_cases e : j = m
          · subst e
            obtain ⟨u1, u2, u3, u4⟩ := nw
            rw [u1, u2, u3, u4]
            rintro ⟨q1, q2⟩
            simp only [Prod.mk.injEq] at q1
            exact hk ⟨i, hij, q1.1, q1.2.1, q1.2.2, q2⟩
          · obtain ⟨u1, u2, u3, u4⟩ := old j (by omega)
            rw [u1, u2, u3, u4]
            exact hG.2 i j hij (by omega)
        · obtain ⟨e1, e2⟩ := uniq n o h1 h2 h3 h4 h5
          rw [e1, e2]
          exact ⟨m, by omega, nw⟩
    have iN : inI (N : Int) := inI_sm ⟨by omega, by omega⟩
    have lp : ∀ (q p : Nat) (x4 x5 : Int), N - p = q → p ≤ N → (0 ≤ x4 ∧ x4 ≤ p) → (0 ≤ x5 ∧ x5 ≤ p) → (x4 = 0 ↔ ∀ i, i < p → dt t (sb (MP σ i) (MP σ x)) ≤ 0) → (x5 = 0 ↔ ∀ i, i < p → 0 ≤ dt t (sb (MP σ i) (MP σ x))) → wlX8_tries_45 P (q + 1) x x4 x5 p (MF σ t m a b c d) := by
      intro q
      induction q with
      | zero =>
        intro p x4 x5 e1 e2 e3 e4 e5 e6
        have ep : p = N := by omega
        subst ep
        have i4 : inI x4 := inI_sm ⟨by omega, by omega⟩
        have i5 : inI x5 := inI_sm ⟨by omega, by omega⟩
        unfold wlX8_tries_45
        rw [MF_h (by decide), hheld]
        have neg : ¬ x4 = 0 → x5 = 0 → ∀ p', p' < p → (-1) * dt t (sb (MP σ p') (MP σ x)) ≤ 0 := fun _ h5 p' hp' => by have := e6.mp h5 p' hp'; omega
        have pos : x4 = 0 → ∀ p', p' < p → 1 * dt t (sb (MP σ p') (MP σ x)) ≤ 0 := fun h4 p' hp' => by have := e5.mp h4 p' hp'; omega
        have two : ¬ x4 = 0 → ¬ x5 = 0 → P 0 (MF σ t m a b c d) := by
          intro h4 h5
          refine same 0 t (fun n o h1 h2 h3 h4' h5' _ => ?_)
          exfalso
          obtain ⟨K, hK, hk⟩ := par n o h2 h3 h4' h5'
          have nn := dt_pos n h2.1
          rcases Int.lt_or_lt_of_ne hK with s | s
          · apply h5
            rw [e6]
            intro i hi
            have w := hk (sb (MP σ i) (MP σ x))
            have w2 : dt n (sb (MP σ i) (MP σ x)) ≤ 0 := by rw [dt_sb]; have := h2.2.1 i hi; omega
            have := Int.mul_nonneg_of_nonpos_of_nonpos (Int.le_of_lt s) w2
            exact nonneg_of_mul nn (by omega)
          · apply h4
            rw [e5]
            intro i hi
            have w := hk (sb (MP σ i) (MP σ x))
            have w2 : dt n (sb (MP σ i) (MP σ x)) ≤ 0 := by rw [dt_sb]; have := h2.2.1 i hi; omega
            have := Int.mul_nonpos_of_nonneg_of_nonpos (Int.le_of_lt s) w2
            rcases Int.lt_or_le 0 (dt t (sb (MP σ i) (MP σ x))) with y | y
            · have := Int.mul_pos nn y; omega
            · exact y
        have k117 : (¬ x4 = 0 ∨ ¬ x5 = 0) → wlX8_tries_117 P x x4 x5 (MF σ t m a b c d) := by
          intro hne
          unfold wlX8_tries_117
          refine ⟨i4, fun h => ⟨fun w => absurd h w, fun _ => k139 1 (Or.inl rfl) (pos h)⟩, fun h => ⟨i5, fun w => two h w, fun w => ⟨fun _ => k139 (-1) (Or.inr rfl) (neg h (Decidable.of_not_not w)), fun w' => absurd h w'⟩⟩⟩
        refine ⟨iN, iN, fun _ => ⟨i4, fun h => k117 (Or.inl h), fun h => ⟨i5, fun w => k117 (Or.inr w), fun w => ?_⟩⟩, fun z => by omega⟩
        exfalso
        obtain ⟨p', hp', hne⟩ := notflat
        have w1 := e5.mp (Decidable.of_not_not h) p' hp'
        have w2 := e6.mp (Decidable.of_not_not w) p' hp'
        omega
      | succ q ih =>
        intro p x4 x5 e1 e2 e3 e4 e5 e6
        unfold wlX8_tries_45
        rw [MF_h (by decide), hheld]
        refine ⟨inI_sm ⟨by omega, by omega⟩, iN, fun z => by omega, fun _ => ?_⟩
        refine f_above8 (by omega) (by omega) ?_
        have hd := hb p (by omega)
        have go : ∀ y0 : Int, (y0 = if 0 < dt t (sb (MP σ p) (MP σ x)) then x4 + 1 else x4) → wlX8_tries_79 P (fun x1 x4 x5 x6 τ => wlX8_tries_45 P (q + 1) x1 x4 x5 x6 τ) x x5 p (dt t (sb (MP σ p) (MP σ x))) y0 (MF σ t m a b c d) := by
          intro y0 hy0
          unfold wlX8_tries_79
          rw [ic]
          have q4 : (0 ≤ y0 ∧ y0 ≤ ((p + 1 : Nat) : Int)) ∧ (y0 = 0 ↔ ∀ i, i < p + 1 → dt t (sb (MP σ i) (MP σ x)) ≤ 0) := by
            rw [hy0]
            split
            · rename_i hpos
              refine ⟨by omega, fun z => by omega, fun z => ?_⟩
              have := z p (by omega); omega
            · rename_i hpos
              refine ⟨by omega, ?_⟩
              rw [e5]
              constructor
              · intro z i hi
                by_cases e : i = p
                · subst e; omega
                · exact z i (by omega)
              · intro z i hi; exact z i (by omega)
          refine ⟨hd, fun z => ?_, fun z => ?_⟩
          · refine ih (p + 1) y0 x5 (by omega) (by omega) q4.1 (by omega) q4.2 ?_
            rw [e6]
            constructor
            · intro w i hi
              by_cases e : i = p
              · subst e; exact z
              · exact w i (by omega)
            · intro w i hi; exact w i (by omega)
          · refine ih (p + 1) y0 (x5 + 1) (by omega) (by omega) q4.1 (by omega) q4.2 ⟨fun w => by omega, fun w => ?_⟩
            have := w p (by omega); omega
        refine ⟨hd, fun z => go x4 (by rw [if_neg (by omega)]), fun z => go (x4 + 1) (by rw [if_pos (by omega)])⟩
    exact ⟨_, lp _ 0 0 0 rfl (by omega) (by omega) (by omega) ⟨fun _ i hi => absurd hi (Nat.not_lt_zero _), fun _ => rfl⟩ ⟨fun _ i hi => absurd hi (Nat.not_lt_zero _), fun _ => rfl⟩⟩
  refine ⟨il _ tb1, fun h => main (fun e => h (by rw [e])), fun h1 => ⟨il _ tb2, fun h => main (fun e => h (by rw [e])), fun h2 => ⟨il _ tb3, fun h => main (fun e => h (by rw [e])), fun h3 => same 0 t (fun n o _ _ _ _ _ hne => ?_)⟩⟩⟩
  exact absurd (Prod.ext (Decidable.of_not_not h1) (Prod.ext (Decidable.of_not_not h2) (Decidable.of_not_not h3))) hne
end FS

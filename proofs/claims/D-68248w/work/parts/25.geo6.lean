/-! GEOMETRY 6: how many triangles and edges; a hull there is -/
section Geo6
variable {P : Nat → V3} {N : Nat} {S : Nat → Prop} {tri : Nat → Nat → Nat → Prop} {n : V3} {c : Int}
/-- angles in a face at a vertex, as slopes u/w -/
theorem Hul.slp (H : Hul P N S tri) (hF : Fac P S n c) {v a0 b0 : Nat} (h0 : tri v a0 b0) (hv : dt n (P v) = c) :
    ∃ (u w : Nat → Int) (G : Int), 0 < G ∧ (∀ a, S a → a ≠ v → dt n (P a) = c → 0 < w a) ∧ ∀ a b, G * LL P n v a b = w a * u b - u a * w b := by
  obtain ⟨h, hh⟩ := H.ext h0
  have nn := dt_pos n hF.1
  obtain ⟨g, hg⟩ : ∃ g : V3, g = ad3 (sm (-(dt n n)) h) (sm (dt h n) n) := ⟨_, rfl⟩
  have gn : dt g n = 0 := by rw [hg, ad_dt, sm_dt, sm_dt]; grind
  have ga : ∀ a, S a → a ≠ v → dt n (P a) = c → 0 < dt g (sb (P a) (P v)) := by
    intro a sa av hc
    rw [hg, ad_dt, sm_dt, sm_dt, dt_sb n, hc, hv, Int.sub_self, Int.mul_zero, Int.add_zero, dt_sb]
    have := hh a sa av
    exact Int.mul_pos_of_neg_of_neg (by omega) (by omega)
  obtain ⟨x, y, h1, h2, _⟩ := H.first hF h0 hv
  have gg : 0 < dt g g := by
    apply dt_pos
    intro e
    have := ga x (H.mem (H.rot h1)) (Ne.symm (H.ne h1)) h2
    rw [e] at this
    simp [dt] at this
  refine ⟨fun a => dt (cr n g) (sb (P a) (P v)), fun a => dt g (sb (P a) (P v)), dt g g, gg, ga, fun a b => ?_⟩
  have h2 := slope_id g n (sb (P a) (P v)) (sb (P b) (P v))
  rw [gn, Int.zero_mul, Int.sub_zero] at h2
  exact h2
theorem pos_of_mul {G x : Int} (hG : 0 < G) (h : 0 < G * x) : 0 < x := by
  rcases Int.lt_or_le 0 x with z | z
  · exact z
  · have := Int.mul_nonpos_of_nonneg_of_nonpos (Int.le_of_lt hG) z; omega
theorem nonneg_of_mul {G x : Int} (hG : 0 < G) (h : 0 ≤ G * x) : 0 ≤ x := by
  rcases Int.lt_or_le x 0 with z | z
  · have := Int.mul_neg_of_pos_of_neg hG z; omega
  · exact z
theorem Hul.tp0 (hF : Fac P S n c) {v y z x : Nat} (hv : dt n (P v) = c) (hy : dt n (P y) = c) (hz : dt n (P z) = c) (hx : dt n (P x) = c) : tp (sb (P y) (P v)) (sb (P z) (P v)) (sb (P x) (P v)) = 0 := by
  have e := perp3 (inp_perp hy hv) (inp_perp hz hv) (sb (P x) (P v))
  have k2 : dt n (sb (P x) (P v)) = 0 := by rw [dt_sb]; omega
  rw [k2, Int.mul_zero] at e
  rcases Int.mul_eq_zero.mp e with y | y
  · have := dt_pos n hF.1; omega
  · exact y
/-- no neighbour lies inside a triangle's angle -/
theorem Hul.no_inside (H : Hul P N S tri) (hF : Fac P S n c) {v : Nat} (hv : dt n (P v) = c) {x y z : Nat} (tx : ∃ b, tri v x b) (hx : dt n (P x) = c) (t : tri v y z) (hy : dt n (P y) = c) (hz : dt n (P z) = c) (l1 : 0 < LL P n v y x) (l2 : 0 < LL P n v x z) : False := by
  obtain ⟨u, w, G, hG, hw, hL⟩ := H.slp hF t hv
  have hwn : ∀ a, (∃ b, tri v a b) → dt n (P a) = c → 0 < w a := fun a ⟨b, h⟩ hc => hw a (H.mem (H.rot h)) (Ne.symm (H.ne h)) hc
  obtain ⟨x0, ⟨tx0, hx0, y0, z0, t0, hy0, hz0, m1, m2⟩, hmin⟩ := low_slope u w (fun x => (∃ b, tri v x b) ∧ dt n (P x) = c ∧ ∃ y z, tri v y z ∧ dt n (P y) = c ∧ dt n (P z) = c ∧ 0 < LL P n v y x ∧ 0 < LL P n v x z) N
    (fun a ⟨⟨b, h⟩, _⟩ => H.bd (H.mem (H.rot h))) (fun a h => hwn a h.1 h.2.1) ⟨x, tx, hx, y, z, t, hy, hz, l1, l2⟩
  have hmin2 : ∀ b, ((∃ d, tri v b d) ∧ dt n (P b) = c ∧ ∃ y z, tri v y z ∧ dt n (P y) = c ∧ dt n (P z) = c ∧ 0 < LL P n v y b ∧ 0 < LL P n v b z) → 0 ≤ LL P n v x0 b := by
    intro b hb
    have h1 := hmin b hb
    apply nonneg_of_mul hG
    rw [hL]
    have := Int.mul_comm (w x0) (u b)
    omega
  -- the one ahead of x0
  obtain ⟨b, tb⟩ := tx0
  obtain ⟨r, tr0⟩ := H.twin tb
  have tr := H.rot tr0
  have sr := H.mem (H.rot tr)
  -- it is in the plane
  have hr : dt n (P r) = c := by
    obtain ⟨m, hm⟩ : ∃ m : V3, m = cr (sb (P r) (P v)) (sb (P x0) (P v)) := ⟨_, rfl⟩
    have my : dt m (sb (P y0) (P v)) ≤ 0 := by rw [hm]; exact H.supp tr (H.mem (H.rot t0))
    have mz : dt m (sb (P z0) (P v)) ≤ 0 := by rw [hm]; exact H.supp tr (H.mem (H.rot2 t0))
    have mx : dt m (sb (P x0) (P v)) = 0 := by rw [hm]; exact tp_self _ _
    have mr : dt m (sb (P r) (P v)) = 0 := by rw [hm]; simp only [dt, cr]; grind
    have e1 := four_id (sb (P y0) (P v)) (sb (P z0) (P v)) (sb (P x0) (P v)) n m
    rw [mx, Int.mul_zero, Hul.tp0 hF hv hy0 hz0 hx0, Int.zero_mul, Int.add_zero] at e1
    have a1 : tp (sb (P x0) (P v)) (sb (P z0) (P v)) n * dt m (sb (P y0) (P v)) ≤ 0 := Int.mul_nonpos_of_nonneg_of_nonpos (Int.le_of_lt m2) my
    have a2 : tp (sb (P y0) (P v)) (sb (P x0) (P v)) n * dt m (sb (P z0) (P v)) ≤ 0 := Int.mul_nonpos_of_nonneg_of_nonpos (Int.le_of_lt m1) mz
    have m2' : 0 < tp (sb (P x0) (P v)) (sb (P z0) (P v)) n := m2
    have m1' : 0 < tp (sb (P y0) (P v)) (sb (P x0) (P v)) n := m1
    have b1 : dt m (sb (P y0) (P v)) = 0 := by
      have : tp (sb (P x0) (P v)) (sb (P z0) (P v)) n * dt m (sb (P y0) (P v)) = 0 := by omega
      rcases Int.mul_eq_zero.mp this with q | q <;> omega
    have b2 : dt m (sb (P z0) (P v)) = 0 := by
      have : tp (sb (P y0) (P v)) (sb (P x0) (P v)) n * dt m (sb (P z0) (P v)) = 0 := by omega
      rcases Int.mul_eq_zero.mp this with q | q <;> omega
    have e2 : ∀ q : V3, tp (sb (P y0) (P v)) (sb (P z0) (P v)) n * dt m q = tp (sb (P y0) (P v)) (sb (P z0) (P v)) q * dt m n := by
      intro q
      have e3 := four_id (sb (P y0) (P v)) (sb (P z0) (P v)) q n m
      rw [b1, b2, Int.mul_zero, Int.mul_zero] at e3
      omega
    have oy := orient H hF t0 hv hy0 hz0
    have mm : m ≠ (0, 0, 0) := by
      intro e
      obtain ⟨q, q1, q2⟩ := H.str tr
      have : dt m (sb (P q) (P v)) < 0 := by rw [hm]; exact q2
      rw [e] at this
      simp [dt] at this
    have mn : dt m n ≠ 0 := by
      intro e
      have e3 := e2 m
      rw [e, Int.mul_zero] at e3
      have := dt_pos m mm
      rcases Int.mul_eq_zero.mp e3 with q | q <;> omega
    have e4 := e2 (sb (P r) (P v))
    rw [mr, Int.mul_zero] at e4
    have e5 : tp (sb (P y0) (P v)) (sb (P z0) (P v)) (sb (P r) (P v)) = 0 := by
      rcases Int.mul_eq_zero.mp e4.symm with q | q
      · exact q
      · exact absurd q mn
    have e6 := perp3 (inp_perp hy0 hv) (inp_perp hz0 hv) (sb (P r) (P v))
    rw [e5, Int.mul_zero] at e6
    have e7 : dt n (sb (P r) (P v)) = 0 := by
      rcases Int.mul_eq_zero.mp e6.symm with q | q
      · omega
      · exact q
    rw [dt_sb] at e7
    omega
  have lr : 0 < LL P n v r x0 := orient H hF tr hv hr hx0
  have wr : 0 < w r := hwn r ⟨_, tr⟩ hr
  have wx : 0 < w x0 := hwn x0 ⟨_, tb⟩ hx0
  have wz : 0 < w z0 := by
    obtain ⟨q, tq⟩ := H.twin (H.rot2 t0)
    exact hwn z0 ⟨q, tq⟩ hz0
  rcases Int.lt_trichotomy (LL P n v y0 r) 0 with q | q | q
  · have h1 := LL_as P n v y0 r
    have h2 := hmin2 y0 ⟨⟨_, t0⟩, hy0, r, x0, tr, hr, hx0, by omega, m1⟩
    have h3 := LL_as P n v y0 x0
    omega
  · by_cases e : y0 = r
    · subst e
      have e2 := H.uniq tr t0
      rw [e2, LL_s] at m2
      omega
    · refine H.ncol (a := v) (b := y0) (c := r) ⟨_, _, tr⟩ ⟨_, _, H.rot t0⟩ ⟨_, _, H.rot tr⟩ (H.ne t0) (H.ne tr) e ?_
      exact perp_cr hF.1 (inp_perp hy0 hv) (inp_perp hr hv) q
  · have h1 : u r * w x0 < u x0 * w r := by
      have := hL r x0
      have h2 := Int.mul_pos hG lr
      have h3 := Int.mul_comm (w r) (u x0)
      omega
    have h2 : u x0 * w z0 < u z0 * w x0 := by
      have := hL x0 z0
      have h2 := Int.mul_pos hG m2
      have h3 := Int.mul_comm (w x0) (u z0)
      omega
    have h3 := slope_tr wz wx wr h2 h1
    have h4 : 0 < LL P n v r z0 := by
      apply pos_of_mul hG
      rw [hL]
      have := Int.mul_comm (w r) (u z0)
      omega
    have h5 := hmin2 r ⟨⟨_, tr⟩, hr, y0, z0, t0, hy0, hz0, q, h4⟩
    have h6 := LL_as P n v r x0
    omega
/-- at a vertex one triangle at most goes up through its height -/
theorem Hul.mid_uniq (H : Hul P N S tri) (f : V3) {v a b a' b' : Nat} (t : tri v a b) (t' : tri v a' b') (h1 : dt f (P a) < dt f (P v)) (h2 : dt f (P v) < dt f (P b)) (h1' : dt f (P a') < dt f (P v)) (h2' : dt f (P v) < dt f (P b')) : a = a' := by
  by_cases hne : a = a'
  · exact hne
  exfalso
  obtain ⟨a1, ha1⟩ : ∃ x : V3, x = sb (P a) (P v) := ⟨_, rfl⟩
  obtain ⟨b1, hb1⟩ : ∃ x : V3, x = sb (P b) (P v) := ⟨_, rfl⟩
  obtain ⟨a2, ha2⟩ : ∃ x : V3, x = sb (P a') (P v) := ⟨_, rfl⟩
  obtain ⟨b2, hb2⟩ : ∃ x : V3, x = sb (P b') (P v) := ⟨_, rfl⟩
  have f1 : dt f a1 < 0 := by rw [ha1, dt_sb]; omega
  have f2 : 0 < dt f b1 := by rw [hb1, dt_sb]; omega
  have f3 : dt f a2 < 0 := by rw [ha2, dt_sb]; omega
  have f4 : 0 < dt f b2 := by rw [hb2, dt_sb]; omega
  have s1 : tp a1 b1 a2 ≤ 0 := by rw [ha1, hb1, ha2]; exact H.supp t (H.mem (H.rot t'))
  have s2 : tp a1 b1 b2 ≤ 0 := by rw [ha1, hb1, hb2]; exact H.supp t (H.mem (H.rot2 t'))
  have s3 : tp a2 b2 a1 ≤ 0 := by rw [ha1, hb2, ha2]; exact H.supp t' (H.mem (H.rot t))
  have s4 : tp a2 b2 b1 ≤ 0 := by rw [ha2, hb1, hb2]; exact H.supp t' (H.mem (H.rot2 t))
  obtain ⟨r1, hr1⟩ : ∃ x : V3, x = ad3 (sm (dt f b1) a1) (sm (- dt f a1) b1) := ⟨_, rfl⟩
  obtain ⟨r2, hr2⟩ : ∃ x : V3, x = ad3 (sm (dt f b2) a2) (sm (- dt f a2) b2) := ⟨_, rfl⟩
  have z1 : dt r1 f = 0 := by rw [dt_comm, hr1, dt_ad, dt_sm, dt_sm]; grind
  have z2 : dt r2 f = 0 := by rw [dt_comm, hr2, dt_ad, dt_sm, dt_sm]; grind
  have k1 : tp a1 b1 r2 ≤ 0 := by
    rw [hr2, tp_ad, tp_sm, tp_sm]
    have := Int.mul_nonpos_of_nonneg_of_nonpos (Int.le_of_lt f4) s1
    have := Int.mul_nonpos_of_nonneg_of_nonpos (show 0 ≤ - dt f a2 by omega) s2
    omega
  have k2 : tp a2 b2 r1 ≤ 0 := by
    rw [hr1, tp_ad, tp_sm, tp_sm]
    have := Int.mul_nonpos_of_nonneg_of_nonpos (Int.le_of_lt f2) s3
    have := Int.mul_nonpos_of_nonneg_of_nonpos (show 0 ≤ - dt f a1 by omega) s4
    omega
  have lin : ∀ (x y r : V3) (k l : Int), k * tp x y r = - tp (ad3 (sm k x) (sm l y)) r y := by
    intro x y r k l
    simp only [tp, dt, cr, ad3, sm]; grind
  have e1 : dt f b1 * tp a1 b1 r2 = - tp r1 r2 b1 := by rw [hr1]; exact lin _ _ _ _ _
  have e2 : dt f b2 * tp a2 b2 r1 = - tp r2 r1 b2 := by rw [hr2]; exact lin _ _ _ _ _
  have p1 := perp3 z1 z2 b1
  have p2 := perp3 z1 z2 b2
  have sw : tp r2 r1 b2 = - tp r1 r2 b2 := by simp only [tp, dt, cr]; grind
  have ff : 0 < dt f f := by
    apply dt_pos
    intro e
    rw [e] at f1
    simp [dt] at f1
  have g1 := Int.mul_nonpos_of_nonneg_of_nonpos (Int.le_of_lt f2) k1
  have g2 := Int.mul_nonpos_of_nonneg_of_nonpos (Int.le_of_lt f4) k2
  have q1 : 0 ≤ tp r1 r2 f := by
    have : 0 ≤ tp r1 r2 f * dt f b1 := by rw [← p1]; exact Int.mul_nonneg (Int.le_of_lt ff) (by omega)
    rw [Int.mul_comm] at this
    exact nonneg_of_mul f2 this
  have q2 : tp r1 r2 f ≤ 0 := by
    have h : 0 ≤ dt f b2 * (- tp r1 r2 f) := by
      have h3 : dt f f * tp r1 r2 b2 ≤ 0 := Int.mul_nonpos_of_nonneg_of_nonpos (Int.le_of_lt ff) (by omega)
      have h4 : dt f b2 * (- tp r1 r2 f) = - (tp r1 r2 f * dt f b2) := by grind
      omega
    have := nonneg_of_mul f4 h
    omega
  have q3 : tp r1 r2 f = 0 := by omega
  have w1 : tp r1 r2 b1 = 0 := by
    rw [q3, Int.zero_mul] at p1
    rcases Int.mul_eq_zero.mp p1 with y | y <;> omega
  have w2 : tp a1 b1 r2 = 0 := by
    rw [w1] at e1
    rcases Int.mul_eq_zero.mp (show dt f b1 * tp a1 b1 r2 = 0 by omega) with y | y <;> omega
  rw [hr2, tp_ad, tp_sm, tp_sm] at w2
  have y1 := Int.mul_nonpos_of_nonneg_of_nonpos (Int.le_of_lt f4) s1
  have y2 := Int.mul_nonpos_of_nonneg_of_nonpos (show 0 ≤ - dt f a2 by omega) s2
  have c1 : tp a1 b1 a2 = 0 := by
    rcases Int.mul_eq_zero.mp (show dt f b2 * tp a1 b1 a2 = 0 by omega) with y | y <;> omega
  have c2 : tp a1 b1 b2 = 0 := by
    rcases Int.mul_eq_zero.mp (show - dt f a2 * tp a1 b1 b2 = 0 by omega) with y | y <;> omega
  obtain ⟨hF, hbp, -⟩ : Fac P S (cr a1 b1) (dt (cr a1 b1) (P v)) ∧ dt (cr a1 b1) (P a) = dt (cr a1 b1) (P v) ∧ dt (cr a1 b1) (P b) = dt (cr a1 b1) (P v) := H.fac_tri t (k := 1) (by decide) (by rw [ha1, hb1]; exact sm_one _)
  have hap : dt (cr a1 b1) (P b) = dt (cr a1 b1) (P v) := by
    have : tp a1 b1 b1 = 0 := tp_self _ _
    have e : tp a1 b1 b1 = dt (cr a1 b1) (P b) - dt (cr a1 b1) (P v) := by rw [← dt_sb, ← hb1]; rfl
    omega
  have ha'p : dt (cr a1 b1) (P a') = dt (cr a1 b1) (P v) := by
    have e : tp a1 b1 a2 = dt (cr a1 b1) (P a') - dt (cr a1 b1) (P v) := by rw [← dt_sb, ← ha2]; rfl
    omega
  have hb'p : dt (cr a1 b1) (P b') = dt (cr a1 b1) (P v) := by
    have e : tp a1 b1 b2 = dt (cr a1 b1) (P b') - dt (cr a1 b1) (P v) := by rw [← dt_sb, ← hb2]; rfl
    omega
  have o1 : 0 < tp a1 b1 (cr a1 b1) := by have := orient H hF t rfl hbp hap; rw [← ha1, ← hb1] at this; exact this
  have o2 : 0 < tp a2 b2 (cr a1 b1) := by have := orient H hF t' rfl ha'p hb'p; rw [← ha2, ← hb2] at this; exact this
  have L1 : LL P (cr a1 b1) v a a' = tp a1 a2 (cr a1 b1) := by rw [ha1, ha2]; rfl
  rcases Int.lt_trichotomy (LL P (cr a1 b1) v a a') 0 with q | q | q
  · -- a inside a' b'
    have id := four_id a2 b2 a1 (cr a1 b1) f
    have z0 : tp a2 b2 a1 = 0 := by rw [ha1, ha2, hb2]; exact Hul.tp0 hF rfl ha'p hb'p hbp
    rw [z0, Int.zero_mul, Int.add_zero] at id
    have i1 : tp a2 b2 (cr a1 b1) * dt f a1 < 0 := Int.mul_neg_of_pos_of_neg o2 f1
    have sw2 : tp a2 a1 (cr a1 b1) = - tp a1 a2 (cr a1 b1) := by simp only [tp, dt, cr]; grind
    have i2 : 0 < tp a2 a1 (cr a1 b1) * dt f b2 := Int.mul_pos (by omega) f4
    have i3 : 0 < tp a1 b2 (cr a1 b1) := by
      rcases Int.lt_or_le 0 (tp a1 b2 (cr a1 b1)) with y | y
      · exact y
      · have := Int.mul_nonneg_of_nonpos_of_nonpos y (Int.le_of_lt f3); omega
    exact H.no_inside hF (v := v) rfl (x := a) (y := a') (z := b') ⟨b, t⟩ hbp t' ha'p hb'p (by rw [LL_as]; omega) (by rw [show LL P (cr a1 b1) v a b' = tp a1 b2 (cr a1 b1) by rw [ha1, hb2]; rfl]; exact i3)
  · refine H.ncol (a := v) (b := a) (c := a') ⟨_, _, t⟩ ⟨_, _, H.rot t⟩ ⟨_, _, H.rot t'⟩ (H.ne t) (H.ne t') hne ?_
    exact perp_cr hF.1 (inp_perp hbp rfl) (inp_perp ha'p rfl) q
  · have id := four_id a1 b1 a2 (cr a1 b1) f
    rw [c1, Int.zero_mul, Int.add_zero] at id
    have i1 : tp a1 b1 (cr a1 b1) * dt f a2 < 0 := Int.mul_neg_of_pos_of_neg o1 f3
    have i2 : 0 < tp a1 a2 (cr a1 b1) * dt f b1 := Int.mul_pos (by omega) f2
    have i3 : 0 < tp a2 b1 (cr a1 b1) := by
      rcases Int.lt_or_le 0 (tp a2 b1 (cr a1 b1)) with y | y
      · exact y
      · have := Int.mul_nonneg_of_nonpos_of_nonpos y (Int.le_of_lt f1); omega
    exact H.no_inside hF (v := v) rfl (x := a') (y := a) (z := b) ⟨b', t'⟩ ha'p t hbp hap q (by rw [show LL P (cr a1 b1) v a' b = tp a2 b1 (cr a1 b1) by rw [ha2, hb1]; rfl]; exact i3)
end Geo6

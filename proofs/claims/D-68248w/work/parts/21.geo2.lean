/-! GEOMETRY 2: a closed convex surface of triangles; a point is added -/
section Geo2
def VV (P : Nat → V3) (a b c q : Nat) : Int := tp (sb (P b) (P a)) (sb (P c) (P a)) (sb (P q) (P a))
theorem VV_rot (P : Nat → V3) (a b c q : Nat) : VV P b c a q = VV P a b c q := by
  simp only [VV, tp, dt, cr, sb]; grind
theorem VV_sw (P : Nat → V3) (a b c q : Nat) : VV P b a c q = - VV P a b c q := by
  simp only [VV, tp, dt, cr, sb]; grind
theorem VV_as (P : Nat → V3) (a b c q : Nat) : VV P a b c q = - VV P a b q c := tp_swap _ _ _
theorem VV_s4 (P : Nat → V3) (a b c : Nat) : VV P a b c c = 0 := tp_self _ _
theorem VV_s1 (P : Nat → V3) (a b c : Nat) : VV P a b c a = 0 := by
  simp only [VV, tp, dt, cr, sb]; grind
theorem VV_s2 (P : Nat → V3) (a b c : Nat) : VV P a b c b = 0 := by
  simp only [VV, tp, dt, cr, sb]; grind
theorem VV_d1 (P : Nat → V3) (a c q : Nat) : VV P a a c q = 0 := by
  simp only [VV, tp, dt, cr, sb]; grind
theorem pluck (u c e p x : V3) : tp u c e * tp u p x = tp u c p * tp u e x - tp u c x * tp u e p := by
  simp only [tp, dt, cr]; grind
theorem perp_id (n x q y : V3) : dt n n * tp x q y - tp x q n * dt n y = tp n q y * dt x n - tp n x y * dt q n := by
  simp only [tp, dt, cr]; grind
theorem perp3 {n x q : V3} (h1 : dt x n = 0) (h2 : dt q n = 0) (y : V3) : dt n n * tp x q y = tp x q n * dt n y := by
  have e := perp_id n x q y
  rw [h1, h2] at e
  omega
theorem cr0_id (u w h k : V3) : dt h u * dt k w - dt h w * dt k u = dt (cr u w) (cr h k) := by
  simp only [dt, cr]; grind
theorem cr0_prop {u w : V3} (h0 : cr u w = (0, 0, 0)) (h k : V3) : dt h u * dt k w = dt h w * dt k u := by
  have e := cr0_id u w h k
  rw [h0] at e
  simp only [dt] at e ⊢
  omega
theorem cr_of_tp {u w : V3} (h : ∀ y, tp u w y = 0) : cr u w = (0, 0, 0) := by
  by_cases q : cr u w = (0, 0, 0)
  · exact q
  · exact absurd (h (cr u w)) (Int.ne_of_gt (dt_pos _ q))
def Hul (P : Nat → V3) (N : Nat) (S : Nat → Prop) (tri : Nat → Nat → Nat → Prop) : Prop :=
  (∀ a b c, tri a b c → tri b c a) ∧ (∀ a b c c', tri a b c → tri a b c' → c = c') ∧ (∀ a b c, tri a b c → ∃ d, tri b a d) ∧ (∀ a b c, tri a b c → S a) ∧
  (∀ a b c q, tri a b c → S q → VV P a b c q ≤ 0) ∧ (∀ a b c, tri a b c → ∃ q, S q ∧ VV P a b c q < 0) ∧
  (∀ a b c, tri a b c → ∃ h : V3, ∀ q, S q → q ≠ a → dt h (P q) < dt h (P a)) ∧ (∀ a, S a → a < N) ∧ (∃ a b c, tri a b c)
variable {P : Nat → V3} {N : Nat} {S : Nat → Prop} {tri : Nat → Nat → Nat → Prop}
theorem Hul.rot (H : Hul P N S tri) {a b c : Nat} (h : tri a b c) : tri b c a := H.1 _ _ _ h
theorem Hul.rot2 (H : Hul P N S tri) {a b c : Nat} (h : tri a b c) : tri c a b := H.1 _ _ _ (H.1 _ _ _ h)
theorem Hul.uniq (H : Hul P N S tri) {a b c c' : Nat} (h : tri a b c) (h' : tri a b c') : c = c' := H.2.1 _ _ _ _ h h'
theorem Hul.twin (H : Hul P N S tri) {a b c : Nat} (h : tri a b c) : ∃ d, tri b a d := H.2.2.1 _ _ _ h
theorem Hul.mem (H : Hul P N S tri) {a b c : Nat} (h : tri a b c) : S a := H.2.2.2.1 _ _ _ h
theorem Hul.supp (H : Hul P N S tri) {a b c : Nat} (h : tri a b c) {q : Nat} (hq : S q) : VV P a b c q ≤ 0 := H.2.2.2.2.1 _ _ _ _ h hq
theorem Hul.str (H : Hul P N S tri) {a b c : Nat} (h : tri a b c) : ∃ q, S q ∧ VV P a b c q < 0 := H.2.2.2.2.2.1 _ _ _ h
theorem Hul.ext (H : Hul P N S tri) {a b c : Nat} (h : tri a b c) : ∃ h : V3, ∀ q, S q → q ≠ a → dt h (P q) < dt h (P a) := H.2.2.2.2.2.2.1 _ _ _ h
theorem Hul.bd (H : Hul P N S tri) {a : Nat} (h : S a) : a < N := H.2.2.2.2.2.2.2.1 _ h
theorem Hul.non (H : Hul P N S tri) : ∃ a b c, tri a b c := H.2.2.2.2.2.2.2.2
theorem Hul.ne (H : Hul P N S tri) {a b c : Nat} (h : tri a b c) : a ≠ b := by
  intro e
  subst e
  obtain ⟨q, _, h2⟩ := H.str h
  rw [VV_d1] at h2
  omega
/-- the triangles around a vertex, in order -/
theorem Hul.orb (H : Hul P N S tri) {v a0 b0 : Nat} (h0 : tri v a0 b0) : ∃ (A : Nat → Nat) (m : Nat), 0 < m ∧ A 0 = a0 ∧ A m = a0 ∧ ∀ i, tri v (A i) (A (i + 1)) := by
  have fs : ∀ a, (∃ b, tri v a b) → tri v a (Classical.epsilon (fun b => tri v a b)) := fun a h => Classical.epsilon_spec h
  obtain ⟨m, h1, -, h2⟩ := orbit (f := fun a => Classical.epsilon (fun b => tri v a b)) (D := fun a => ∃ b, tri v a b) (N := N)
    (fun a ⟨b, h⟩ => H.bd (H.mem (H.rot h)))
    (fun a h => H.twin (H.rot2 (fs a h)))
    (fun a b ha hb e => by
      have h1 := H.rot2 (fs a ha)
      have h2 := H.rot2 (fs b hb)
      rw [e] at h1
      exact H.uniq h1 h2) ⟨b0, h0⟩
  refine ⟨fun i => itf (fun a => Classical.epsilon (fun b => tri v a b)) i a0, m, h1, rfl, h2, fun i => ?_⟩
  exact fs _ (itf_dom (D := fun a => ∃ b, tri v a b) (fun a h => H.twin (H.rot2 (fs a h))) ⟨b0, h0⟩ i)
theorem Hul.fig (H : Hul P N S tri) {v a0 b0 : Nat} (h0 : tri v a0 b0) (d x : V3) (hd : ∀ a b, tri v a b → dt d (sb (P a) (P v)) ≤ 0)
    (hx : ∀ a b, tri v a b → tp (sb (P a) (P v)) (sb (P b) (P v)) x ≤ 0) : dt d x ≤ 0 := by
  obtain ⟨A, m, hm, e0, em, hA⟩ := H.orb h0
  obtain ⟨h, hh⟩ := H.ext h0
  have hn : ∀ q, S q → q ≠ v → dt h (sb (P q) (P v)) < 0 := fun q h1 h2 => by
    rw [dt_sb]
    have := hh q h1 h2
    omega
  have key : ∀ k, ∃ t : V3, (0 < k → dt h t < 0) ∧ dt h t ≤ 0 ∧ (∀ i, tp (sb (P (A i)) (P v)) (sb (P (A (i + 1))) (P v)) t ≤ 0) ∧ ∀ i, i < k → tp (sb (P (A i)) (P v)) (sb (P (A (i + 1))) (P v)) t < 0 := by
    intro k
    induction k with
    | zero => exact ⟨(0, 0, 0), fun h => absurd h (Nat.lt_irrefl _), by simp [dt], fun i => by simp [tp, dt], fun i h => absurd h (Nat.not_lt_zero _)⟩
    | succ k ih =>
      obtain ⟨t, i1, i2, i3, i4⟩ := ih
      obtain ⟨q, q1, q2⟩ := H.str (hA k)
      have qv : q ≠ v := by
        intro e
        rw [e, VV_s1] at q2
        omega
      have q3 := hn q q1 qv
      refine ⟨ad3 t (sb (P q) (P v)), fun _ => by rw [dt_ad]; omega, by rw [dt_ad]; omega, fun i => ?_, fun i hi => ?_⟩
      · rw [tp_ad]
        have h1 := i3 i
        have h2 : tp (sb (P (A i)) (P v)) (sb (P (A (i + 1))) (P v)) (sb (P q) (P v)) ≤ 0 := H.supp (hA i) q1
        omega
      · rw [tp_ad]
        have h1 := i3 i
        have h2 : tp (sb (P (A i)) (P v)) (sb (P (A (i + 1))) (P v)) (sb (P q) (P v)) ≤ 0 := H.supp (hA i) q1
        by_cases e : i = k
        · subst e
          have h3 : tp (sb (P (A i)) (P v)) (sb (P (A (i + 1))) (P v)) (sb (P q) (P v)) < 0 := q2
          omega
        · have h3 := i4 i (by omega)
          omega
  obtain ⟨t, t1, -, -, t4⟩ := key m
  refine cone_le (fun i => sb (P (A i)) (P v)) m hm (by rw [em, e0]) h t d x (fun i _ => ?_) (t1 hm) t4 (fun i _ => hd _ _ (hA i)) (fun i _ => hx _ _ (hA i))
  exact hn _ (H.mem (H.rot (hA i))) (Ne.symm (H.ne (hA i)))
theorem Hul.figS (H : Hul P N S tri) {v a0 b0 : Nat} (h0 : tri v a0 b0) (d x : V3) (hd : ∀ a b, tri v a b → dt d (sb (P a) (P v)) < 0)
    (hx : ∀ a b, tri v a b → tp (sb (P a) (P v)) (sb (P b) (P v)) x ≤ 0) (hne : x ≠ (0, 0, 0)) : dt d x < 0 := by
  obtain ⟨B, hB, hb⟩ := bnd (fun a => dt x (sb (P a) (P v))) N
  have h1 := H.fig h0 (ad3 (sm (B + 1) d) x) x (fun a b h => by
    rw [ad_dt, sm_dt]
    have h1 := hd a b h
    have h2 := hb a (H.bd (H.mem (H.rot h)))
    have h3 : (B + 1) * dt d (sb (P a) (P v)) ≤ (B + 1) * (-1) := Int.mul_le_mul_of_nonneg_left (by omega) (by omega)
    omega) hx
  rw [ad_dt, sm_dt] at h1
  have h2 := dt_pos x hne
  rcases Int.lt_or_le (dt d x) 0 with q | q
  · exact q
  · have := Int.mul_nonneg (show 0 ≤ B + 1 by omega) q
    omega
/-- what is highest among its neighbours is highest -/
theorem Hul.lg (H : Hul P N S tri) {v a0 b0 : Nat} (h0 : tri v a0 b0) (d : V3) (hd : ∀ a b, tri v a b → dt d (P a) ≤ dt d (P v)) {q : Nat} (hq : S q) : dt d (P q) ≤ dt d (P v) := by
  have h1 := H.fig h0 d (sb (P q) (P v)) (fun a b h => by rw [dt_sb]; have := hd a b h; omega) (fun a b h => H.supp h hq)
  rw [dt_sb] at h1
  omega
theorem ncol_alg {u w h1 h2 h3 : V3} (h0 : cr u w = (0, 0, 0)) (a1 : dt h1 u < 0) (a2 : dt h1 w < 0) (b1 : 0 < dt h2 u) (b2 : dt h2 w < dt h2 u) (c1 : 0 < dt h3 w) (c2 : dt h3 u < dt h3 w) : False := by
  have e1 := cr0_prop h0 h1 h2
  have e2 := cr0_prop h0 h1 h3
  have i1 : dt h1 u * dt h2 u < dt h1 u * dt h2 w := Int.mul_lt_mul_of_neg_left b2 a1
  have i2 : dt h1 w * dt h3 w < dt h1 w * dt h3 u := Int.mul_lt_mul_of_neg_left c2 a2
  rw [e1] at i1
  rw [← e2] at i2
  have j1 : dt h1 u < dt h1 w := Int.lt_of_mul_lt_mul_right i1 (Int.le_of_lt b1)
  have j2 : dt h1 w < dt h1 u := Int.lt_of_mul_lt_mul_right i2 (Int.le_of_lt c1)
  omega
def vtx (tri : Nat → Nat → Nat → Prop) (v : Nat) : Prop := ∃ a b, tri v a b
/-- no three vertices in a line -/
theorem Hul.ncol (H : Hul P N S tri) {a b c : Nat} (ha : vtx tri a) (hb : vtx tri b) (hc : vtx tri c) (ab : a ≠ b) (ac : a ≠ c) (bc : b ≠ c) : cr (sb (P b) (P a)) (sb (P c) (P a)) ≠ (0, 0, 0) := by
  intro h0
  obtain ⟨_, _, ta⟩ := ha
  obtain ⟨_, _, tb⟩ := hb
  obtain ⟨_, _, tc⟩ := hc
  obtain ⟨h1, e1⟩ := H.ext ta
  obtain ⟨h2, e2⟩ := H.ext tb
  obtain ⟨h3, e3⟩ := H.ext tc
  have a1 := e1 b (H.mem tb) (Ne.symm ab)
  have a2 := e1 c (H.mem tc) (Ne.symm ac)
  have b1 := e2 a (H.mem ta) ab
  have b2 := e2 c (H.mem tc) (Ne.symm bc)
  have c1 := e3 a (H.mem ta) ac
  have c2 := e3 b (H.mem tb) bc
  exact ncol_alg (h1 := h1) (h2 := h2) (h3 := h3) h0 (by rw [dt_sb]; omega) (by rw [dt_sb]; omega) (by rw [dt_sb]; omega) (by rw [dt_sb, dt_sb]; omega) (by rw [dt_sb]; omega) (by rw [dt_sb, dt_sb]; omega)
end Geo2

/-! GEOMETRY 3: adding a point -/
section Geo3
variable {P : Nat → V3} {N : Nat} {S : Nat → Prop} {tri : Nat → Nat → Nat → Prop} {p : Nat}
def rim (P : Nat → V3) (tri : Nat → Nat → Nat → Prop) (p a b : Nat) : Prop := (∃ c, tri a b c ∧ 0 ≤ VV P a b c p) ∧ ∃ e, tri b a e ∧ VV P b a e p < 0
theorem rim_supp (H : Hul P N S tri) {a b : Nat} (hr : rim P tri p a b) {x : Nat} (hx : S x) : VV P a b p x ≤ 0 := by
  obtain ⟨⟨c, t1, t2⟩, e, s1, s2⟩ := hr
  have pk : ∀ y : Nat, VV P a b c e * VV P a b p y = VV P a b c p * VV P a b e y - VV P a b c y * VV P a b e p := fun y => pluck _ _ _ _ _
  have ey : ∀ y : Nat, S y → 0 ≤ VV P a b e y := fun y hy => by
    have h1 := H.supp s1 hy
    rw [VV_sw] at h1
    omega
  have ep : 0 < VV P a b e p := by rw [VV_sw] at s2; omega
  have ce : VV P a b c e ≤ 0 := H.supp t1 (H.mem (H.rot2 s1))
  have ce : VV P a b c e < 0 := by
    rcases Int.lt_or_eq_of_le ce with q | q
    · exact q
    · exfalso
      obtain ⟨y, y1, y2⟩ := H.str t1
      have h1 := pk y
      rw [q, Int.zero_mul] at h1
      have h2 := Int.mul_nonneg t2 (ey y y1)
      have h3 := Int.mul_neg_of_neg_of_pos y2 ep
      omega
  rcases Int.lt_or_le 0 (VV P a b p x) with q | q
  · exfalso
    have h1 := pk x
    have h2 := Int.mul_nonneg t2 (ey x hx)
    have h3 : VV P a b c x * VV P a b e p ≤ 0 := Int.mul_nonpos_of_nonpos_of_nonneg (H.supp t1 hx) (Int.le_of_lt ep)
    have h4 := Int.mul_neg_of_neg_of_pos ce q
    omega
  · exact q
theorem rim_str {a b e : Nat} (s2 : VV P b a e p < 0) : VV P a b p e < 0 := by
  have e1 := VV_as P a b p e
  have e2 := VV_sw P a b e p
  omega
theorem par_id (u w y f k : V3) : dt (cr u y) f * dt k (cr w y) - dt (cr w y) f * dt k (cr u y) = - (tp u y w * dt y (cr f k)) := by
  simp only [tp, dt, cr]; grind
/-- two planes through one line that support what the other has -/
theorem alg_uniq {u w y f f2 : V3} (h1 : tp u y w ≤ 0) (h2 : tp w y u ≤ 0) (h3 : tp w y f ≤ 0) (h4 : tp u y f < 0) (h5 : tp w y f2 < 0) (h6 : 0 ≤ tp u f w) (h7 : 0 ≤ tp w f2 u) : cr u w = (0, 0, 0) := by
  have e1 : tp w y u = - tp u y w := by simp only [tp, dt, cr]; grind
  have z : tp u y w = 0 := by omega
  have z2 : tp w y u = 0 := by omega
  -- m = cr u y
  have m1 : dt u (cr u y) = 0 := by simp only [dt, cr]; grind
  have m2 : dt w (cr u y) = 0 := by rw [dt_comm]; exact z
  have n1 : dt w (cr w y) = 0 := by simp only [dt, cr]; grind
  have n2 : dt u (cr w y) = 0 := by rw [dt_comm]; exact z2
  have mm : 0 < dt (cr u y) (cr u y) := by
    apply dt_pos
    intro q
    have : dt (cr u y) f < 0 := h4
    rw [q] at this
    simp [dt] at this
  have nn : 0 < dt (cr w y) (cr w y) := by
    apply dt_pos
    intro q
    have : dt (cr w y) f2 < 0 := h5
    rw [q] at this
    simp [dt] at this
  have k1 := perp3 m1 m2 f
  have k2 := perp3 n1 n2 f2
  have g1 : tp u w f ≤ 0 := by rw [tp_swap]; omega
  have g2 : tp w u f2 ≤ 0 := by rw [tp_swap]; omega
  have l1 : 0 ≤ tp u w (cr u y) := by
    rcases Int.lt_or_le (tp u w (cr u y)) 0 with q | q
    · exfalso
      have a1 := Int.mul_nonpos_of_nonneg_of_nonpos (Int.le_of_lt mm) g1
      have a2 : 0 < tp u w (cr u y) * dt (cr u y) f := Int.mul_pos_of_neg_of_neg q h4
      omega
    · exact q
  have l2 : 0 ≤ tp w u (cr w y) := by
    rcases Int.lt_or_le (tp w u (cr w y)) 0 with q | q
    · exfalso
      have a1 := Int.mul_nonpos_of_nonneg_of_nonpos (Int.le_of_lt nn) g2
      have a2 : 0 < tp w u (cr w y) * dt (cr w y) f2 := Int.mul_pos_of_neg_of_neg q h5
      omega
    · exact q
  have par : dt (cr u y) f * tp u w (cr w y) = dt (cr w y) f * tp u w (cr u y) := by
    have e := par_id u w y f (cr u w)
    rw [z, Int.zero_mul] at e
    exact Int.sub_eq_zero.mp e
  have sw : tp w u (cr w y) = - tp u w (cr w y) := by simp only [tp, dt, cr]; grind
  have z3 : tp u w (cr w y) = 0 := by
    have a1 : dt (cr w y) f * tp u w (cr u y) ≤ 0 := Int.mul_nonpos_of_nonpos_of_nonneg h3 l1
    rcases Int.lt_or_eq_of_le (show tp u w (cr w y) ≤ 0 by omega) with q | q
    · have a2 : 0 < dt (cr u y) f * tp u w (cr w y) := Int.mul_pos_of_neg_of_neg h4 q
      omega
    · exact q
  apply cr_of_tp
  intro v
  have e := perp3 n2 n1 v
  rw [z3, Int.zero_mul] at e
  rcases Int.mul_eq_zero.mp e with q | q
  · omega
  · exact q
theorem rim_out (H : Hul P N S tri) {a b b' : Nat} (hr : rim P tri p a b) (hr' : rim P tri p a b') : b = b' := by
  by_cases hne : b = b'
  · exact hne
  · exfalso
    have q1 := fun {x : Nat} (hx : S x) => rim_supp H hr hx
    have q2 := fun {x : Nat} (hx : S x) => rim_supp H hr' hx
    obtain ⟨⟨c, t1, t2⟩, e, s1, s2⟩ := hr
    obtain ⟨⟨c', t1', t2'⟩, e', s1', s2'⟩ := hr'
    have hb : S b := H.mem (H.rot t1)
    have hb' : S b' := H.mem (H.rot t1')
    have k1 := H.supp s1 hb'
    have k2 := H.supp s1' hb
    rw [VV_sw] at k1 k2
    refine H.ncol ⟨_, _, t1⟩ ⟨_, _, H.rot t1⟩ ⟨_, _, H.rot t1'⟩ (H.ne t1) (H.ne t1') hne ?_
    exact alg_uniq (y := sb (P p) (P a)) (f := sb (P e) (P a)) (f2 := sb (P e') (P a)) (q1 hb') (q2 hb) (q2 (H.mem (H.rot2 s1))) (rim_str s2) (rim_str s2') (show 0 ≤ VV P a b e b' by omega) (show 0 ≤ VV P a b' e' b by omega)
theorem VV_neg (P : Nat → V3) (a b c q : Nat) : VV P a b c q = tp (sb (P b) (P a)) (sb (P b) (P c)) (sb (P b) (P q)) := by
  simp only [VV, tp, dt, cr, sb]; grind
theorem rim_in (H : Hul P N S tri) {a a' b : Nat} (hr : rim P tri p a b) (hr' : rim P tri p a' b) : a = a' := by
  by_cases hne : a = a'
  · exact hne
  · exfalso
    have q1 := fun x (hx : S x) => rim_supp H hr hx
    have q2 := fun x (hx : S x) => rim_supp H hr' hx
    obtain ⟨⟨c, t1, t2⟩, e, s1, s2⟩ := hr
    obtain ⟨⟨c', t1', t2'⟩, e', s1', s2'⟩ := hr'
    have ha : S a := H.mem t1
    have ha' : S a' := H.mem t1'
    have k1 := H.supp s1 ha'
    have k2 := H.supp s1' ha
    have r1 := rim_str s2
    have r2 := rim_str s2'
    have q1a := q1 a' ha'
    have q2a := q2 a ha
    have q2e := q2 e (H.mem (H.rot2 s1))
    rw [VV_sw, VV_neg] at k1 k2
    rw [VV_neg] at r1 r2 q1a q2a q2e
    refine H.ncol ⟨_, _, H.rot t1⟩ ⟨_, _, t1⟩ ⟨_, _, t1'⟩ (Ne.symm (H.ne t1)) (Ne.symm (H.ne t1')) hne ?_
    have h0 := alg_uniq (y := sb (P b) (P p)) (f := sb (P b) (P e)) (f2 := sb (P b) (P e')) q1a q2a q2e r1 r2 (by omega) (by omega)
    rw [← h0]
    simp only [cr, sb]
    refine Prod.ext ?_ (Prod.ext ?_ ?_) <;> dsimp only <;> grind
/-- from low to high there is a step up -/
theorem step_up (F : Nat → Prop) : ∀ m, F 0 → ¬ F m → ∃ i, i < m ∧ F i ∧ ¬ F (i + 1) := by
  intro m
  induction m with
  | zero => intro h1 h2; exact absurd h1 h2
  | succ m ih =>
    intro h1 h2
    by_cases q : F m
    · exact ⟨m, Nat.lt_succ_self _, q, h2⟩
    · obtain ⟨i, hi, h⟩ := ih h1 q
      exact ⟨i, by omega, h⟩
theorem rim_next (H : Hul P N S tri) {a b : Nat} (hr : rim P tri p a b) : ∃ x, rim P tri p b x := by
  obtain ⟨⟨c, t1, t2⟩, e, s1, s2⟩ := hr
  obtain ⟨A, m, hm, e0, em, hA⟩ := H.orb s1
  have hl : A (m - 1) = c := by
    have h1 := hA (m - 1)
    rw [show m - 1 + 1 = m by omega, em] at h1
    exact H.uniq (H.rot2 h1) t1
  have h1 : A 1 = e := by
    have h1 := hA 0
    rw [e0] at h1
    exact H.uniq h1 s1
  obtain ⟨i, hi, f1, f2⟩ := step_up (fun i => VV P b (A i) (A (i + 1)) p < 0) (m - 1) (by show VV P b (A 0) (A 1) p < 0; rw [e0, h1]; exact s2) (by
    rw [hl, show m - 1 + 1 = m by omega, em, VV_rot P a b c p]
    omega)
  refine ⟨A (i + 1), ⟨A (i + 1 + 1), hA (i + 1), by omega⟩, A i, H.rot2 (hA i), ?_⟩
  rw [← VV_rot]
  exact f1
theorem rim_prev (H : Hul P N S tri) {a b : Nat} (hr : rim P tri p a b) : ∃ x, rim P tri p x a := by
  obtain ⟨⟨c, t1, t2⟩, e, s1, s2⟩ := hr
  obtain ⟨A, m, hm, e0, em, hA⟩ := H.orb t1
  have hl : A (m - 1) = e := by
    have h1 := hA (m - 1)
    rw [show m - 1 + 1 = m by omega, em] at h1
    exact H.uniq (H.rot2 h1) s1
  have h1 : A 1 = c := by
    have h1 := hA 0
    rw [e0] at h1
    exact H.uniq h1 t1
  obtain ⟨i, hi, f1, f2⟩ := step_up (fun i => 0 ≤ VV P a (A i) (A (i + 1)) p) (m - 1) (by show 0 ≤ VV P a (A 0) (A 1) p; rw [e0, h1]; exact t2) (by
    rw [hl, show m - 1 + 1 = m by omega, em, VV_rot P b a e p]
    omega)
  refine ⟨A (i + 1), ⟨A i, H.rot2 (hA i), ?_⟩, A (i + 1 + 1), hA (i + 1), by omega⟩
  rw [← VV_rot]
  exact f1
/-- the triangles behind the addition -/
def triA (P : Nat → V3) (tri : Nat → Nat → Nat → Prop) (p a b c : Nat) : Prop := (tri a b c ∧ VV P a b c p < 0) ∨ (rim P tri p a b ∧ c = p) ∨ (rim P tri p b c ∧ a = p) ∨ (rim P tri p c a ∧ b = p)
theorem Hul.addOut (H : Hul P N S tri) (hN : p < N) (hp : ¬ S p) (hv : ∃ a b c, tri a b c ∧ 0 < VV P a b c p) : Hul P N (fun q => S q ∨ q = p) (triA P tri p) := by
  have ra : ∀ {a b}, rim P tri p a b → S a := fun ⟨⟨c, t, _⟩, _⟩ => H.mem t
  have rb : ∀ {a b}, rim P tri p a b → S b := fun ⟨⟨c, t, _⟩, _⟩ => H.mem (H.rot t)
  have old : ∀ {a b c}, tri a b c → VV P a b c p < 0 → ∃ h : V3, ∀ q, S q ∨ q = p → q ≠ a → dt h (P q) < dt h (P a) := by
    intro a b c t1 t2
    obtain ⟨h, hh⟩ := H.ext t1
    obtain ⟨n, hn⟩ : ∃ n : V3, n = cr (sb (P b) (P a)) (sb (P c) (P a)) := ⟨_, rfl⟩
    have nq : ∀ q, dt n (P q) - dt n (P a) = VV P a b c q := fun q => by rw [hn, ← dt_sb]; rfl
    obtain ⟨K, hK⟩ : ∃ K : Int, K = (if 0 ≤ dt h (P p) - dt h (P a) then dt h (P p) - dt h (P a) + 1 else 1) := ⟨_, rfl⟩
    have hK0 : 0 < K := by rw [hK]; split <;> omega
    have hK1 : dt h (P p) - dt h (P a) < K := by rw [hK]; split <;> omega
    refine ⟨ad3 h (sm K n), fun q hq hqa => ?_⟩
    rw [ad_dt, ad_dt, sm_dt, sm_dt]
    have e : K * dt n (P q) - K * dt n (P a) = K * VV P a b c q := by rw [← nq q, Int.mul_sub]
    rcases hq with hq | hq
    · have h1 := hh q hq hqa
      have h2 := Int.mul_nonpos_of_nonneg_of_nonpos (Int.le_of_lt hK0) (H.supp t1 hq)
      omega
    · subst hq
      have h3 : K * VV P a b c q ≤ K * (-1) := Int.mul_le_mul_of_nonneg_left (by omega) (Int.le_of_lt hK0)
      omega
  refine ⟨?_, ?_, ?_, ?_, ?_, ?_, ?_, ?_, ?_⟩
  · rintro a b c (⟨h1, h2⟩ | ⟨h1, h2⟩ | ⟨h1, h2⟩ | ⟨h1, h2⟩)
    · exact Or.inl ⟨H.rot h1, by rw [VV_rot]; exact h2⟩
    · exact Or.inr (Or.inr (Or.inr ⟨h1, h2⟩))
    · exact Or.inr (Or.inl ⟨h1, h2⟩)
    · exact Or.inr (Or.inr (Or.inl ⟨h1, h2⟩))
  · have st_rim : ∀ {a b c}, tri a b c → VV P a b c p < 0 → rim P tri p a b → False := by
      rintro a b c t1 t2 ⟨⟨c', u1, u2⟩, _⟩
      have := H.uniq t1 u1
      subst this
      omega
    rintro a b c c' (⟨h1, h2⟩ | ⟨h1, h2⟩ | ⟨h1, h2⟩ | ⟨h1, h2⟩) (⟨g1, g2⟩ | ⟨g1, g2⟩ | ⟨g1, g2⟩ | ⟨g1, g2⟩)
    · exact H.uniq h1 g1
    · exact (st_rim h1 h2 g1).elim
    · exact absurd (g2 ▸ H.mem h1) hp
    · exact absurd (g2 ▸ H.mem (H.rot h1)) hp
    · exact (st_rim g1 g2 h1).elim
    · rw [h2, g2]
    · exact absurd (g2 ▸ ra h1) hp
    · exact absurd (g2 ▸ rb h1) hp
    · exact absurd (h2 ▸ H.mem g1) hp
    · exact absurd (h2 ▸ ra g1) hp
    · exact rim_out H h1 g1
    · exact absurd (g2 ▸ ra h1) hp
    · exact absurd (h2 ▸ H.mem (H.rot g1)) hp
    · exact absurd (h2 ▸ rb g1) hp
    · exact absurd (h2 ▸ ra g1) hp
    · exact rim_in H h1 g1
  · rintro a b c (⟨h1, h2⟩ | ⟨h1, h2⟩ | ⟨h1, h2⟩ | ⟨h1, h2⟩)
    · obtain ⟨d, hd⟩ := H.twin h1
      rcases Int.lt_or_le (VV P b a d p) 0 with q | q
      · exact ⟨d, Or.inl ⟨hd, q⟩⟩
      · exact ⟨p, Or.inr (Or.inl ⟨⟨⟨d, hd, q⟩, c, h1, h2⟩, rfl⟩)⟩
    · obtain ⟨_, e, s1, s2⟩ := h1
      exact ⟨e, Or.inl ⟨s1, s2⟩⟩
    · obtain ⟨x, hx⟩ := rim_prev H h1
      exact ⟨x, Or.inr (Or.inr (Or.inr ⟨hx, h2⟩))⟩
    · obtain ⟨x, hx⟩ := rim_next H h1
      exact ⟨x, Or.inr (Or.inr (Or.inl ⟨hx, h2⟩))⟩
  · rintro a b c (⟨h1, h2⟩ | ⟨h1, h2⟩ | ⟨h1, h2⟩ | ⟨h1, h2⟩)
    · exact Or.inl (H.mem h1)
    · exact Or.inl (ra h1)
    · exact Or.inr h2
    · exact Or.inl (rb h1)
  · have key : ∀ a b q, rim P tri p a b → (S q ∨ q = p) → VV P a b p q ≤ 0 := by
      rintro a b q h1 (h2 | h2)
      · exact rim_supp H h1 h2
      · rw [h2, VV_s4]; exact Int.le_refl _
    rintro a b c q (⟨h1, h2⟩ | ⟨h1, h2⟩ | ⟨h1, h2⟩ | ⟨h1, h2⟩) hq
    · rcases hq with hq | hq
      · exact H.supp h1 hq
      · rw [hq]; omega
    · rw [h2]; exact key _ _ _ h1 hq
    · rw [h2, ← VV_rot]; exact key _ _ _ h1 hq
    · rw [h2, VV_rot]; exact key _ _ _ h1 hq
  · have key : ∀ a b, rim P tri p a b → ∃ q, (S q ∨ q = p) ∧ VV P a b p q < 0 := by
      rintro a b ⟨_, e, s1, s2⟩
      exact ⟨e, Or.inl (H.mem (H.rot2 s1)), rim_str s2⟩
    rintro a b c (⟨h1, h2⟩ | ⟨h1, h2⟩ | ⟨h1, h2⟩ | ⟨h1, h2⟩)
    · obtain ⟨q, q1, q2⟩ := H.str h1
      exact ⟨q, Or.inl q1, q2⟩
    · rw [h2]; exact key _ _ h1
    · obtain ⟨q, q1, q2⟩ := key _ _ h1
      exact ⟨q, q1, by rw [h2, ← VV_rot]; exact q2⟩
    · obtain ⟨q, q1, q2⟩ := key _ _ h1
      exact ⟨q, q1, by rw [h2, VV_rot]; exact q2⟩
  · rintro a b c (⟨h1, h2⟩ | ⟨h1, h2⟩ | ⟨h1, h2⟩ | ⟨h1, h2⟩)
    · exact old h1 h2
    · obtain ⟨_, e, s1, s2⟩ := h1
      exact old (H.rot s1) (by rw [VV_rot]; exact s2)
    · obtain ⟨x, y, z, t1, t2⟩ := hv
      refine ⟨cr (sb (P y) (P x)) (sb (P z) (P x)), fun q hq hqa => ?_⟩
      have nq : ∀ q, dt (cr (sb (P y) (P x)) (sb (P z) (P x))) (P q) - dt (cr (sb (P y) (P x)) (sb (P z) (P x))) (P x) = VV P x y z q := fun q => by rw [← dt_sb]; rfl
      rcases hq with hq | hq
      · have a1 := nq q
        have a2 := nq p
        have a3 := H.supp t1 hq
        rw [h2]
        omega
      · exact absurd (hq.trans h2.symm) hqa
    · obtain ⟨_, e, s1, s2⟩ := h1
      exact old s1 s2
  · rintro a (h | h)
    · exact H.bd h
    · rw [h]; exact hN
  · -- one stays
    obtain ⟨x, y, z, t1, t2⟩ := hv
    by_cases hs : ∃ a b c, tri a b c ∧ VV P a b c p < 0
    · obtain ⟨a, b, c, h⟩ := hs
      exact ⟨a, b, c, Or.inl h⟩
    · exfalso
      obtain ⟨n, hn⟩ : ∃ n : V3, n = cr (sb (P y) (P x)) (sb (P z) (P x)) := ⟨_, rfl⟩
      have nq : ∀ q, dt n (P q) - dt n (P x) = VV P x y z q := fun q => by rw [hn, ← dt_sb]; rfl
      obtain ⟨v, ⟨v1, v2, hv1⟩, hv2⟩ := top_of (fun a => - dt n (P a)) (fun a => ∃ b c, tri a b c) N (fun a ⟨b, c, h⟩ => H.bd (H.mem h)) ⟨x, y, z, t1⟩
      have h1 := H.fig hv1 (sm (-1) n) (sb (P v) (P p)) (fun a b h => by
        rw [sm_dt, dt_sb]
        have := hv2 a ⟨_, _, H.rot h⟩
        omega) (fun a b h => by
        rcases Int.lt_or_le (VV P v a b p) 0 with q | q
        · exact absurd ⟨v, a, b, h, q⟩ hs
        · have e : tp (sb (P a) (P v)) (sb (P b) (P v)) (sb (P v) (P p)) = - VV P v a b p := by
            simp only [VV, tp, dt, cr, sb]; grind
          omega)
      rw [sm_dt, dt_sb] at h1
      have h2 := hv2 x ⟨y, z, t1⟩
      have h3 := nq p
      omega
theorem Hul.addIn (H : Hul P N S tri) (hN : p < N) (hd : ∀ a b c, tri a b c → P p ≠ P a) (hv : ∀ a b c, tri a b c → VV P a b c p ≤ 0) : Hul P N (fun q => S q ∨ q = p) tri := by
  refine ⟨H.1, H.2.1, H.2.2.1, fun a b c h => Or.inl (H.mem h), ?_, ?_, ?_, ?_, H.non⟩
  · rintro a b c q h (hq | hq)
    · exact H.supp h hq
    · rw [hq]; exact hv a b c h
  · intro a b c h
    obtain ⟨q, q1, q2⟩ := H.str h
    exact ⟨q, Or.inl q1, q2⟩
  · intro a b c h
    obtain ⟨k, hk⟩ := H.ext h
    refine ⟨k, fun q hq hqa => ?_⟩
    rcases hq with hq | hq
    · exact hk q hq hqa
    · subst hq
      have h1 := H.figS h k (sb (P q) (P a)) (fun x y hxy => by
        rw [dt_sb]
        have := hk x (H.mem (H.rot hxy)) (Ne.symm (H.ne hxy))
        omega) (fun x y hxy => hv a x y hxy) (fun e => by
        apply hd a b c h
        simp only [sb, Prod.mk.injEq] at e
        refine Prod.ext ?_ (Prod.ext ?_ ?_) <;> omega)
      rw [dt_sb] at h1
      omega
  · rintro a (h | h)
    · exact H.bd h
    · rw [h]; exact hN
end Geo3

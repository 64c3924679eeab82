/-! GEOMETRY 7: counts; a first tetrahedron; a hull there is -/
section Geo7
variable {P : Nat → V3} {N : Nat} {S : Nat → Prop} {tri : Nat → Nat → Nat → Prop} {n : V3} {c : Int}
/-- an injection into M places that leaves L of them out -/
theorem pigeon_out (K L M : Nat) (f : Nat → Nat) (s : Nat → Nat) (hf : ∀ i, i < K → f i < M) (hi : ∀ i j, i < j → j < K → f i ≠ f j) (hs : ∀ i, i < L → s i < M) (hsi : ∀ i j, i < j → j < L → s i ≠ s j) (ho : ∀ i j, i < K → j < L → f i ≠ s j) : K + L ≤ M := by
  rcases Nat.lt_or_ge M (K + L) with q | q
  · exfalso
    obtain ⟨i, j, h1, h2, h3⟩ := pigeon M (fun i => if i < K then f i else s (i - K)) (by
      intro i hi
      split
      · exact hf _ (by assumption)
      · exact hs _ (by omega))
    by_cases a : i < K
    · by_cases b : j < K
      · rw [if_pos a, if_pos b] at h3
        exact hi i j h1 b h3
      · rw [if_pos a, if_neg b] at h3
        exact ho i (j - K) a (by omega) h3
    · have b : ¬ j < K := by omega
      rw [if_neg a, if_neg b] at h3
      exact hsi (i - K) (j - K) (by omega) (by omega) h3
  · exact q
/-- a directed edge by its triangle's middle corner, the sense, and its place in the triangle -/
def ecode (P : Nat → V3) (tri : Nat → Nat → Nat → Prop) (f : V3) (e : Nat × Nat) (m : Nat) : Prop := ∃ v x y t r, tri v x y ∧ m = 3 * (2 * v + t) + r ∧ ((t = 0 ∧ dt f (P x) < dt f (P v) ∧ dt f (P v) < dt f (P y)) ∨ (t = 1 ∧ dt f (P y) < dt f (P v) ∧ dt f (P v) < dt f (P x))) ∧ ((r = 0 ∧ e = (x, y)) ∨ (r = 1 ∧ e = (y, v)) ∨ (r = 2 ∧ e = (v, x)))
theorem Hul.ecode_ex (H : Hul P N S tri) (f : V3) (hf : ∀ a b, S a → S b → dt f (P a) = dt f (P b) → a = b) {a b d : Nat} (h : tri a b d) : ∃ m, ecode P tri f (a, b) m := by
  have ab : dt f (P a) ≠ dt f (P b) := fun e => H.ne h (hf _ _ (H.mem h) (H.mem (H.rot h)) e)
  have bd : dt f (P b) ≠ dt f (P d) := fun e => H.ne (H.rot h) (hf _ _ (H.mem (H.rot h)) (H.mem (H.rot2 h)) e)
  have da : dt f (P d) ≠ dt f (P a) := fun e => H.ne (H.rot2 h) (hf _ _ (H.mem (H.rot2 h)) (H.mem h) e)
  -- which one is the middle
  by_cases m1 : (dt f (P b) < dt f (P a) ∧ dt f (P a) < dt f (P d)) ∨ (dt f (P d) < dt f (P a) ∧ dt f (P a) < dt f (P b))
  · rcases m1 with q | q
    · exact ⟨_, a, b, d, 0, 2, h, rfl, Or.inl ⟨rfl, q⟩, Or.inr (Or.inr ⟨rfl, rfl⟩)⟩
    · exact ⟨_, a, b, d, 1, 2, h, rfl, Or.inr ⟨rfl, q⟩, Or.inr (Or.inr ⟨rfl, rfl⟩)⟩
  · by_cases m2 : (dt f (P d) < dt f (P b) ∧ dt f (P b) < dt f (P a)) ∨ (dt f (P a) < dt f (P b) ∧ dt f (P b) < dt f (P d))
    · rcases m2 with q | q
      · exact ⟨_, b, d, a, 0, 1, H.rot h, rfl, Or.inl ⟨rfl, q⟩, Or.inr (Or.inl ⟨rfl, rfl⟩)⟩
      · exact ⟨_, b, d, a, 1, 1, H.rot h, rfl, Or.inr ⟨rfl, q⟩, Or.inr (Or.inl ⟨rfl, rfl⟩)⟩
    · have q : (dt f (P a) < dt f (P d) ∧ dt f (P d) < dt f (P b)) ∨ (dt f (P b) < dt f (P d) ∧ dt f (P d) < dt f (P a)) := by omega
      rcases q with q | q
      · exact ⟨_, d, a, b, 0, 0, H.rot2 h, rfl, Or.inl ⟨rfl, q⟩, Or.inl ⟨rfl, rfl⟩⟩
      · exact ⟨_, d, a, b, 1, 0, H.rot2 h, rfl, Or.inr ⟨rfl, q⟩, Or.inl ⟨rfl, rfl⟩⟩
theorem Hul.ecode_inj (H : Hul P N S tri) (f : V3) {e e' : Nat × Nat} {m : Nat} (h : ecode P tri f e m) (h' : ecode P tri f e' m) : e = e' := by
  obtain ⟨v, x, y, t, r, t1, em, ht, hr⟩ := h
  obtain ⟨v', x', y', t', r', t1', em', ht', hr'⟩ := h'
  have hr3 : r < 3 := by omega
  have hr3' : r' < 3 := by omega
  have ht2 : t < 2 := by omega
  have ht2' : t' < 2 := by omega
  have er : r = r' := by omega
  have et : t = t' := by omega
  have ev : v = v' := by omega
  subst ev; subst et; subst er
  have ex : x = x' := by
    rcases ht with ⟨z, a1, a2⟩ | ⟨z, a1, a2⟩
    · rcases ht' with ⟨_, b1, b2⟩ | ⟨z', _⟩
      · exact H.mid_uniq f t1 t1' a1 a2 b1 b2
      · omega
    · rcases ht' with ⟨z', _⟩ | ⟨_, b1, b2⟩
      · omega
      · have k : ∀ q : V3, dt (sm (-1) f) q = - dt f q := fun q => by rw [sm_dt]; omega
        exact H.mid_uniq (sm (-1) f) t1 t1' (by rw [k, k]; omega) (by rw [k, k]; omega) (by rw [k, k]; omega) (by rw [k, k]; omega)
  subst ex
  have ey := H.uniq t1 t1'
  subst ey
  rcases hr with ⟨z, q⟩ | ⟨z, q⟩ | ⟨z, q⟩ <;> rcases hr' with ⟨z', q'⟩ | ⟨z', q'⟩ | ⟨z', q'⟩ <;> first | (rw [q, q']; done) | (exfalso; omega)
/-- how many directed edges -/
theorem Hul.countD (H : Hul P N S tri) (f : V3) (hf : ∀ a b, S a → S b → dt f (P a) = dt f (P b) → a = b) (K : Nat) (D : Nat → Nat × Nat) (hD : ∀ i, i < K → ∃ d, tri (D i).1 (D i).2 d) (hi : ∀ i j, i < j → j < K → D i ≠ D j) : K + 12 ≤ 6 * N := by
  have ex : ∀ i, i < K → ecode P tri f (D i) (Classical.epsilon (fun m => ecode P tri f (D i) m)) := fun i hi => by
    obtain ⟨d, hd⟩ := hD i hi
    exact Classical.epsilon_spec (H.ecode_ex f hf hd)
  obtain ⟨x, y, z, t⟩ := H.non
  obtain ⟨lo, ⟨l1, l2, hlo⟩, hlo2⟩ := top_of (fun a => - dt f (P a)) (fun a => ∃ b c, tri a b c) N (fun a ⟨b, c, h⟩ => H.bd (H.mem h)) ⟨x, y, z, t⟩
  obtain ⟨hi', ⟨h1, h2, hhi⟩, hhi2⟩ := top_of (fun a => dt f (P a)) (fun a => ∃ b c, tri a b c) N (fun a ⟨b, c, h⟩ => H.bd (H.mem h)) ⟨x, y, z, t⟩
  have lN := H.bd (H.mem hlo)
  have hN := H.bd (H.mem hhi)
  have lh : lo ≠ hi' := by
    intro e
    have e1 := hlo2 l1 ⟨_, _, H.rot hlo⟩
    have e2 := hhi2 l1 ⟨_, _, H.rot hlo⟩
    rw [← e] at e2
    exact H.ne hlo (hf _ _ (H.mem hlo) (H.mem (H.rot hlo)) (by omega))
  have mid : ∀ e m, ecode P tri f e m → m < 6 * N ∧ ¬ (6 * lo ≤ m ∧ m < 6 * lo + 6) ∧ ¬ (6 * hi' ≤ m ∧ m < 6 * hi' + 6) := by
    rintro e m ⟨v, x, y, t, r, t1, em, ht, hr⟩
    have hv := H.bd (H.mem t1)
    have hr3 : r < 3 := by omega
    have ht2 : t < 2 := by omega
    have vl : v ≠ lo := by
      intro q
      have a1 := hlo2 x ⟨_, _, H.rot t1⟩
      have a2 := hlo2 y ⟨_, _, H.rot2 t1⟩
      rw [← q] at a1 a2
      omega
    have vh : v ≠ hi' := by
      intro q
      have a1 := hhi2 x ⟨_, _, H.rot t1⟩
      have a2 := hhi2 y ⟨_, _, H.rot2 t1⟩
      rw [← q] at a1 a2
      omega
    refine ⟨by omega, by omega, by omega⟩
  refine pigeon_out K 12 (6 * N) (fun i => Classical.epsilon (fun m => ecode P tri f (D i) m)) (fun j => if j < 6 then 6 * lo + j else 6 * hi' + (j - 6)) (fun i h => (mid _ _ (ex i h)).1) (fun i j h1 h2 e => ?_) (fun j hj => by split <;> omega) (fun i j h1 h2 => by split <;> split <;> omega) (fun i j h1 h2 => ?_)
  · have a := ex i (by omega)
    have b := ex j h2
    rw [← e] at b
    exact hi i j h1 h2 (H.ecode_inj f a b)
  · have a := mid _ _ (ex i h1)
    split <;> omega
def rot3 (t t' : Nat × Nat × Nat) : Prop := t' = t ∨ t' = (t.2.1, t.2.2, t.1) ∨ t' = (t.2.2, t.1, t.2.1)
def dedge (t : Nat × Nat × Nat) (r : Nat) : Nat × Nat := match r with
  | 0 => (t.1, t.2.1)
  | 1 => (t.2.1, t.2.2)
  | _ => (t.2.2, t.1)
/-- how many triangles -/
theorem Hul.countT (H : Hul P N S tri) (f : V3) (hf : ∀ a b, S a → S b → dt f (P a) = dt f (P b) → a = b) (K : Nat) (T : Nat → Nat × Nat × Nat) (hT : ∀ i, i < K → tri (T i).1 (T i).2.1 (T i).2.2) (hi : ∀ i j, i < j → j < K → ¬ rot3 (T i) (T j)) : K + 4 ≤ 2 * N := by
  have key : ∀ i r, i < K → r < 3 → ∃ d, tri (dedge (T i) r).1 (dedge (T i) r).2 d ∧ rot3 (T i) ((dedge (T i) r).1, (dedge (T i) r).2, d) := by
    intro i r h hr
    have t := hT i h
    match r, hr with
    | 0, _ => exact ⟨_, t, Or.inl rfl⟩
    | 1, _ => exact ⟨_, H.rot t, Or.inr (Or.inl rfl)⟩
    | 2, _ => exact ⟨_, H.rot2 t, Or.inr (Or.inr rfl)⟩
  have tr : ∀ a b x : Nat × Nat × Nat, rot3 a x → rot3 b x → rot3 a b := by
    rintro ⟨a1, a2, a3⟩ ⟨b1, b2, b3⟩ ⟨x1, x2, x3⟩ h1 h2
    simp only [rot3, Prod.mk.injEq] at *
    omega
  have h := H.countD f hf (3 * K) (fun j => dedge (T (j / 3)) (j % 3)) (fun j hj => by
    obtain ⟨d, hd, _⟩ := key (j / 3) (j % 3) (by omega) (by omega)
    exact ⟨d, hd⟩) (fun i j hij hj e => by
    obtain ⟨d, hd, r1⟩ := key (i / 3) (i % 3) (by omega) (by omega)
    obtain ⟨d', hd', r2⟩ := key (j / 3) (j % 3) (by omega) (by omega)
    rw [← e] at hd' r2
    have := H.uniq hd hd'
    subst this
    by_cases q : i / 3 = j / 3
    · -- the same triangle: two places of it
      rw [← q] at e
      have t := hT (i / 3) (by omega)
      have n1 := H.ne t
      have n2 := H.ne (H.rot t)
      have n3 := H.ne (H.rot2 t)
      have c1 : i % 3 < 3 := Nat.mod_lt _ (by decide)
      have c2 : j % 3 < 3 := Nat.mod_lt _ (by decide)
      have c3 : i % 3 < j % 3 := by omega
      generalize i % 3 = ri at *
      generalize j % 3 = rj at *
      have cs : (ri = 0 ∧ rj = 1) ∨ (ri = 0 ∧ rj = 2) ∨ (ri = 1 ∧ rj = 2) := by omega
      rcases cs with ⟨rfl, rfl⟩ | ⟨rfl, rfl⟩ | ⟨rfl, rfl⟩
      · exact n1 (Prod.mk.inj e).1
      · exact n3 (Prod.mk.inj e).1.symm
      · exact n2 (Prod.mk.inj e).1
    · exact hi (i / 3) (j / 3) (by omega) (by omega) (tr _ _ _ r1 r2))
  omega
def rotq (a b c x y z : Nat) : Prop := (a = x ∧ b = y ∧ c = z) ∨ (b = x ∧ c = y ∧ a = z) ∨ (c = x ∧ a = y ∧ b = z)
def tet (a b c d x y z : Nat) : Prop := rotq a b c x y z ∨ rotq a c d x y z ∨ rotq c b d x y z ∨ rotq b a d x y z
theorem Hul_tet {a b c d : Nat} (h : VV P a b c d < 0) (ha : a < N) (hb : b < N) (hc : c < N) (hd : d < N) : Hul P N (fun q => q = a ∨ q = b ∨ q = c ∨ q = d) (tet a b c d) := by
  have e1 : VV P a c d b = VV P a b c d := by simp only [VV, tp, dt, cr, sb]; grind
  have e2 : VV P c b d a = VV P a b c d := by simp only [VV, tp, dt, cr, sb]; grind
  have e3 : VV P b a d c = VV P a b c d := by simp only [VV, tp, dt, cr, sb]; grind
  have ab : a ≠ b := by intro e; subst e; rw [VV_d1] at h; omega
  have ac : a ≠ c := by intro e; subst e; rw [← e1, VV_d1] at h; omega
  have bc : b ≠ c := by intro e; subst e; rw [← e3, VV_s1] at h; omega
  have ad : a ≠ d := by intro e; subst e; rw [VV_s1] at h; omega
  have bd : b ≠ d := by intro e; subst e; rw [VV_s2] at h; omega
  have cd : c ≠ d := by intro e; subst e; rw [VV_s4] at h; omega
  have base : ∀ x y z, tet a b c d x y z → ∃ w, (w = a ∨ w = b ∨ w = c ∨ w = d) ∧ VV P x y z w < 0 ∧ ∀ q, (q = a ∨ q = b ∨ q = c ∨ q = d) → VV P x y z q ≤ 0 := by
    have one : ∀ a b c d x y z, VV P a b c d < 0 → rotq a b c x y z → VV P x y z d < 0 ∧ ∀ q, (q = a ∨ q = b ∨ q = c ∨ q = d) → VV P x y z q ≤ 0 := by
      intro a b c d x y z h hr
      have e : ∀ q, VV P x y z q = VV P a b c q := by
        intro q
        rcases hr with ⟨rfl, rfl, rfl⟩ | ⟨rfl, rfl, rfl⟩ | ⟨rfl, rfl, rfl⟩
        · rfl
        · exact VV_rot _ _ _ _ _
        · exact (VV_rot _ _ _ _ _).symm
      refine ⟨by rw [e]; exact h, fun q hq => ?_⟩
      rw [e]
      rcases hq with rfl | rfl | rfl | rfl
      · rw [VV_s1]; exact Int.le_refl _
      · rw [VV_s2]; exact Int.le_refl _
      · rw [VV_s4]; exact Int.le_refl _
      · omega
    rintro x y z (h1 | h1 | h1 | h1)
    · obtain ⟨k1, k2⟩ := one _ _ _ _ _ _ _ h h1
      exact ⟨d, by omega, k1, k2⟩
    · obtain ⟨k1, k2⟩ := one _ _ _ b _ _ _ (by rw [e1]; exact h) h1
      exact ⟨b, by omega, k1, fun q hq => k2 q (by omega)⟩
    · obtain ⟨k1, k2⟩ := one _ _ _ a _ _ _ (by rw [e2]; exact h) h1
      exact ⟨a, by omega, k1, fun q hq => k2 q (by omega)⟩
    · obtain ⟨k1, k2⟩ := one _ _ _ c _ _ _ (by rw [e3]; exact h) h1
      exact ⟨c, by omega, k1, fun q hq => k2 q (by omega)⟩
  have apex : ∀ a b c d, VV P a b c d < 0 → ∃ k : V3, ∀ q, (q = a ∨ q = b ∨ q = c) → dt k (P q) < dt k (P d) := by
    intro a b c d h
    refine ⟨sm (-1) (cr (sb (P b) (P a)) (sb (P c) (P a))), fun q hq => ?_⟩
    have nq : ∀ q, dt (cr (sb (P b) (P a)) (sb (P c) (P a))) (P q) - dt (cr (sb (P b) (P a)) (sb (P c) (P a))) (P a) = VV P a b c q := fun q => by rw [← dt_sb]; rfl
    rw [sm_dt, sm_dt]
    have k1 := nq d
    have k2 := nq q
    have k3 : VV P a b c q = 0 := by
      rcases hq with rfl | rfl | rfl
      · exact VV_s1 _ _ _ _
      · exact VV_s2 _ _ _ _
      · exact VV_s4 _ _ _ _
    omega
  refine ⟨?_, ?_, ?_, ?_, ?_, ?_, ?_, ?_, ?_⟩
  · rintro x y z ((⟨rfl, rfl, rfl⟩ | ⟨rfl, rfl, rfl⟩ | ⟨rfl, rfl, rfl⟩) | (⟨rfl, rfl, rfl⟩ | ⟨rfl, rfl, rfl⟩ | ⟨rfl, rfl, rfl⟩) | (⟨rfl, rfl, rfl⟩ | ⟨rfl, rfl, rfl⟩ | ⟨rfl, rfl, rfl⟩) | (⟨rfl, rfl, rfl⟩ | ⟨rfl, rfl, rfl⟩ | ⟨rfl, rfl, rfl⟩)) <;> simp [tet, rotq]
  · rintro x y z z' ((⟨rfl, rfl, rfl⟩ | ⟨rfl, rfl, rfl⟩ | ⟨rfl, rfl, rfl⟩) | (⟨rfl, rfl, rfl⟩ | ⟨rfl, rfl, rfl⟩ | ⟨rfl, rfl, rfl⟩) | (⟨rfl, rfl, rfl⟩ | ⟨rfl, rfl, rfl⟩ | ⟨rfl, rfl, rfl⟩) | (⟨rfl, rfl, rfl⟩ | ⟨rfl, rfl, rfl⟩ | ⟨rfl, rfl, rfl⟩)) h2 <;> simp [tet, rotq, ab, ac, ad, bc, bd, cd, ab.symm, ac.symm, ad.symm, bc.symm, bd.symm, cd.symm] at h2 <;> exact h2
  · rintro x y z ((⟨rfl, rfl, rfl⟩ | ⟨rfl, rfl, rfl⟩ | ⟨rfl, rfl, rfl⟩) | (⟨rfl, rfl, rfl⟩ | ⟨rfl, rfl, rfl⟩ | ⟨rfl, rfl, rfl⟩) | (⟨rfl, rfl, rfl⟩ | ⟨rfl, rfl, rfl⟩ | ⟨rfl, rfl, rfl⟩) | (⟨rfl, rfl, rfl⟩ | ⟨rfl, rfl, rfl⟩ | ⟨rfl, rfl, rfl⟩)) <;> first | (refine ⟨a, ?_⟩; simp [tet, rotq]; done) | (refine ⟨b, ?_⟩; simp [tet, rotq]; done) | (refine ⟨c, ?_⟩; simp [tet, rotq]; done) | (refine ⟨d, ?_⟩; simp [tet, rotq]; done)
  · rintro x y z ((⟨rfl, rfl, rfl⟩ | ⟨rfl, rfl, rfl⟩ | ⟨rfl, rfl, rfl⟩) | (⟨rfl, rfl, rfl⟩ | ⟨rfl, rfl, rfl⟩ | ⟨rfl, rfl, rfl⟩) | (⟨rfl, rfl, rfl⟩ | ⟨rfl, rfl, rfl⟩ | ⟨rfl, rfl, rfl⟩) | (⟨rfl, rfl, rfl⟩ | ⟨rfl, rfl, rfl⟩ | ⟨rfl, rfl, rfl⟩)) <;> simp
  · intro x y z q h1 hq
    obtain ⟨_, _, _, h3⟩ := base x y z h1
    exact h3 q hq
  · intro x y z h1
    obtain ⟨w, h2, h3, _⟩ := base x y z h1
    exact ⟨w, h2, h3⟩
  · intro x y z h1
    have hx : x = a ∨ x = b ∨ x = c ∨ x = d := by
      rcases h1 with (⟨rfl, rfl, rfl⟩ | ⟨rfl, rfl, rfl⟩ | ⟨rfl, rfl, rfl⟩) | (⟨rfl, rfl, rfl⟩ | ⟨rfl, rfl, rfl⟩ | ⟨rfl, rfl, rfl⟩) | (⟨rfl, rfl, rfl⟩ | ⟨rfl, rfl, rfl⟩ | ⟨rfl, rfl, rfl⟩) | (⟨rfl, rfl, rfl⟩ | ⟨rfl, rfl, rfl⟩ | ⟨rfl, rfl, rfl⟩) <;> simp
    rcases hx with rfl | rfl | rfl | rfl
    · obtain ⟨k, hk⟩ := apex c b d x (by rw [e2]; exact h)
      exact ⟨k, fun q hq hqa => hk q (by omega)⟩
    · obtain ⟨k, hk⟩ := apex a c d x (by rw [e1]; exact h)
      exact ⟨k, fun q hq hqa => hk q (by omega)⟩
    · obtain ⟨k, hk⟩ := apex b a d x (by rw [e3]; exact h)
      exact ⟨k, fun q hq hqa => hk q (by omega)⟩
    · obtain ⟨k, hk⟩ := apex a b c x h
      exact ⟨k, fun q hq hqa => hk q (by omega)⟩
  · intro q hq
    omega
  · exact ⟨a, b, c, Or.inl (Or.inl ⟨rfl, rfl, rfl⟩)⟩
theorem Hul_congr {S' : Nat → Prop} (h : ∀ q, S q ↔ S' q) (H : Hul P N S tri) : Hul P N S' tri := by
  have e : S = S' := funext fun q => propext (h q)
  rw [← e]
  exact H
/-- the points of a set that isn't flat have a hull -/
theorem Hul_ex (hinj : ∀ a b, a < N → b < N → P a = P b → a = b) {a b c d : Nat} (ha : a < N) (hb : b < N) (hc : c < N) (hd : d < N) (h : VV P a b c d ≠ 0) : ∃ tri, Hul P N (fun q => q < N) tri := by
  obtain ⟨tri0, S0, H0, hS0⟩ : ∃ (tri : Nat → Nat → Nat → Prop) (S : Nat → Prop), Hul P N S tri ∧ ∀ q, S q → q < N := by
    rcases Int.lt_or_lt_of_ne h with q | q
    · exact ⟨_, _, Hul_tet q ha hb hc hd, fun q hq => by omega⟩
    · have q2 : VV P b a c d < 0 := by rw [VV_sw]; omega
      exact ⟨_, _, Hul_tet q2 hb ha hc hd, fun q hq => by omega⟩
  have key : ∀ k, k ≤ N → ∃ tri, Hul P N (fun q => S0 q ∨ q < k) tri := by
    intro k
    induction k with
    | zero => exact fun _ => ⟨tri0, Hul_congr (fun q => ⟨Or.inl, fun z => by rcases z with z | z; exact z; exact absurd z (Nat.not_lt_zero _)⟩) H0⟩
    | succ k ih =>
      intro hk
      obtain ⟨tri, H⟩ := ih (by omega)
      by_cases q : S0 k
      · refine ⟨tri, Hul_congr (fun z => ⟨fun w => ?_, fun w => ?_⟩) H⟩
        · rcases w with w | w
          · exact Or.inl w
          · exact Or.inr (by omega)
        · rcases w with w | w
          · exact Or.inl w
          · by_cases e : z = k
            · exact Or.inl (e ▸ q)
            · exact Or.inr (by omega)
      · have hn : ¬ (S0 k ∨ k < k) := fun z => by rcases z with z | z; exact q z; exact absurd z (Nat.lt_irrefl _)
        have cg : ∀ z, ((S0 z ∨ z < k) ∨ z = k) ↔ (S0 z ∨ z < k + 1) := by
          intro z
          constructor
          · rintro ((w | w) | w)
            · exact Or.inl w
            · exact Or.inr (by omega)
            · exact Or.inr (by omega)
          · rintro (w | w)
            · exact Or.inl (Or.inl w)
            · by_cases e : z = k
              · exact Or.inr e
              · exact Or.inl (Or.inr (by omega))
        by_cases pos : ∃ a b c, tri a b c ∧ 0 < VV P a b c k
        · exact ⟨_, Hul_congr cg (H.addOut (by omega) hn pos)⟩
        · refine ⟨tri, Hul_congr cg (H.addIn (by omega) (fun x y z t e => ?_) (fun x y z t => ?_))⟩
          · have hx := H.mem t
            have hx2 := H.bd hx
            have := hinj _ _ (by omega) hx2 e
            rw [← this] at hx
            exact hn hx
          · rcases Int.lt_or_le 0 (VV P x y z k) with w | w
            · exact absurd ⟨x, y, z, t, w⟩ pos
            · exact w
  obtain ⟨tri, H⟩ := key N (Nat.le_refl _)
  refine ⟨tri, Hul_congr (fun q => ⟨fun z => ?_, Or.inr⟩) H⟩
  rcases z with z | z
  · exact hS0 q z
  · exact z
end Geo7

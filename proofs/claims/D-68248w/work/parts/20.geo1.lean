/-! GEOMETRY 1: vectors of Ints, slopes around an axis, orbits, the figure of a vertex -/
section Geo1
abbrev V3 : Type := Int × Int × Int
def sb (u w : V3) : V3 := (u.1 - w.1, u.2.1 - w.2.1, u.2.2 - w.2.2)
def ad3 (u w : V3) : V3 := (u.1 + w.1, u.2.1 + w.2.1, u.2.2 + w.2.2)
def sm (k : Int) (u : V3) : V3 := (k * u.1, k * u.2.1, k * u.2.2)
def dt (u w : V3) : Int := u.1 * w.1 + u.2.1 * w.2.1 + u.2.2 * w.2.2
def cr (u w : V3) : V3 := (u.2.1 * w.2.2 - u.2.2 * w.2.1, u.2.2 * w.1 - u.1 * w.2.2, u.1 * w.2.1 - u.2.1 * w.1)
def tp (u w x : V3) : Int := dt (cr u w) x
theorem dt_ad (g u w : V3) : dt g (ad3 u w) = dt g u + dt g w := by simp only [dt, ad3]; grind
theorem dt_sm (g u : V3) (k : Int) : dt g (sm k u) = k * dt g u := by simp only [dt, sm]; grind
theorem dt_sb (g u w : V3) : dt g (sb u w) = dt g u - dt g w := by simp only [dt, sb]; grind
theorem ad_dt (g k u : V3) : dt (ad3 g k) u = dt g u + dt k u := by simp only [dt, ad3]; grind
theorem sm_dt (g u : V3) (k : Int) : dt (sm k g) u = k * dt g u := by simp only [dt, sm]; grind
theorem dt_comm (g u : V3) : dt g u = dt u g := by simp only [dt]; grind
theorem tp_ad (a b u w : V3) : tp a b (ad3 u w) = tp a b u + tp a b w := dt_ad _ _ _
theorem tp_sm (a b u : V3) (k : Int) : tp a b (sm k u) = k * tp a b u := dt_sm _ _ _
theorem tp_rot (a b c : V3) : tp a b c = tp b c a := by simp only [tp, dt, cr]; grind
theorem tp_swap (a b c : V3) : tp a b c = - tp a c b := by simp only [tp, dt, cr]; grind
theorem tp_self (a b : V3) : tp a b b = 0 := by simp only [tp, dt, cr]; grind
theorem slope_id (g x u w : V3) : dt g g * tp u w x - dt g x * tp u w g = dt g u * dt (cr x g) w - dt (cr x g) u * dt g w := by
  simp only [tp, dt, cr]; grind
theorem dt_pos (x : V3) (h : x ≠ (0, 0, 0)) : 0 < dt x x := by
  obtain ⟨a, b, c⟩ := x
  simp only [dt]
  have h1 : 0 ≤ a * a := by rcases Int.le_total 0 a with q | q; exact Int.mul_nonneg q q; exact Int.mul_nonneg_of_nonpos_of_nonpos q q
  have h2 : 0 ≤ b * b := by rcases Int.le_total 0 b with q | q; exact Int.mul_nonneg q q; exact Int.mul_nonneg_of_nonpos_of_nonpos q q
  have h3 : 0 ≤ c * c := by rcases Int.le_total 0 c with q | q; exact Int.mul_nonneg q q; exact Int.mul_nonneg_of_nonpos_of_nonpos q q
  rcases Int.lt_or_eq_of_le h1 with q | q
  · omega
  · rcases Int.lt_or_eq_of_le h2 with q2 | q2
    · omega
    · rcases Int.lt_or_eq_of_le h3 with q3 | q3
      · omega
      · exfalso
        apply h
        have e1 : a = 0 := by have := Int.mul_eq_zero.mp q.symm; omega
        have e2 : b = 0 := by have := Int.mul_eq_zero.mp q2.symm; omega
        have e3 : c = 0 := by have := Int.mul_eq_zero.mp q3.symm; omega
        rw [e1, e2, e3]
/-- slopes p/q, r/s, t/w with positive q, s, w -/
theorem slope_tr {p q r s t w : Int} (hq : 0 < q) (hs : 0 < s) (hw : 0 < w) (h1 : r * q < p * s) (h2 : t * s < r * w) : t * q < p * w := by
  have a1 : t * s * q < r * w * q := Int.mul_lt_mul_of_pos_right h2 hq
  have a2 : r * q * w < p * s * w := Int.mul_lt_mul_of_pos_right h1 hw
  have a3 : s * (t * q) < s * (p * w) := by grind
  exact Int.lt_of_mul_lt_mul_left a3 (Int.le_of_lt hs)
/-- a closed sequence can't go down all the time -/
theorem no_close (g x : V3) (a : Nat → V3) (m : Nat) (hm : 0 < m) (hg : dt g x = 0) (hp : ∀ i, i ≤ m → 0 < dt g (a i)) (hd : ∀ i, i < m → tp (a i) (a (i + 1)) x < 0) (hc : a m = a 0) : False := by
  have h0 := hp 0 (Nat.zero_le _)
  have gg : 0 < dt g g := by
    apply dt_pos
    intro e
    rw [e] at h0
    simp only [dt] at h0
    omega
  have st : ∀ i, i < m → dt (cr x g) (a (i + 1)) * dt g (a i) < dt (cr x g) (a i) * dt g (a (i + 1)) := by
    intro i hi
    have e := slope_id g x (a i) (a (i + 1))
    rw [hg, Int.zero_mul, Int.sub_zero] at e
    have h1 := Int.mul_neg_of_pos_of_neg gg (hd i hi)
    rw [e] at h1
    have e2 := Int.mul_comm (dt g (a i)) (dt (cr x g) (a (i + 1)))
    omega
  have key : ∀ i, i < m → dt (cr x g) (a (i + 1)) * dt g (a 0) < dt (cr x g) (a 0) * dt g (a (i + 1)) := by
    intro i
    induction i with
    | zero => intro hi; exact st 0 hi
    | succ i ih =>
      intro hi
      exact slope_tr (hp 0 (by omega)) (hp (i + 1) (by omega)) (hp (i + 2) (by omega)) (ih (by omega)) (st (i + 1) hi)
  have h1 := key (m - 1) (by omega)
  rw [show m - 1 + 1 = m by omega, hc] at h1
  exact Int.lt_irrefl _ h1
/-- the figure of a vertex: what a closed sequence of rays around a pointed cone says of all of the cone -/
theorem cone_le (a : Nat → V3) (m : Nat) (hm : 0 < m) (hc : a m = a 0) (h t d x : V3) (ha : ∀ i, i ≤ m → dt h (a i) < 0) (ht : dt h t < 0) (hnt : ∀ i, i < m → tp (a i) (a (i + 1)) t < 0)
    (hd : ∀ i, i ≤ m → dt d (a i) ≤ 0) (hx : ∀ i, i < m → tp (a i) (a (i + 1)) x ≤ 0) : dt d x ≤ 0 := by
  rcases Int.lt_or_le 0 (dt d x) with hpos | hle
  · exfalso
    -- strictly inside
    obtain ⟨K, hK⟩ : ∃ K : Int, K = (if dt d t < 0 then 1 - dt d t else 1) := ⟨_, rfl⟩
    have hK0 : 0 < K := by rw [hK]; split <;> omega
    have hK1 : 0 < K + dt d t := by rw [hK]; split <;> omega
    clear hK
    obtain ⟨y, hy⟩ : ∃ y : V3, y = ad3 (sm K x) t := ⟨_, rfl⟩
    have y1 : 0 < dt d y := by
      rw [hy, dt_ad, dt_sm]
      have h1 : K * 1 ≤ K * dt d x := Int.mul_le_mul_of_nonneg_left (by omega) (Int.le_of_lt hK0)
      omega
    have y2 : ∀ i, i < m → tp (a i) (a (i + 1)) y < 0 := by
      intro i hi
      rw [hy, tp_ad, tp_sm]
      have h1 := Int.mul_nonpos_of_nonneg_of_nonpos (Int.le_of_lt hK0) (hx i hi)
      have h2 := hnt i hi
      omega
    rcases Int.lt_or_le 0 (dt h y) with hh | hh
    · -- h y > 0
      refine no_close (sm (-1) h) (ad3 (sm (dt h y) t) (sm (- dt h t) y)) a m hm ?_ ?_ ?_ hc
      · rw [sm_dt, dt_ad, dt_sm, dt_sm]; grind
      · intro i hi
        rw [sm_dt]
        have := ha i hi
        omega
      · intro i hi
        rw [tp_ad, tp_sm, tp_sm]
        have h1 := Int.mul_neg_of_pos_of_neg hh (hnt i hi)
        have h2 := Int.mul_neg_of_pos_of_neg (show 0 < - dt h t by omega) (y2 i hi)
        omega
    · refine no_close (ad3 (sm (- dt d y) h) (sm (dt h y) d)) y a m hm ?_ ?_ y2 hc
      · rw [ad_dt, sm_dt, sm_dt]; grind
      · intro i hi
        rw [ad_dt, sm_dt, sm_dt]
        have h1 := Int.mul_pos_of_neg_of_neg (show - dt d y < 0 by omega) (ha i hi)
        have h2 := Int.mul_nonneg_of_nonpos_of_nonpos hh (hd i hi)
        omega
  · exact hle
/-- no injection of N + 1 places into N -/
theorem pigeon : ∀ (N : Nat) (f : Nat → Nat), (∀ i, i ≤ N → f i < N) → ∃ i j, i < j ∧ j ≤ N ∧ f i = f j := by
  intro N
  induction N with
  | zero => intro f h; exact absurd (h 0 (Nat.le_refl _)) (Nat.not_lt_zero _)
  | succ N ih =>
    intro f h
    by_cases h1 : ∃ i, i ≤ N ∧ f i = f (N + 1)
    · obtain ⟨i, h2, h3⟩ := h1
      exact ⟨i, N + 1, by omega, Nat.le_refl _, h3⟩
    · -- values other than f (N+1): push the value N onto f (N + 1)
      obtain ⟨i, j, h2, h3, h4⟩ := ih (fun i => if f i = N then f (N + 1) else f i) (by
        intro i hi
        have a1 := h i (by omega)
        have a2 := h (N + 1) (Nat.le_refl _)
        have a3 : f i ≠ f (N + 1) := fun q => h1 ⟨i, hi, q⟩
        split <;> omega)
      refine ⟨i, j, h2, by omega, ?_⟩
      have b1 : f i ≠ f (N + 1) := fun q => h1 ⟨i, by omega, q⟩
      have b2 : f j ≠ f (N + 1) := fun q => h1 ⟨j, by omega, q⟩
      split at h4 <;> split at h4 <;> omega
def itf (f : Nat → Nat) : Nat → Nat → Nat
  | 0, a => a
  | n + 1, a => f (itf f n a)
theorem itf_add (f : Nat → Nat) (i j a : Nat) : itf f (i + j) a = itf f i (itf f j a) := by
  induction i with
  | zero => rw [Nat.zero_add]; rfl
  | succ i ih => rw [Nat.succ_add]; show f _ = f _; rw [ih]
theorem itf_dom {f : Nat → Nat} {D : Nat → Prop} (hc : ∀ a, D a → D (f a)) {a : Nat} (ha : D a) (n : Nat) : D (itf f n a) := by
  induction n with
  | zero => exact ha
  | succ n ih => exact hc _ ih
theorem itf_inj {f : Nat → Nat} {D : Nat → Prop} (hc : ∀ a, D a → D (f a)) (hi : ∀ a b, D a → D b → f a = f b → a = b) {a b : Nat} (ha : D a) (hb : D b) (n : Nat) (h : itf f n a = itf f n b) : a = b := by
  induction n with
  | zero => exact h
  | succ n ih => exact ih (hi _ _ (itf_dom hc ha n) (itf_dom hc hb n) h)
theorem orbit {f : Nat → Nat} {D : Nat → Prop} {N : Nat} (hb : ∀ a, D a → a < N) (hc : ∀ a, D a → D (f a)) (hi : ∀ a b, D a → D b → f a = f b → a = b) {a : Nat} (ha : D a) : ∃ m, 0 < m ∧ m ≤ N ∧ itf f m a = a := by
  obtain ⟨i, j, h1, h2, h3⟩ := pigeon N (fun i => itf f i a) (fun i _ => hb _ (itf_dom hc ha i))
  refine ⟨j - i, by omega, by omega, ?_⟩
  have e : itf f j a = itf f i (itf f (j - i) a) := by rw [← itf_add]; congr 1; omega
  have h4 : itf f i a = itf f i (itf f (j - i) a) := by rw [← e]; exact h3
  exact (itf_inj hc hi ha (itf_dom hc ha _) i h4).symm
theorem bnd (f : Nat → Int) (N : Nat) : ∃ B : Int, 0 ≤ B ∧ ∀ a, a < N → f a ≤ B := by
  induction N with
  | zero => exact ⟨0, by omega, fun a h => absurd h (Nat.not_lt_zero _)⟩
  | succ N ih =>
    obtain ⟨B, h0, h⟩ := ih
    refine ⟨B + (if 0 ≤ f N then f N else 0), by split <;> omega, fun a ha => ?_⟩
    by_cases q : a = N
    · subst q; split <;> omega
    · have := h a (by omega)
      split <;> omega
/-- a greatest one of a finite set that isn't empty, by a number -/
theorem top_of (f : Nat → Int) (D : Nat → Prop) (N : Nat) (hb : ∀ a, D a → a < N) (hn : ∃ a, D a) : ∃ a, D a ∧ ∀ b, D b → f b ≤ f a := by
  have key : ∀ n, (∃ a, D a ∧ a < n) → ∃ a, D a ∧ ∀ b, D b → b < n → f b ≤ f a := by
    intro n
    induction n with
    | zero => intro ⟨a, _, h⟩; exact absurd h (Nat.not_lt_zero _)
    | succ n ih =>
      intro ⟨a, ha, hl⟩
      by_cases q : ∃ a, D a ∧ a < n
      · obtain ⟨b, hb1, hb2⟩ := ih q
        by_cases q2 : D n ∧ f b < f n
        · refine ⟨n, q2.1, fun c hc hcn => ?_⟩
          by_cases q3 : c = n
          · rw [q3]; exact Int.le_refl _
          · have := hb2 c hc (by omega); omega
        · refine ⟨b, hb1, fun c hc hcn => ?_⟩
          by_cases q3 : c = n
          · subst q3
            rcases Int.lt_or_le (f b) (f c) with w | w
            · exact absurd ⟨hc, w⟩ q2
            · exact w
          · exact hb2 c hc (by omega)
      · refine ⟨a, ha, fun c hc hcn => ?_⟩
        have e1 : a = n := by
          rcases Nat.lt_or_ge a n with w | w
          · exact absurd ⟨a, ha, w⟩ q
          · omega
        have e2 : c = n := by
          rcases Nat.lt_or_ge c n with w | w
          · exact absurd ⟨c, hc, w⟩ q
          · omega
        rw [e1, e2]; exact Int.le_refl _
  obtain ⟨a, ha⟩ := hn
  obtain ⟨b, h1, h2⟩ := key N ⟨a, ha, hb a ha⟩
  exact ⟨b, h1, fun c hc => h2 c hc (hb c hc)⟩
/-- a least slope u/w (w positive) of a finite set -/
theorem low_slope (u w : Nat → Int) (D : Nat → Prop) (N : Nat) (hb : ∀ a, D a → a < N) (hw : ∀ a, D a → 0 < w a) (hn : ∃ a, D a) : ∃ a, D a ∧ ∀ b, D b → u a * w b ≤ u b * w a := by
  have key : ∀ n, (∃ a, D a ∧ a < n) → ∃ a, D a ∧ ∀ b, D b → b < n → u a * w b ≤ u b * w a := by
    intro n
    induction n with
    | zero => intro ⟨a, _, h⟩; exact absurd h (Nat.not_lt_zero _)
    | succ n ih =>
      intro ⟨a, ha, hl⟩
      by_cases q : ∃ a, D a ∧ a < n
      · obtain ⟨b, hb1, hb2⟩ := ih q
        by_cases q2 : D n ∧ u n * w b < u b * w n
        · refine ⟨n, q2.1, fun c hc hcn => ?_⟩
          by_cases q3 : c = n
          · rw [q3]; exact Int.le_refl _
          · have h1 := hb2 c hc (by omega)
            have a1 : u n * w b * w c ≤ u b * w n * w c := Int.mul_le_mul_of_nonneg_right (Int.le_of_lt q2.2) (Int.le_of_lt (hw c hc))
            have a2 : u b * w c * w n ≤ u c * w b * w n := Int.mul_le_mul_of_nonneg_right h1 (Int.le_of_lt (hw n q2.1))
            have a3 : w b * (u n * w c) ≤ w b * (u c * w n) := by grind
            exact Int.le_of_mul_le_mul_left a3 (hw b hb1)
        · refine ⟨b, hb1, fun c hc hcn => ?_⟩
          by_cases q3 : c = n
          · subst q3
            rcases Int.lt_or_le (u c * w b) (u b * w c) with z | z
            · exact absurd ⟨hc, z⟩ q2
            · exact z
          · exact hb2 c hc (by omega)
      · refine ⟨a, ha, fun c hc hcn => ?_⟩
        have e1 : a = n := by
          rcases Nat.lt_or_ge a n with z | z
          · exact absurd ⟨a, ha, z⟩ q
          · omega
        have e2 : c = n := by
          rcases Nat.lt_or_ge c n with z | z
          · exact absurd ⟨c, hc, z⟩ q
          · omega
        rw [e1, e2]; exact Int.le_refl _
  obtain ⟨a, ha⟩ := hn
  obtain ⟨b, h1, h2⟩ := key N ⟨a, ha, hb a ha⟩
  exact ⟨b, h1, fun c hc => h2 c hc (hb c hc)⟩
end Geo1

/-! THE MODEL'S points -/
section GL
variable {σ : Tab} {n : Nat}
def b512 (x : Int) : Prop := -512 ≤ x ∧ x ≤ 512
def tkn (Q : Nat → V3) (n : Nat) (p : V3) : Prop := ∃ i, i < n ∧ Q i = p
theorem f_taken {P : Int → Tab → Prop} {x y z : Int} (hn : n ≤ 24) (hpts : σ 0 23 0 1 = n) (hB : ∀ i, i < n → B93 (CP σ i)) (ix : inI x) (iy : inI y) (iz : inI z) (h1 : tkn (CP σ) n (x, y, z) → P 1 σ) (h0 : ¬ tkn (CP σ) n (x, y, z) → P 0 σ) : wpX8_taken x y z σ P := by
  have iN : inI (n : Int) := inI_sm ⟨by omega, by omega⟩
  have lp : ∀ (q k : Nat) (f : Int), n - k = q → k ≤ n → (f = 0 ∨ f = 1) → (f = 1 ↔ tkn (CP σ) k (x, y, z)) → wlX8_taken_6 P (q + 1) x y z f k σ := by
    intro q
    induction q with
    | zero =>
      intro k f e1 e2 e3 e4
      have : k = n := by omega
      subst this
      unfold wlX8_taken_6
      rw [hpts]
      refine ⟨iN, iN, fun _ => ⟨e3, ?_⟩, fun z => absurd (Int.le_refl _) z⟩
      rcases e3 with w | w
      · rw [w]; exact h0 (fun t => by have := e4.mpr t; omega)
      · rw [w]; exact h1 (e4.mp w)
    | succ q ih =>
      intro k f e1 e2 e3 e4
      have hk : k < n := by omega
      obtain ⟨⟨a1, a2⟩, ⟨a3, a4⟩, a5, a6⟩ := hB k hk
      simp only [CP] at a1 a2 a3 a4 a5 a6
      have up : ∀ f' : Int, (f' = 0 ∨ f' = 1) → (f' = 1 ↔ tkn (CP σ) k (x, y, z) ∨ CP σ k = (x, y, z)) → wlX8_taken_6 P (q + 1) x y z f' ((k + 1 : Nat) : Int) σ := by
        intro f' h3 h4
        refine ih (k + 1) f' (by omega) (by omega) h3 (h4.trans ⟨?_, ?_⟩)
        · rintro (⟨i, hi, e⟩ | e)
          · exact ⟨i, by omega, e⟩
          · exact ⟨k, by omega, e⟩
        · rintro ⟨i, hi, e⟩
          by_cases w : i = k
          · subst w; exact Or.inr e
          · exact Or.inl ⟨i, by omega, e⟩
      unfold wlX8_taken_6
      rw [hpts, ic, Int.toNat_natCast]
      have no : ¬ f = 1 → ¬ CP σ k = (x, y, z) → wlX8_taken_6 P (q + 1) x y z 0 ((k + 1 : Nat) : Int) σ := by
        intro w1 w2
        refine up 0 (Or.inl rfl) ⟨fun w => absurd w (by decide), ?_⟩
        rintro (w | w)
        · exact absurd (e4.mpr w) w1
        · exact absurd w w2
      refine ⟨inI_sm ⟨by omega, by omega⟩, iN, fun z => by omega, fun _ => ⟨inI_f e3, fun w => up 1 (Or.inr rfl) ⟨fun _ => Or.inl (e4.mp (by omega)), fun _ => rfl⟩, fun w => ⟨⟨by omega, by omega⟩, inI_sm ⟨by omega, by omega⟩, ix, fun w2 => no (by omega) (fun e => w2 (congrArg (fun t => t.1) e)), fun w2 => ⟨inI_sm ⟨by omega, by omega⟩, iy, fun w3 => no (by omega) (fun e => w3 (congrArg (fun t => t.2.1) e)), fun w3 => ⟨inI_sm ⟨by omega, by omega⟩, iz, fun w4 => no (by omega) (fun e => w4 (congrArg (fun t => t.2.2) e)), fun w4 => up 1 (Or.inr rfl) ⟨fun _ => Or.inr ?_, fun _ => rfl⟩⟩⟩⟩⟩⟩
      unfold CP
      rw [Decidable.of_not_not w2, Decidable.of_not_not w3, Decidable.of_not_not w4]
  exact ⟨_, lp _ 0 0 rfl (by omega) (Or.inl rfl) ⟨fun w => absurd w (by decide), fun ⟨i, hi, _⟩ => absurd hi (Nat.not_lt_zero _)⟩⟩
def fits8 (σ : Tab) (n : Nat) (x y z : Int) : Prop := b512 x ∧ b512 y ∧ b512 z ∧ ¬ tkn (CP σ) n (x, y, z)
/-- only the model's points change, its count and its mark -/
def PFr (σ τ : Tab) : Prop := (∀ g k i, ¬ (g = 0 ∧ i = 0 ∧ (23 ≤ k ∧ k ≤ 26)) → τ g k i = σ g k i) ∧ ∀ j, j ≠ 0 → j ≠ 1 → τ 0 23 0 j = σ 0 23 0 j
theorem f_point8 {P : Int → Tab → Prop} {x y z : Int} (hn : n ≤ 24) (hpts : σ 0 23 0 1 = n) (hB : ∀ i, i < n → B93 (CP σ i)) (ix : inI x) (iy : inI y) (iz : inI z)
    (h1 : ¬ fits8 σ n x y z → P 0 (st σ 0 23 0 0 1)) (h2 : fits8 σ n x y z → n = 24 → P 0 (st σ 0 23 0 0 2))
    (h0 : fits8 σ n x y z → n < 24 → ∀ τ, PFr σ τ → τ 0 23 0 0 = 0 → τ 0 23 0 1 = ((n + 1 : Nat) : Int) → (∀ i, i < n → CP τ i = CP σ i) → CP τ n = (x, y, z) → P n τ) : wpX8_point x y z σ P := by
  have bad : ¬ fits8 σ n x y z → wlX8_point_45 P x y z 0 σ := by
    intro hf
    have b64 : ∀ y2, (y2 = 0 ∨ y2 = 1) → wlX8_point_64 P x y z 0 y2 σ := by
      intro y2 hy
      unfold wlX8_point_64
      refine f_goes8 (Or.inl rfl) hy (fun z => absurd z (by decide)) (fun z => absurd z (by decide)) (fun _ => ?_)
      exact ⟨⟨by decide, by decide⟩, fun z => absurd rfl z, fun _ => h1 hf⟩
    unfold wlX8_point_45
    rw [hpts]
    exact ⟨inI_sm ⟨by omega, by omega⟩, fun _ => b64 0 (Or.inl rfl), fun _ => b64 1 (Or.inr rfl)⟩
  unfold wpX8_point
  refine f_within8 ix ⟨by decide, by decide⟩ (fun a => ?_) (fun a => ⟨⟨by decide, by decide⟩, fun _ => bad (fun w => a w.1), fun z => absurd rfl z⟩)
  refine ⟨⟨by decide, by decide⟩, fun z => absurd z (by decide), fun _ => ?_⟩
  refine f_within8 iy ⟨by decide, by decide⟩ (fun b => ?_) (fun a => ⟨⟨by decide, by decide⟩, fun _ => bad (fun w => a w.2.1), fun z => absurd rfl z⟩)
  refine ⟨⟨by decide, by decide⟩, fun z => absurd z (by decide), fun _ => ?_⟩
  refine f_within8 iz ⟨by decide, by decide⟩ (fun c => ?_) (fun a => ⟨⟨by decide, by decide⟩, fun _ => bad (fun w => a w.2.2.1), fun z => absurd rfl z⟩)
  refine ⟨⟨by decide, by decide⟩, fun z => absurd z (by decide), fun _ => ?_⟩
  refine f_taken hn hpts hB ix iy iz (fun t => ⟨⟨by decide, by decide⟩, fun _ => bad (fun w => w.2.2.2 t), fun z => absurd (by decide) z⟩) (fun t => ?_)
  refine ⟨⟨by decide, by decide⟩, fun z => absurd rfl z, fun _ => ?_⟩
  have hf : fits8 σ n x y z := ⟨a, b, c, t⟩
  unfold wlX8_point_45
  rw [hpts]
  refine ⟨inI_sm ⟨by omega, by omega⟩, fun w => ?_, fun w => ?_⟩
  · unfold wlX8_point_64
    refine f_goes8 (Or.inr rfl) (Or.inl rfl) (fun _ z => absurd z (by decide)) (fun _ _ => ?_) (fun z => absurd z (by decide))
    exact ⟨⟨by decide, by decide⟩, fun z => absurd rfl z, fun _ => h2 hf (by omega)⟩
  · unfold wlX8_point_64
    refine f_goes8 (Or.inr rfl) (Or.inr rfl) (fun _ _ => ?_) (fun _ z => absurd z (by decide)) (fun z => absurd z (by decide))
    have p1 : st σ 0 23 0 0 0 0 23 0 1 = n := by rw [st_j (by decide)]; exact hpts
    rw [p1]
    refine ⟨⟨by decide, by decide⟩, fun _ => ⟨⟨by omega, by omega⟩, fun σ5 e5 => ?_⟩, fun z => absurd (by decide) z⟩
    rw [Int.toNat_natCast] at e5
    have p5 : σ5 0 23 0 1 = n := by rw [e5, st_k (by decide)]; exact p1
    rw [p5]
    refine ⟨⟨by omega, by omega⟩, fun σ7 e7 => ?_⟩
    rw [Int.toNat_natCast] at e7
    have p7 : σ7 0 23 0 1 = n := by rw [e7, st_k (by decide)]; exact p5
    rw [p7]
    refine ⟨⟨by omega, by omega⟩, fun σ9 e9 σ10 e10 => ?_⟩
    rw [Int.toNat_natCast] at e9
    have p9 : σ9 0 23 0 1 = n := by rw [e9, st_k (by decide)]; exact p7
    rw [p9, ic] at e10
    have q1 : σ10 0 23 0 1 = ((n + 1 : Nat) : Int) := by rw [e10, st_same]
    rw [q1, show ((n + 1 : Nat) : Int) - 1 = n by omega]
    have r24 : σ10 0 24 0 = upr (σ 0 24 0) n x := by rw [e10, st_k (by decide), e9, st_k (by decide), e7, st_k (by decide), e5, st_self, st_k (by decide)]
    have r25 : σ10 0 25 0 = upr (σ 0 25 0) n y := by rw [e10, st_k (by decide), e9, st_k (by decide), e7, st_self, e5, st_k (by decide), st_k (by decide)]
    have r26 : σ10 0 26 0 = upr (σ 0 26 0) n z := by rw [e10, st_k (by decide), e9, st_self, e7, st_k (by decide), e5, st_k (by decide), st_k (by decide)]
    refine h0 hf (by omega) σ10 ⟨fun g k i hne => ?_, fun j j0 j1 => ?_⟩ ?_ q1 (fun i hi => ?_) ?_
    · rw [e10, st_ne (fun q => hne ⟨q.1, q.2.2, by omega⟩), e9, st_ne (fun q => hne ⟨q.1, q.2.2, by omega⟩), e7, st_ne (fun q => hne ⟨q.1, q.2.2, by omega⟩), e5, st_ne (fun q => hne ⟨q.1, q.2.2, by omega⟩), st_ne (fun q => hne ⟨q.1, q.2.2, by omega⟩)]
    · rw [e10, st_j j1, e9, st_k (by decide), e7, st_k (by decide), e5, st_k (by decide), st_j j0]
    · rw [e10, st_j (by decide), e9, st_k (by decide), e7, st_k (by decide), e5, st_k (by decide), st_same]
    · unfold CP
      rw [r24, r25, r26]
      unfold upr
      rw [if_neg (by omega), if_neg (by omega), if_neg (by omega)]
    · unfold CP
      rw [r24, r25, r26]
      unfold upr
      rw [if_pos rfl, if_pos rfl, if_pos rfl]
theorem f_take8 {P : Int → Tab → Prop} {p : Int} (hn : n ≤ 24) (hpts : σ 0 23 0 1 = n) (ip : inI p)
    (h1 : ¬ (0 ≤ p ∧ p < n) → P 0 (st σ 0 23 0 0 1))
    (h0 : (0 ≤ p ∧ p < n) → ∀ τ, PFr σ τ → τ 0 23 0 0 = 0 → τ 0 23 0 1 = ((n - 1 : Nat) : Int) → (∀ i, i < n - 1 → CP τ i = if i < p.toNat then CP σ i else CP σ (i + 1)) → P ((n - 1 : Nat) : Int) τ) : wpX8_take p σ P := by
  have iN : inI (n : Int) := inI_sm ⟨by omega, by omega⟩
  have bad : ¬ (0 ≤ p ∧ p < n) → wlX8_take_18 P p 0 σ := by
    intro hf
    unfold wlX8_take_18
    refine f_goes8 (Or.inl rfl) (Or.inr rfl) (fun z => absurd z (by decide)) (fun z => absurd z (by decide)) (fun _ => ?_)
    exact ⟨⟨by decide, by decide⟩, fun z => absurd rfl z, fun _ => h1 hf⟩
  unfold wpX8_take
  rw [hpts]
  refine ⟨ip, fun z => bad (by omega), fun z => ⟨iN, fun w => bad (by omega), fun w => ?_⟩⟩
  obtain ⟨a, rfl⟩ := Int.eq_ofNat_of_zero_le (show 0 ≤ p by omega)
  rw [Int.toNat_natCast] at h0
  unfold wlX8_take_18
  refine f_goes8 (Or.inr rfl) (Or.inr rfl) (fun _ _ => ?_) (fun _ z => absurd z (by decide)) (fun z => absurd z (by decide))
  refine ⟨⟨by decide, by decide⟩, fun _ => ?_, fun z => absurd (by decide) z⟩
  have lp : ∀ (q k : Nat) (τ : Tab), n - 1 - k = q → a ≤ k → k ≤ n - 1 → PFr σ τ → τ 0 23 0 0 = 0 → τ 0 23 0 1 = n → (∀ i, i < k → CP τ i = if i < a then CP σ i else CP σ (i + 1)) → (∀ i, k ≤ i → CP τ i = CP σ i) → wlX8_take_29 P (q + 1) k τ := by
    intro q
    induction q with
    | zero =>
      intro k τ e1 e2 e3 hF t0 t1 hA hC
      have : k = n - 1 := by omega
      subst this
      unfold wlX8_take_29
      rw [t1]
      refine ⟨inI_sm ⟨by omega, by omega⟩, iN, fun _ σ4 e4 => ?_, fun z => by omega⟩
      have q1 : σ4 0 23 0 1 = ((n - 1 : Nat) : Int) := by rw [e4, st_same]; omega
      rw [q1]
      refine h0 ⟨by omega, by omega⟩ σ4 ⟨fun g k i hne => ?_, fun j j0 j1 => ?_⟩ ?_ q1 (fun i hi => ?_)
      · rw [e4, st_ne (fun q => hne ⟨q.1, q.2.2, by omega⟩)]; exact hF.1 g k i hne
      · rw [e4, st_j j1]; exact hF.2 j j0 j1
      · rw [e4, st_j (by decide)]; exact t0
      · have : CP σ4 i = CP τ i := by unfold CP; rw [e4, st_k (by decide), st_k (by decide), st_k (by decide)]
        rw [this]; exact hA i hi
    | succ q ih =>
      intro k τ e1 e2 e3 hF t0 t1 hA hC
      unfold wlX8_take_29
      rw [t1, ic, Int.toNat_natCast, Int.toNat_natCast]
      refine ⟨inI_sm ⟨by omega, by omega⟩, iN, fun z => by omega, fun _ => ⟨⟨by omega, by omega⟩, ⟨by omega, by omega⟩, fun σ7 e7 σ8 e8 σ9 e9 => ?_⟩⟩
      have r24 : σ9 0 24 0 = upr (τ 0 24 0) k (τ 0 24 0 (k + 1)) := by rw [e9, st_k (by decide), e8, st_k (by decide), e7, st_self]
      have r25 : σ9 0 25 0 = upr (τ 0 25 0) k (τ 0 25 0 (k + 1)) := by rw [e9, st_k (by decide), e8, st_self, e7, st_k (by decide)]
      have r26 : σ9 0 26 0 = upr (τ 0 26 0) k (τ 0 26 0 (k + 1)) := by rw [e9, st_self, e8, st_k (by decide), e7, st_k (by decide)]
      have o : ∀ i, i ≠ k → CP σ9 i = CP τ i := by
        intro i hi
        unfold CP
        rw [r24, r25, r26]
        unfold upr
        rw [if_neg hi, if_neg hi, if_neg hi]
      have ok : CP σ9 k = CP τ (k + 1) := by
        unfold CP
        rw [r24, r25, r26]
        unfold upr
        rw [if_pos rfl, if_pos rfl, if_pos rfl]
      have r23 : σ9 0 23 0 = τ 0 23 0 := by rw [e9, st_k (by decide), e8, st_k (by decide), e7, st_k (by decide)]
      refine ih (k + 1) σ9 (by omega) (by omega) (by omega) ⟨fun g k' i hne => ?_, fun j j0 j1 => ?_⟩ (by rw [r23]; exact t0) (by rw [r23]; exact t1) (fun i hi => ?_) (fun i hi => ?_)
      · rw [e9, st_ne (fun q => hne ⟨q.1, q.2.2, by omega⟩), e8, st_ne (fun q => hne ⟨q.1, q.2.2, by omega⟩), e7, st_ne (fun q => hne ⟨q.1, q.2.2, by omega⟩)]
        exact hF.1 g k' i hne
      · rw [r23]; exact hF.2 j j0 j1
      · by_cases e : i = k
        · subst e
          rw [ok, if_neg (by omega)]
          exact hC (i + 1) (by omega)
        · rw [o i e]; exact hA i (by omega)
      · rw [o i (by omega)]; exact hC i (by omega)
  refine ⟨_, lp _ a _ rfl (Nat.le_refl _) (by omega) ⟨fun g k i hne => st_ne (fun q => hne ⟨q.1, q.2.2, by omega⟩), fun j j0 _ => st_j j0⟩ (st_same _ _ _ _ _ _) (by rw [st_j (by decide)]; exact hpts) (fun i hi => ?_) (fun i _ => ?_)⟩
  · rw [if_pos hi]
    unfold CP
    rw [st_k (by decide), st_k (by decide), st_k (by decide)]
  · unfold CP
    rw [st_k (by decide), st_k (by decide), st_k (by decide)]
def thr (x : Int) (p : V3) : Int := if x = 0 then p.1 else if x = 1 then p.2.1 else p.2.2
theorem f_of8 {P : Int → Tab → Prop} {p x : Int} (hn : n ≤ 24) (hpts : σ 0 23 0 1 = n) (ip : inI p) (ix : inI x) (h1 : ¬ ((0 ≤ p ∧ p < n) ∧ 0 ≤ x ∧ x ≤ 2) → P 0 (st σ 0 23 0 0 1)) (h0 : (0 ≤ p ∧ p < n) → (0 ≤ x ∧ x ≤ 2) → P (thr x (CP σ p.toNat)) (st σ 0 23 0 0 0)) : wpX8_of p x σ P := by
  have iN : inI (n : Int) := inI_sm ⟨by omega, by omega⟩
  have bad : ¬ ((0 ≤ p ∧ p < n) ∧ 0 ≤ x ∧ x ≤ 2) → wlX8_of_27 P p x 0 σ := by
    intro hf
    unfold wlX8_of_27
    refine f_goes8 (Or.inl rfl) (Or.inr rfl) (fun z => absurd z (by decide)) (fun z => absurd z (by decide)) (fun _ => ?_)
    exact ⟨⟨by decide, by decide⟩, fun z => absurd rfl z, fun _ => h1 hf⟩
  unfold wpX8_of
  rw [hpts]
  refine ⟨ip, fun z => bad (by omega), fun z => ⟨iN, fun w => bad (by omega), fun w => ⟨ix, fun w2 => bad (by omega), fun w2 => ⟨fun w3 => bad (by omega), fun w3 => ?_⟩⟩⟩⟩
  unfold wlX8_of_27
  refine f_goes8 (Or.inr rfl) (Or.inr rfl) (fun _ _ => ?_) (fun _ z => absurd z (by decide)) (fun z => absurd z (by decide))
  have res := h0 ⟨by omega, by omega⟩ ⟨by omega, by omega⟩
  have k24 : st σ 0 23 0 0 0 0 24 0 = σ 0 24 0 := st_k (by decide)
  have k25 : st σ 0 23 0 0 0 0 25 0 = σ 0 25 0 := st_k (by decide)
  have k26 : st σ 0 23 0 0 0 0 26 0 = σ 0 26 0 := st_k (by decide)
  rw [k24, k25, k26]
  unfold thr CP at res
  refine ⟨⟨by decide, by decide⟩, fun _ => ⟨ix, fun q => ⟨fun q2 => ⟨⟨by omega, by omega⟩, ?_⟩, fun q2 => ⟨⟨by omega, by omega⟩, ?_⟩⟩, fun q => ⟨⟨by omega, by omega⟩, ?_⟩⟩, fun z => absurd (by decide) z⟩
  · rw [if_neg q, if_neg q2] at res; exact res
  · rw [if_neg q, if_pos (Decidable.of_not_not q2)] at res; exact res
  · rw [if_pos (Decidable.of_not_not q)] at res; exact res
end GL

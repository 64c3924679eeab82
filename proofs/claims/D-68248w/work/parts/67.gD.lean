/-! THE MODEL'S SUM -/
section GD
variable {σ : Tab} {g N fc m : Nat} {sz : Nat → Nat} {co : Nat → Nat → Nat} {nn : Nat → V3} {off : Nat → Int}
def szr (σ : Tab) (f : Nat) : Nat := (σ 0 34 0 f).toNat
def cor (σ : Tab) (f i : Nat) : Nat := (σ 0 35 0 (24 * f + i)).toNat
theorem raw_ok (h : MSp σ N fc sz co nn off m) {k : Nat} (hk : k < fc) : szr σ (odx σ k) = sz k ∧ σ 0 34 0 (odx σ k) = sz k ∧ 3 ≤ sz k ∧ sz k ≤ N ∧ ∀ i, i < sz k → cor σ (odx σ k) i = co k i ∧ σ 0 35 0 (24 * odx σ k + i) = co k i ∧ co k i < N := by
  obtain ⟨-, -, -, -, -, h6, -, -, h9, -, -, -⟩ := h
  obtain ⟨f, f1, f2, f3, f4, f5, f6⟩ := h6.2.2 k hk
  have eo : odx σ k = f := by unfold odx; rw [f1]; rfl
  have fa := h9.1 k hk
  unfold szr cor
  rw [eo, f3]
  refine ⟨rfl, rfl, fa.2.2.1.1, fa.2.2.1.2, fun i hi => ?_⟩
  rw [(f6 i hi).1]
  exact ⟨rfl, rfl, (fa.2.2.2.1 i hi).1⟩
theorem f_sum {P : Int → Tab → Prop} {x1 : Int} {w : Nat} (hw : (x1 = -1 ∧ w = 3) ∨ (x1 = w ∧ w ≤ 2)) (h : MSp σ N fc sz co nn off m) (hP : P (momI (MP σ) w fc sz co) σ) : wpX8_sum x1 σ P := by
  obtain ⟨o1, o2⟩ := MSp_od h
  have up : ∀ f, f < fc → ∃ k, k < fc ∧ odx σ k = f := fun f hf => inj_surj (fun k hk => (o1 k hk).1) o2 hf
  obtain ⟨-, hN, -, -, -, ⟨h11, h44, -⟩, -, -, -, -, -, -⟩ := id h
  have raw : ∀ f, f < fc → σ 0 34 0 f = szr σ f ∧ 3 ≤ szr σ f ∧ szr σ f ≤ N ∧ ∀ i, i < szr σ f → σ 0 35 0 (24 * f + i) = cor σ f i ∧ cor σ f i < N := by
    intro f hf
    obtain ⟨k, hk, e⟩ := up f hf
    obtain ⟨r1, r2, r3, r4, r5⟩ := raw_ok h hk
    rw [e] at r1 r2 r5
    rw [r1]
    exact ⟨r2, r3, r4, fun i hi => by rw [(r5 i hi).1]; exact (r5 i hi).2⟩
  have etot : momI (MP σ) w fc sz co = tot (fun f => fan (MP σ) w (cor σ f) (szr σ f - 2)) fc := by
    rw [← perm_tot (p := odx σ) (fun k hk => (o1 k hk).1) o2]
    refine tot_congr (fun k hk => ?_)
    obtain ⟨r1, r2, r3, r4, r5⟩ := raw_ok h hk
    rw [r1]
    exact fan_congr (N := N) (fun _ _ => rfl) (fun i hi => ⟨(r5 i (by omega)).1.symm, (r5 i (by omega)).2.2⟩)
  rw [etot] at hP
  have iF : inI (fc : Int) := inI_sm ⟨by omega, by omega⟩
  have ix : inI x1 := by rcases hw with ⟨e, _⟩ | ⟨e, _⟩ <;> exact inI_sm ⟨by omega, by omega⟩
  have lp : ∀ (q f : Nat), fc - f = q → f ≤ fc → wlX8_sum_5 P (q + 1) x1 (tot (fun f => fan (MP σ) w (cor σ f) (szr σ f - 2)) f) f σ := by
    intro q
    induction q with
    | zero =>
      intro f e1 e2
      have : f = fc := by omega
      subst this
      unfold wlX8_sum_5
      rw [h11]
      exact ⟨iF, iF, fun _ => hP, fun z => by omega⟩
    | succ q ih =>
      intro f e1 e2
      obtain ⟨r1, r2, r3, r4⟩ := raw f (by omega)
      unfold wlX8_sum_5
      have e0 : (24 * (f : Int)).toNat = 24 * f + 0 := by omega
      rw [h11, e0, (r4 0 (by omega)).1]
      refine ⟨inI_sm ⟨by omega, by omega⟩, iF, fun z => by omega, fun _ => ⟨⟨by omega, by omega⟩, fun y5 e5 => ⟨szr σ f - 2 + 1, ?_⟩⟩⟩
      rw [e5]
      have inner : ∀ (e k : Nat), szr σ f - 2 - k = e → k ≤ szr σ f - 2 → wlX8_sum_29 P (fun x1 x2 x4 τ => wlX8_sum_5 P (q + 1) x1 x2 x4 τ) (e + 1) x1 (tot (fun f => fan (MP σ) w (cor σ f) (szr σ f - 2)) f + fan (MP σ) w (cor σ f) k) f (cor σ f 0) ((k + 1 : Nat) : Int) σ := by
        intro e
        induction e with
        | zero =>
          intro k g1 g2
          have : k = szr σ f - 2 := by omega
          subst this
          unfold wlX8_sum_29
          rw [Int.toNat_natCast, r1, ic, ic]
          refine ⟨⟨by omega, by omega⟩, inI_sm ⟨by omega, by omega⟩, inI_sm ⟨by omega, by omega⟩, fun _ => ?_, fun z => by omega⟩
          exact ih (f + 1) (by omega) (by omega)
        | succ e ihe =>
          intro k g1 g2
          have c0 := r4 0 (by omega)
          have c1 := r4 (k + 1) (by omega)
          have c2 := r4 (k + 1 + 1) (by omega)
          have i1 : (24 * (f : Int) + ((k + 1 : Nat) : Int)).toNat = 24 * f + (k + 1) := by omega
          have i2 : (24 * (f : Int) + ((k + 1 : Nat) : Int) + 1).toNat = 24 * f + (k + 1 + 1) := by omega
          unfold wlX8_sum_29
          rw [i1, i2, ic (k + 1), Int.toNat_natCast, r1, c1.1, c2.1]
          refine ⟨⟨by omega, by omega⟩, inI_sm ⟨by omega, by omega⟩, inI_sm ⟨by omega, by omega⟩, fun z => by omega, fun _ => ⟨⟨by omega, by omega⟩, fun y6 e6 => ⟨⟨by omega, by omega⟩, fun y8 e8 => ?_⟩⟩⟩
          rw [e6, e8]
          rw [Int.toNat_natCast, Int.toNat_natCast, Int.toNat_natCast]
          refine ⟨⟨by omega, by omega⟩, ⟨by omega, by omega⟩, ⟨by omega, by omega⟩, fun y12 e12 => ⟨ix, ?_⟩⟩
          have et : y12 = tp (MP σ (cor σ f 0)) (MP σ (cor σ f (k + 1))) (MP σ (cor σ f (k + 1 + 1))) := by
            rw [e12]
            simp only [tp, dt, cr, MP]
            grind
          have nx : ∀ y1, y1 = tot (fun f => fan (MP σ) w (cor σ f) (szr σ f - 2)) f + fan (MP σ) w (cor σ f) k + y12 * wt3 (MP σ) w (cor σ f 0) (cor σ f (k + 1)) (cor σ f (k + 1 + 1)) → wlX8_sum_29 P (fun x1 x2 x4 τ => wlX8_sum_5 P (q + 1) x1 x2 x4 τ) (e + 1) x1 y1 f (cor σ f 0) ((k + 1 + 1 : Nat) : Int) σ := by
            intro y1 ey
            have := ihe (k + 1) (by omega) (by omega)
            rw [ey, et, Int.add_assoc]
            exact this
          unfold wlX8_sum_288
          have cases : (x1 = -1 ∧ w = 3) ∨ (x1 = 0 ∧ w = 0) ∨ (x1 = 1 ∧ w = 1) ∨ (x1 = 2 ∧ w = 2) := by omega
          rcases cases with ⟨rfl, rfl⟩ | ⟨rfl, rfl⟩ | ⟨rfl, rfl⟩ | ⟨rfl, rfl⟩
          · exact ⟨fun z => absurd z (by decide), fun _ y1 ey => nx y1 (by rw [ey]; rfl)⟩
          · exact ⟨fun _ => ⟨fun z => absurd rfl z, fun _ y1 ey => nx y1 (by rw [ey]; rfl)⟩, fun z => absurd (by decide) z⟩
          · exact ⟨fun _ => ⟨fun _ => ⟨fun z => absurd rfl z, fun _ y1 ey => nx y1 (by rw [ey]; rfl)⟩, fun z => absurd z (by decide)⟩, fun z => absurd (by decide) z⟩
          · exact ⟨fun _ => ⟨fun _ => ⟨fun _ y1 ey => nx y1 (by rw [ey]; rfl), fun z => absurd (by decide) z⟩, fun z => absurd z (by decide)⟩, fun z => absurd (by decide) z⟩
      have := inner _ 0 rfl (by omega)
      rw [show fan (MP σ) w (cor σ f) 0 = 0 from rfl, Int.add_zero] at this
      exact this
  exact ⟨_, lp _ 0 rfl (by omega)⟩
/-- how many corners -/
noncomputable def cnC (C : Nat → Prop) : Nat → Int := tot (fun p => ind (C p) 1)
theorem cnC_bd (C : Nat → Prop) (n : Nat) : 0 ≤ cnC C n ∧ cnC C n ≤ n := by
  induction n with
  | zero => exact ⟨Int.le_refl _, Int.le_refl _⟩
  | succ n ih =>
    unfold cnC at *
    unfold tot
    rcases Classical.em (C n) with w | w
    · rw [ind_pos w]; omega
    · rw [ind_neg w]; omega
theorem cnC_more {C : Nat → Prop} {n : Nat} (h : ∀ p, n ≤ p → ¬ C p) (k : Nat) : cnC C (n + k) = cnC C n := by
  induction k with
  | zero => rfl
  | succ k ih =>
    show tot (fun p => ind (C p) 1) (n + k) + ind (C (n + k)) 1 = _
    rw [ind_neg (h _ (by omega)), Int.add_zero]
    exact ih
theorem cnI_cnC {C : Nat → Prop} {r : Nat → Int} : ∀ n, (∀ a, a < n → (r a = 0 ∨ r a = 1) ∧ (r a = 1 ↔ C a)) → cnI r n = cnC C n := by
  intro n
  induction n with
  | zero => intro _; rfl
  | succ n ih =>
    intro h
    have i := ih (fun a ha => h a (by omega))
    obtain ⟨h1, h2⟩ := h n (by omega)
    show cnI r n + _ = tot (fun p => ind (C p) 1) n + ind (C n) 1
    rw [i]
    rcases Classical.em (C n) with w | w
    · rw [ind_pos w, if_neg (by have := h2.mpr w; omega)]; rfl
    · rw [ind_neg w, if_pos (by
        rcases h1 with z | z
        · exact z
        · exact absurd (h2.mp z) w)]
      rfl
theorem f_count28 {P : Int → Tab → Prop} {x1 : Int} (h : MSp σ N fc sz co nn off m) (hP : ∀ k, wlX8_count_28 P (k + 1) x1 (cnC (icn fc sz co) N) N σ) : ∃ k, wlX8_count_28 P k x1 0 0 σ := by
  have hN := h.2.1
  have iN : inI (N : Int) := inI_sm ⟨by omega, by omega⟩
  have lp : ∀ (q p : Nat), N - p = q → p ≤ N → wlX8_count_28 P (q + 1) x1 (cnC (icn fc sz co) p) p σ := by
    intro q
    induction q with
    | zero =>
      intro p e1 e2
      have : p = N := by omega
      subst this
      exact hP 0
    | succ q ih =>
      intro p e1 e2
      unfold wlX8_count_28
      rw [h.1, ic]
      refine ⟨inI_sm ⟨by omega, by omega⟩, iN, fun z => by omega, fun _ => ?_⟩
      refine f_isCorner8 h (by omega) (fun hc => ?_) (fun hc => ?_)
      · refine ⟨⟨by decide, by decide⟩, fun z => absurd z (by decide), fun _ => ?_⟩
        have := ih (p + 1) (by omega) (by omega)
        have e : cnC (icn fc sz co) (p + 1) = cnC (icn fc sz co) p + 1 := by
          show tot _ p + ind _ 1 = _
          rw [ind_pos hc]; rfl
        rw [e] at this
        exact this
      · refine ⟨⟨by decide, by decide⟩, fun _ => ?_, fun z => absurd rfl z⟩
        have := ih (p + 1) (by omega) (by omega)
        have e : cnC (icn fc sz co) (p + 1) = cnC (icn fc sz co) p := by
          show tot _ p + ind _ 1 = _
          rw [ind_neg hc, Int.add_zero]; rfl
        rw [e] at this
        exact this
  exact ⟨_, lp _ 0 rfl (by omega)⟩
end GD

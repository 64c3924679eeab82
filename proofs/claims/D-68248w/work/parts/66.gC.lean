/-! SUMS over the faces -/
section GC
def tot (s : Nat → Int) : Nat → Int
  | 0 => 0
  | n + 1 => tot s n + s n
theorem tot_congr {s s' : Nat → Int} {n : Nat} (h : ∀ i, i < n → s i = s' i) : tot s n = tot s' n := by
  induction n with
  | zero => rfl
  | succ n ih => unfold tot; rw [ih (fun i hi => h i (by omega)), h n (by omega)]
theorem tot_pt {f g : Nat → Int} {u : Nat} {x : Int} (M : Nat) (hne : ∀ v, v ≠ u → f v = g v) (hu : f u = g u + x) : tot f M = tot g M + if u < M then x else 0 := by
  induction M with
  | zero => rfl
  | succ M ih =>
    unfold tot
    rw [ih]
    by_cases e : M = u
    · subst e
      rw [hu, if_neg (by omega), if_pos (by omega)]
      omega
    · rw [hne M e]
      by_cases q : u < M
      · rw [if_pos q, if_pos (by omega)]; omega
      · rw [if_neg q, if_neg (by omega)]; omega
noncomputable def ind (A : Prop) (x : Int) : Int := @ite _ A (Classical.propDecidable A) x 0
theorem ind_pos {A : Prop} {x : Int} (h : A) : ind A x = x := by unfold ind; exact if_pos h
theorem ind_neg {A : Prop} {x : Int} (h : ¬ A) : ind A x = 0 := by unfold ind; exact if_neg h
theorem ind_congr {A B : Prop} {x : Int} (h : A ↔ B) : ind A x = ind B x := by rw [show A = B from propext h]
theorem tot_zero {s : Nat → Int} {n : Nat} (h : ∀ i, i < n → s i = 0) : tot s n = 0 := by
  induction n with
  | zero => rfl
  | succ n ih => unfold tot; rw [ih (fun i hi => h i (by omega)), h n (by omega)]; rfl
theorem perm_tot {s : Nat → Int} {n : Nat} {p : Nat → Nat} (hp : ∀ k, k < n → p k < n) (hi : ∀ i j, i < j → j < n → p i ≠ p j) : tot (fun k => s (p k)) n = tot s n := by
  have key : ∀ k, k ≤ n → tot (fun k => s (p k)) k = tot (fun v => ind (∃ i, i < k ∧ p i = v) (s v)) n := by
    intro k
    induction k with
    | zero =>
      intro _
      rw [tot_zero (s := fun v => ind (∃ i, i < 0 ∧ p i = v) (s v)) (fun v _ => ind_neg (fun ⟨i, hi, _⟩ => absurd hi (Nat.not_lt_zero _)))]
      rfl
    | succ k ih =>
      intro hk
      have := tot_pt (f := fun v => ind (∃ i, i < k + 1 ∧ p i = v) (s v)) (g := fun v => ind (∃ i, i < k ∧ p i = v) (s v)) (u := p k) (x := s (p k)) n (fun v hv => by
        refine ind_congr ⟨?_, ?_⟩
        · rintro ⟨i, h1, h2⟩
          refine ⟨i, ?_, h2⟩
          rcases Nat.lt_or_ge i k with w | w
          · exact w
          · have : i = k := by omega
            subst this
            exact absurd h2.symm hv
        · rintro ⟨i, h1, h2⟩
          exact ⟨i, by omega, h2⟩) (by
        rw [ind_pos ⟨k, by omega, rfl⟩, ind_neg (fun ⟨i, h1, h2⟩ => hi i k h1 (by omega) h2)]
        omega)
      rw [this, if_pos (hp k (by omega)), ← ih (by omega)]
      rfl
  rw [key n (Nat.le_refl _)]
  exact tot_congr (fun v hv => ind_pos (inj_surj hp hi hv))
/-- one tetrahedron's part -/
def wt3 (Q : Nat → V3) (w a b c : Nat) : Int := if w = 3 then 1 else if w = 0 then (Q a).1 + (Q b).1 + (Q c).1 else if w = 1 then (Q a).2.1 + (Q b).2.1 + (Q c).2.1 else (Q a).2.2 + (Q b).2.2 + (Q c).2.2
def tm (Q : Nat → V3) (w a b c : Nat) : Int := tp (Q a) (Q b) (Q c) * wt3 Q w a b c
def fan (Q : Nat → V3) (w : Nat) (co : Nat → Nat) : Nat → Int
  | 0 => 0
  | k + 1 => fan Q w co k + tm Q w (co 0) (co (k + 1)) (co (k + 2))
theorem tm_congr {Q Q' : Nat → V3} {w a b c : Nat} (ha : Q a = Q' a) (hb : Q b = Q' b) (hc : Q c = Q' c) : tm Q w a b c = tm Q' w a b c := by unfold tm wt3; rw [ha, hb, hc]
theorem fan_congr {Q Q' : Nat → V3} {w N : Nat} {co co' : Nat → Nat} (e : ∀ i, i < N → Q i = Q' i) {n : Nat} (h : ∀ i, i < n + 2 → co i = co' i ∧ co i < N) : fan Q w co n = fan Q' w co' n := by
  induction n with
  | zero => rfl
  | succ n ih =>
    unfold fan
    rw [ih (fun i hi => h i (by omega)), ← (h 0 (by omega)).1, ← (h (n + 1) (by omega)).1, ← (h (n + 2) (by omega)).1, tm_congr (e _ (h 0 (by omega)).2) (e _ (h (n + 1) (by omega)).2) (e _ (h (n + 2) (by omega)).2)]
def momI (Q : Nat → V3) (w fc : Nat) (sz : Nat → Nat) (co : Nat → Nat → Nat) : Int := tot (fun j => fan Q w (co j) (sz j - 2)) fc
variable {σ : Tab} {g N fc m : Nat} {sz : Nat → Nat} {co : Nat → Nat → Nat} {nn : Nat → V3} {off : Nat → Int}
theorem momI_pts {Q Q' : Nat → V3} {w : Nat} (e : ∀ i, i < N → Q i = Q' i) (h : FamOK Q N fc sz co nn off) : momI Q w fc sz co = momI Q' w fc sz co := by
  refine tot_congr (fun j hj => fan_congr (N := N) e (fun i hi => ⟨rfl, ?_⟩))
  have f := h.1 j hj
  have := f.2.2.1
  exact (f.2.2.2.1 i (by omega)).1
theorem f_moment {P : Int → Tab → Prop} {w : Nat} (hw : w ≤ 3) (h : HSp σ g N fc sz co nn off m) (hP : P (momI (PD σ g) w fc sz co) σ) : wpX2_moment g w σ P := by
  obtain ⟨-, hp, ⟨h13, h44, hFP, hT⟩, -, -, hF, -, -, -, -, -⟩ := h
  have hN := hp.1
  have iF : inI (fc : Int) := inI_sm ⟨by omega, by omega⟩
  have pI : ∀ i, i < N → inI (σ g 13 i 0) ∧ inI (σ g 13 i 1) ∧ inI (σ g 13 i 2) := by
    intro i hi
    obtain ⟨⟨a1, a2⟩, ⟨a3, a4⟩, a5, a6⟩ := hp.2.1 i hi
    simp only [PD, v3] at a1 a2 a3 a4 a5 a6
    exact ⟨inI_sm ⟨by omega, by omega⟩, inI_sm ⟨by omega, by omega⟩, inI_sm ⟨by omega, by omega⟩⟩
  have lp : ∀ (q j : Nat), fc - j = q → j ≤ fc → wlX2_moment_5 g P (q + 1) w (tot (fun j => fan (PD σ g) w (co j) (sz j - 2)) j) j σ := by
    intro q
    induction q with
    | zero =>
      intro j e1 e2
      have : j = fc := by omega
      subst this
      unfold wlX2_moment_5
      rw [h13]
      exact ⟨iF, iF, fun _ => hP, fun z => by omega⟩
    | succ q ih =>
      intro j e1 e2
      obtain ⟨t1, t2, t3, t4⟩ := hT j (by omega)
      have s3 := (hF.1 j (by omega)).2.2.1
      have cN : ∀ i, i < sz j → co j i < N := fun i hi => ((hF.1 j (by omega)).2.2.2.1 i hi).1
      have c0 := t4 0 (by omega)
      unfold wlX2_moment_5
      have ex : (σ g 3 0 j).toNat = fxs σ g j := rfl
      rw [h13, Int.toNat_natCast, ex, c0.1, Int.toNat_natCast]
      refine ⟨inI_sm ⟨by omega, by omega⟩, iF, fun z => by omega, fun _ => ⟨⟨by omega, by omega⟩, hFP.1 j (by omega), ⟨by omega, by omega⟩, sz j - 2 + 1, ?_⟩⟩
      have inner : ∀ (e k : Nat), sz j - 2 - k = e → k ≤ sz j - 2 → wlX2_moment_40 g P (fun x1 x2 x4 τ => wlX2_moment_5 g P (q + 1) x1 x2 x4 τ) (e + 1) w (tot (fun j => fan (PD σ g) w (co j) (sz j - 2)) j + fan (PD σ g) w (co j) k) j (fxs σ g j) (co j 0) ((k + 1 : Nat) : Int) σ := by
        intro e
        induction e with
        | zero =>
          intro k g1 g2
          have : k = sz j - 2 := by omega
          subst this
          unfold wlX2_moment_40
          rw [t1, ic, ic]
          refine ⟨inI_sm ⟨by omega, by omega⟩, inI_sm ⟨by omega, by omega⟩, fun _ => ?_, fun z => by omega⟩
          exact ih (j + 1) (by omega) (by omega)
        | succ e ihe =>
          intro k g1 g2
          have c1 := t4 (k + 1) (by omega)
          have c2 := t4 (k + 1 + 1) (by omega)
          unfold wlX2_moment_40
          rw [t1, ic, Int.toNat_natCast, Int.toNat_natCast, c1.1, c2.1, Int.toNat_natCast, Int.toNat_natCast]
          have a0 := pI (co j 0) (cN _ (by omega))
          have a1 := pI (co j (k + 1)) (cN _ (by omega))
          have a2 := pI (co j (k + 1 + 1)) (cN _ (by omega))
          refine ⟨inI_sm ⟨by omega, by omega⟩, inI_sm ⟨by omega, by omega⟩, fun z => by omega, fun _ => ⟨⟨by omega, by omega⟩, ⟨by omega, by omega⟩, ⟨by omega, by omega⟩, ⟨by omega, by omega⟩, ?_⟩⟩
          unfold wpX2_tetrahedron
          refine ⟨a0.2.1, a1.2.2, a0.2.2, a1.2.1, fun y5 e5 => ⟨a1.1, a0.1, fun y8 e8 y9 e9 => ⟨a2.1, a2.2.1, a2.2.2, inI_sm ⟨by omega, by omega⟩, fun z => ?_, fun z => ?_⟩⟩⟩
          · have et : y5 * σ g 13 (co j (k + 1 + 1)) 0 + y8 * σ g 13 (co j (k + 1 + 1)) 1 + y9 * σ g 13 (co j (k + 1 + 1)) 2 = tp (PD σ g (co j 0)) (PD σ g (co j (k + 1))) (PD σ g (co j (k + 1 + 1))) := by rw [e5, e8, e9]; rfl
            rw [et]
            unfold wpX4_get
            have nx : ∀ y17, y17 = tot (fun j => fan (PD σ g) w (co j) (sz j - 2)) j + fan (PD σ g) w (co j) k + tp (PD σ g (co j 0)) (PD σ g (co j (k + 1))) (PD σ g (co j (k + 1 + 1))) * wt3 (PD σ g) w (co j 0) (co j (k + 1)) (co j (k + 1 + 1)) → wlX2_moment_40 g P (fun x1 x2 x4 τ => wlX2_moment_5 g P (q + 1) x1 x2 x4 τ) (e + 1) w y17 j (fxs σ g j) (co j 0) ((k + 1 + 1 : Nat) : Int) σ := by
              intro y17 e17
              have := ihe (k + 1) (by omega) (by omega)
              rw [e17, Int.add_assoc]
              exact this
            have cases : w = 0 ∨ w = 1 ∨ w = 2 := by omega
            rcases cases with rfl | rfl | rfl
            · refine ⟨⟨by decide, by decide⟩, fun z => absurd (by decide) z, fun _ => ⟨a0.1, ⟨by decide, by decide⟩, fun z => absurd (by decide) z, fun _ => ⟨a1.1, ⟨by decide, by decide⟩, fun z => absurd (by decide) z, fun _ => ⟨a2.1, fun y17 e17 => nx y17 (by rw [e17]; rfl)⟩⟩⟩⟩
            · refine ⟨⟨by decide, by decide⟩, fun _ => ⟨fun z => absurd (by decide) z, fun _ => ⟨a0.2.1, ⟨by decide, by decide⟩, fun _ => ⟨fun z => absurd (by decide) z, fun _ => ⟨a1.2.1, ⟨by decide, by decide⟩, fun _ => ⟨fun z => absurd (by decide) z, fun _ => ⟨a2.2.1, fun y17 e17 => nx y17 (by rw [e17]; rfl)⟩⟩, fun z => absurd (by decide) z⟩⟩, fun z => absurd (by decide) z⟩⟩, fun z => absurd (by decide) z⟩
            · refine ⟨⟨by decide, by decide⟩, fun _ => ⟨fun _ => ⟨a0.2.2, ⟨by decide, by decide⟩, fun _ => ⟨fun _ => ⟨a1.2.2, ⟨by decide, by decide⟩, fun _ => ⟨fun _ => ⟨a2.2.2, fun y17 e17 => nx y17 (by rw [e17]; rfl)⟩, fun z => absurd (by decide) z⟩, fun z => absurd (by decide) z⟩, fun z => absurd (by decide) z⟩, fun z => absurd (by decide) z⟩, fun z => absurd (by decide) z⟩, fun z => absurd (by decide) z⟩
          · have w3 : w = 3 := by omega
            subst w3
            have := ihe (k + 1) (by omega) (by omega)
            have et : y5 * σ g 13 (co j (k + 1 + 1)) 0 + y8 * σ g 13 (co j (k + 1 + 1)) 1 + y9 * σ g 13 (co j (k + 1 + 1)) 2 = tm (PD σ g) 3 (co j 0) (co j (k + 1)) (co j (k + 1 + 1)) := by
              rw [e5, e8, e9]
              unfold tm wt3
              rw [if_pos rfl, Int.mul_one]
              rfl
            rw [et, Int.add_assoc]
            exact this
      have := inner _ 0 rfl (by omega)
      rw [show fan (PD σ g) w (co j) 0 = 0 from rfl, Int.add_zero] at this
      exact this
  have := lp _ 0 rfl (by omega)
  exact ⟨_, this⟩
end GC

/-! THE VOLUME is not zero -/
section GH
variable {Q : Nat → V3} {N fc : Nat} {sz : Nat → Nat} {co : Nat → Nat → Nat} {nn : Nat → V3} {off : Nat → Int} {T : Nat → Nat → Nat → Prop}
def Xo (Q : Nat → V3) (o a : Nat) : V3 := sb (Q a) (Q o)
def Gv (Q : Nat → V3) (o a b : Nat) : Int := tp (Xo Q o a) (Xo Q o b) (Q o)
theorem Gv_as (o a b : Nat) : Gv Q o b a = - Gv Q o a b := by simp only [Gv, Xo, tp, dt, cr, sb]; grind
theorem tp_sh (o a b c : Nat) : tp (Q a) (Q b) (Q c) = tp (Xo Q o a) (Xo Q o b) (Xo Q o c) + Gv Q o a b + Gv Q o b c + Gv Q o c a := by simp only [Gv, Xo, tp, dt, cr, sb]; grind
theorem tp_VV (o a b c : Nat) : tp (Xo Q o a) (Xo Q o b) (Xo Q o c) = - VV Q a b c o := by simp only [VV, Xo, tp, dt, cr, sb]; grind
def fanX (Q : Nat → V3) (o : Nat) (co : Nat → Nat) : Nat → Int
  | 0 => 0
  | k + 1 => fanX Q o co k - VV Q (co 0) (co (k + 1)) (co (k + 2)) o
theorem fan_sh (o : Nat) (co : Nat → Nat) (n : Nat) : fan Q 3 co n = fanX Q o co n + tot (fun i => Gv Q o (co i) (co (i + 1))) (n + 1) + Gv Q o (co (n + 1)) (co 0) := by
  induction n with
  | zero =>
    show 0 = 0 + (0 + Gv Q o (co 0) (co 1)) + Gv Q o (co 1) (co 0)
    rw [Gv_as o (co 0) (co 1)]
    omega
  | succ n ih =>
    have e1 : fan Q 3 co (n + 1) = fan Q 3 co n + tp (Q (co 0)) (Q (co (n + 1))) (Q (co (n + 2))) := by
      show fan Q 3 co n + tm Q 3 _ _ _ = _
      unfold tm wt3
      rw [if_pos rfl, Int.mul_one]
    have e2 : fanX Q o co (n + 1) = fanX Q o co n - VV Q (co 0) (co (n + 1)) (co (n + 2)) o := rfl
    have e3 : tot (fun i => Gv Q o (co i) (co (i + 1))) (n + 1 + 1) = tot (fun i => Gv Q o (co i) (co (i + 1))) (n + 1) + Gv Q o (co (n + 1)) (co (n + 2)) := rfl
    rw [e1, e2, e3, ih, tp_sh o, tp_VV, Gv_as o (co 0) (co (n + 1))]
    have e4 : co (n + 1 + 1) = co (n + 2) := rfl
    rw [e4]
    omega
theorem cyc_tot (f : Nat → Nat → Int) (co : Nat → Nat) {s : Nat} (hs : 3 ≤ s) : tot (fun i => f (co i) (co (i + 1))) (s - 2 + 1) + f (co (s - 2 + 1)) (co 0) = tot (fun i => f (co i) (co ((i + 1) % s))) s := by
  obtain ⟨t, rfl⟩ : ∃ t, s = t + 3 := ⟨s - 3, by omega⟩
  have e : t + 3 - 2 + 1 = t + 2 := by omega
  rw [e]
  show _ = tot _ (t + 2) + f (co (t + 2)) (co ((t + 2 + 1) % (t + 3)))
  rw [show (t + 2 + 1) % (t + 3) = 0 from Nat.mod_self _]
  congr 1
  refine tot_congr (fun i hi => ?_)
  rw [Nat.mod_eq_of_lt (by omega)]
theorem tot_add (f f' : Nat → Int) (n : Nat) : tot (fun i => f i + f' i) n = tot f n + tot f' n := by
  induction n with
  | zero => rfl
  | succ n ih => unfold tot; rw [ih]; omega
theorem tot_neg (f : Nat → Int) (n : Nat) : tot (fun i => - f i) n = - tot f n := by
  induction n with
  | zero => rfl
  | succ n ih => unfold tot; rw [ih]; omega
theorem tot_nn {f : Nat → Int} {n : Nat} (h : ∀ i, i < n → 0 ≤ f i) : 0 ≤ tot f n := by
  induction n with
  | zero => exact Int.le_refl _
  | succ n ih =>
    have := ih (fun i hi => h i (by omega))
    have := h n (by omega)
    unfold tot
    omega
theorem tot_ps {f : Nat → Int} {n : Nat} (h : ∀ i, i < n → 0 ≤ f i) (hn : 0 < n) (h0 : 0 < f 0) : 0 < tot f n := by
  induction n with
  | zero => omega
  | succ n ih =>
    unfold tot
    by_cases e : n = 0
    · subst e; show 0 < 0 + f 0; omega
    · have := ih (fun i hi => h i (by omega)) (by omega)
      have := h n (by omega)
      omega
/-- each directed edge once: what turns its sign with the edge adds up to zero -/
theorem edge_zero (H : Hul Q N (fun q => q < N) T) (hinj : ∀ a b, a < N → b < N → Q a = Q b → a = b) (hN : N ≤ 24) (h : FamOK Q N fc sz co nn off) (f : Nat → Nat → Int) (hf : ∀ a b, f b a = - f a b) : tot (fun j => tot (fun i => f (co j i) (co j ((i + 1) % sz j))) (sz j)) fc = 0 := by
  have step : ∀ j, j < fc → ∀ i, i ≤ sz j → tot (fun c => ind (doneE fc sz co j 0 (c / 32) (c % 32)) (f (c / 32) (c % 32))) 1024 + tot (fun i => f (co j i) (co j ((i + 1) % sz j))) i = tot (fun c => ind (doneE fc sz co j i (c / 32) (c % 32)) (f (c / 32) (c % 32))) 1024 := by
    intro j hj i
    induction i with
    | zero => intro _; exact Int.add_zero _
    | succ i ih =>
      intro hi
      obtain ⟨a1, a2, a3, a4, a5, a6, -, -⟩ := h.1 j hj
      have lt := Nat.mod_lt (i + 1) (show 0 < sz j by omega)
      have c1 := (a4 i (by omega)).1
      have c2 := (a4 _ lt).1
      have q := tot_pt (f := fun c => ind (doneE fc sz co j (i + 1) (c / 32) (c % 32)) (f (c / 32) (c % 32))) (g := fun c => ind (doneE fc sz co j i (c / 32) (c % 32)) (f (c / 32) (c % 32))) (u := 32 * co j i + co j ((i + 1) % sz j)) (x := f (co j i) (co j ((i + 1) % sz j))) 1024 (fun v hv => by
        refine ind_congr ⟨?_, ?_⟩
        · rintro ⟨j', i', q1, q2, q3, q4, q5⟩
          refine ⟨j', i', ?_, q2, q3, q4, q5⟩
          rcases q1 with w | ⟨w1, w2⟩
          · exact Or.inl w
          · refine Or.inr ⟨w1, ?_⟩
            rcases Nat.lt_or_ge i' i with z | z
            · exact z
            · have : i' = i := by omega
              subst this
              subst w1
              exact absurd (by omega) hv
        · rintro ⟨j', i', q1, q⟩
          exact ⟨j', i', by omega, q⟩) (by
        have d1 : (32 * co j i + co j ((i + 1) % sz j)) / 32 = co j i := by omega
        have d2 : (32 * co j i + co j ((i + 1) % sz j)) % 32 = co j ((i + 1) % sz j) := by omega
        show ind (doneE fc sz co j (i + 1) ((32 * co j i + co j ((i + 1) % sz j)) / 32) ((32 * co j i + co j ((i + 1) % sz j)) % 32)) (f ((32 * co j i + co j ((i + 1) % sz j)) / 32) ((32 * co j i + co j ((i + 1) % sz j)) % 32)) = ind (doneE fc sz co j i ((32 * co j i + co j ((i + 1) % sz j)) / 32) ((32 * co j i + co j ((i + 1) % sz j)) % 32)) (f ((32 * co j i + co j ((i + 1) % sz j)) / 32) ((32 * co j i + co j ((i + 1) % sz j)) % 32)) + _
        rw [d1, d2, ind_pos ⟨j, i, Or.inr ⟨rfl, by omega⟩, hj, by omega, rfl, rfl⟩, ind_neg ?_]
        · omega
        · rintro ⟨j', i', q1, q2, q3, q4, q5⟩
          have ej := dEj_uniq H hinj h q2 hj ⟨i', q3, q4, q5⟩ ⟨i, by omega, rfl, rfl⟩
          subst ej
          rcases q1 with w | ⟨_, w⟩
          · omega
          · exact a6 i' i w (by omega) q4)
      rw [q, if_pos (by omega), ← ih (by omega), Int.add_assoc]
      rfl
  have all : ∀ j, j ≤ fc → tot (fun j => tot (fun i => f (co j i) (co j ((i + 1) % sz j))) (sz j)) j = tot (fun c => ind (doneE fc sz co j 0 (c / 32) (c % 32)) (f (c / 32) (c % 32))) 1024 := by
    intro j
    induction j with
    | zero =>
      intro _
      rw [tot_zero (s := fun c => ind (doneE fc sz co 0 0 (c / 32) (c % 32)) (f (c / 32) (c % 32))) (fun c _ => ind_neg (fun ⟨j', i', q1, _⟩ => by omega))]
      rfl
    | succ j ih =>
      intro hj
      have s := step j (by omega) (sz j) (Nat.le_refl _)
      rw [← ih (by omega)] at s
      show tot _ j + tot _ (sz j) = _
      rw [s]
      refine tot_congr (fun c _ => ind_congr ⟨?_, ?_⟩)
      · rintro ⟨j', i', q1, q⟩; exact ⟨j', i', by omega, q⟩
      · rintro ⟨j', i', q1, q2, q3, q⟩
        refine ⟨j', i', ?_, q2, q3, q⟩
        rcases q1 with w | ⟨_, w⟩
        · by_cases e : j' = j
          · subst e; exact Or.inr ⟨rfl, q3⟩
          · exact Or.inl (by omega)
        · omega
  rw [all fc (Nat.le_refl _)]
  have dd : ∀ a b, doneE fc sz co fc 0 a b ↔ dE fc sz co a b := by
    intro a b
    constructor
    · rintro ⟨j, i, _, hj, hi, e1, e2⟩
      exact ⟨j, hj, i, hi, e1, e2⟩
    · rintro ⟨j, hj, i, hi, e1, e2⟩
      exact ⟨j, i, Or.inl hj, hj, hi, e1, e2⟩
  have p := perm_tot (s := fun c => ind (doneE fc sz co fc 0 (c / 32) (c % 32)) (f (c / 32) (c % 32))) (n := 1024) (p := fun c => 32 * (c % 32) + c / 32) (fun k hk => by omega) (fun i j hij hj e => by omega)
  have e : tot (fun k => ind (doneE fc sz co fc 0 ((32 * (k % 32) + k / 32) / 32) ((32 * (k % 32) + k / 32) % 32)) (f ((32 * (k % 32) + k / 32) / 32) ((32 * (k % 32) + k / 32) % 32))) 1024 = - tot (fun c => ind (doneE fc sz co fc 0 (c / 32) (c % 32)) (f (c / 32) (c % 32))) 1024 := by
    rw [← tot_neg]
    refine tot_congr (fun k hk => ?_)
    have d1 : (32 * (k % 32) + k / 32) / 32 = k % 32 := by omega
    have d2 : (32 * (k % 32) + k / 32) % 32 = k / 32 := by omega
    rw [d1, d2]
    rcases Classical.em (dE fc sz co (k / 32) (k % 32)) with w | w
    · rw [ind_pos ((dd _ _).mpr w), ind_pos ((dd _ _).mpr (dE_sym H hinj h w)), hf]
    · rw [ind_neg (fun z => w ((dd _ _).mp z)), ind_neg (fun z => w (dE_sym H hinj h ((dd _ _).mp z)))]
      rfl
  have p2 : tot (fun k => ind (doneE fc sz co fc 0 ((32 * (k % 32) + k / 32) / 32) ((32 * (k % 32) + k / 32) % 32)) (f ((32 * (k % 32) + k / 32) / 32) ((32 * (k % 32) + k / 32) % 32))) 1024 = _ := p
  rw [e] at p2
  omega
theorem vol_pos (H : Hul Q N (fun q => q < N) T) (hinj : ∀ a b, a < N → b < N → Q a = Q b → a = b) (hN : N ≤ 24) (h : FamOK Q N fc sz co nn off) (h1 : 1 ≤ fc) : 0 < momI Q 3 fc sz co := by
  -- a point under the first face
  obtain ⟨o, ho, hlt⟩ : ∃ o, o < N ∧ dt (nn 0) (Q o) < off 0 := by
    have f0 := (h.1 0 (by omega)).2.1
    obtain ⟨v, a, b, t, hv⟩ := H.top f0
    obtain ⟨x, y, t1, hx, hy, _, _⟩ := H.goOn_first f0 t hv
    obtain ⟨q, hq, hV⟩ := H.str t1
    refine ⟨q, hq, ?_⟩
    have := f0.2.1 q hq
    rcases Decidable.em (dt (nn 0) (Q q) = off 0) with w | w
    · exfalso
      have z := Hul.tp0 f0 hv hx hy w
      unfold VV at hV
      omega
    · omega
  -- the triangles of a face
  have tri : ∀ j, j < fc → ∀ k, k + 2 < sz j → 0 ≤ LL Q (nn j) (co j 0) (co j (k + 1)) (co j (k + 2)) := by
    intro j hj k hk
    obtain ⟨a1, a2, a3, a4, a5, a6, -, -⟩ := h.1 j hj
    have g := a5 (k + 1) (by omega)
    rw [Nat.mod_eq_of_lt (show k + 1 + 1 < sz j by omega)] at g
    have c0 := a4 0 (by omega)
    have r := g.2 (co j 0) c0.1 c0.2 (a6 0 (k + 1) (by omega) (by omega)) (a6 0 (k + 1 + 1) (by omega) (by omega))
    have e : LL Q (nn j) (co j (k + 1)) (co j (k + 2)) (co j 0) = LL Q (nn j) (co j 0) (co j (k + 1)) (co j (k + 2)) := by simp only [LL, tp, dt, cr, sb]; grind
    have r' : 0 < LL Q (nn j) (co j (k + 1)) (co j (k + 2)) (co j 0) ∨ (LL Q (nn j) (co j (k + 1)) (co j (k + 2)) (co j 0) = 0 ∧ bt3 Q (co j (k + 1)) (co j (k + 2)) (co j 0) < 0) := r
    rw [← e]
    omega
  have vv : ∀ j, j < fc → ∀ k, k + 2 < sz j → dt (nn j) (nn j) * VV Q (co j 0) (co j (k + 1)) (co j (k + 2)) o = LL Q (nn j) (co j 0) (co j (k + 1)) (co j (k + 2)) * (dt (nn j) (Q o) - off j) := by
    intro j hj k hk
    obtain ⟨a1, a2, a3, a4, a5, a6, -, -⟩ := h.1 j hj
    have c0 := a4 0 (by omega)
    have c1 := a4 (k + 1) (by omega)
    have c2 := a4 (k + 2) (by omega)
    have p := perp3 (inp_perp c1.2 c0.2) (inp_perp c2.2 c0.2) (sb (Q o) (Q (co j 0)))
    unfold VV LL
    rw [p, dt_sb, c0.2]
  have nonneg : ∀ j, j < fc → ∀ k, k + 2 < sz j → VV Q (co j 0) (co j (k + 1)) (co j (k + 2)) o ≤ 0 := by
    intro j hj k hk
    have a := vv j hj k hk
    have b := tri j hj k hk
    have f := (h.1 j hj).2.1
    have c := f.2.1 o ho
    have n := dt_pos (nn j) f.1
    have m := Int.mul_nonneg b (show 0 ≤ off j - dt (nn j) (Q o) by omega)
    have e : LL Q (nn j) (co j 0) (co j (k + 1)) (co j (k + 2)) * (dt (nn j) (Q o) - off j) = - (LL Q (nn j) (co j 0) (co j (k + 1)) (co j (k + 2)) * (off j - dt (nn j) (Q o))) := by grind
    rw [e] at a
    have := nonneg_of_mul (G := dt (nn j) (nn j)) (x := - VV Q (co j 0) (co j (k + 1)) (co j (k + 2)) o) n (by
      have e2 : dt (nn j) (nn j) * - VV Q (co j 0) (co j (k + 1)) (co j (k + 2)) o = - (dt (nn j) (nn j) * VV Q (co j 0) (co j (k + 1)) (co j (k + 2)) o) := by grind
      rw [e2, a]; omega)
    omega
  have fnn : ∀ j, j < fc → ∀ k, k + 2 ≤ sz j → 0 ≤ fanX Q o (co j) k := by
    intro j hj k
    induction k with
    | zero => intro _; exact Int.le_refl _
    | succ k ih =>
      intro hk
      have a := ih (by omega)
      have b := nonneg j hj k (by omega)
      show 0 ≤ fanX Q o (co j) k - _
      omega
  have fps : ∀ k, k + 3 ≤ sz 0 → 0 < fanX Q o (co 0) (k + 1) := by
    intro k
    induction k with
    | zero =>
      intro hk
      have f := (h.1 0 (by omega)).2.1
      have a := vv 0 (by omega) 0 (by omega)
      have b := tri 0 (by omega) 0 (by omega)
      have n := dt_pos (nn 0) f.1
      have hne : LL Q (nn 0) (co 0 0) (co 0 (0 + 1)) (co 0 (0 + 2)) ≠ 0 := by
        intro z
        obtain ⟨a1, a2, a3, a4, a5, a6, -, -⟩ := h.1 0 (by omega)
        have v : ∀ i, i < sz 0 → vtx T (co 0 i) := fun i hi => (icn_vtx H hinj h).mp ⟨0, i, by omega, hi, rfl⟩
        have nc := H.ncol (v 0 (by omega)) (v (0 + 1) (by omega)) (v (0 + 2) (by omega)) (a6 0 (0 + 1) (by omega) (by omega)) (a6 0 (0 + 2) (by omega) (by omega)) (a6 (0 + 1) (0 + 2) (by omega) (by omega))
        exact nc (perp_cr f.1 (inp_perp (a4 (0 + 1) (by omega)).2 (a4 0 (by omega)).2) (inp_perp (a4 (0 + 2) (by omega)).2 (a4 0 (by omega)).2) z)
      have m := Int.mul_pos (show 0 < LL Q (nn 0) (co 0 0) (co 0 (0 + 1)) (co 0 (0 + 2)) by omega) (show 0 < off 0 - dt (nn 0) (Q o) by omega)
      have e : LL Q (nn 0) (co 0 0) (co 0 (0 + 1)) (co 0 (0 + 2)) * (dt (nn 0) (Q o) - off 0) = - (LL Q (nn 0) (co 0 0) (co 0 (0 + 1)) (co 0 (0 + 2)) * (off 0 - dt (nn 0) (Q o))) := by grind
      rw [e] at a
      have := pos_of_mul (G := dt (nn 0) (nn 0)) (x := - VV Q (co 0 0) (co 0 (0 + 1)) (co 0 (0 + 2)) o) n (by
        have e2 : dt (nn 0) (nn 0) * - VV Q (co 0 0) (co 0 (0 + 1)) (co 0 (0 + 2)) o = - (dt (nn 0) (nn 0) * VV Q (co 0 0) (co 0 (0 + 1)) (co 0 (0 + 2)) o) := by grind
        rw [e2, a]; omega)
      show 0 < 0 - VV Q (co 0 0) (co 0 (0 + 1)) (co 0 (0 + 2)) o
      omega
    | succ k ih =>
      intro hk
      have a := ih (by omega)
      have b := nonneg 0 (by omega) (k + 1) (by omega)
      show 0 < fanX Q o (co 0) (k + 1) - _
      omega
  have eq : momI Q 3 fc sz co = tot (fun j => fanX Q o (co j) (sz j - 2)) fc + tot (fun j => tot (fun i => Gv Q o (co j i) (co j ((i + 1) % sz j))) (sz j)) fc := by
    rw [← tot_add]
    refine tot_congr (fun j hj => ?_)
    have s3 := (h.1 j hj).2.2.1
    rw [fan_sh o, Int.add_assoc, cyc_tot (fun a b => Gv Q o a b) (co j) (by omega)]
  rw [eq, edge_zero H hinj hN h (fun a b => Gv Q o a b) (fun a b => Gv_as o a b), Int.add_zero]
  have s0 := (h.1 0 (by omega)).2.2.1
  refine tot_ps (fun j hj => fnn j hj _ (by have := (h.1 j hj).2.2.1; omega)) (by omega) ?_
  have := fps (sz 0 - 3) (by omega)
  rw [show sz 0 - 2 = sz 0 - 3 + 1 by omega]
  exact this
end GH

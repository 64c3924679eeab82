/-! THE MODEL: the way around a face -/
section FT
variable {σ : Tab} {v : V3} {m : Nat} {a b c d : Nat → Int} {N : Nat}
theorem MF_base {k j : Nat} {x fc : Int} (h : k ≠ 23 ∧ k ≠ 30 ∧ k ≠ 31 ∧ k ≠ 32 ∧ k ≠ 33) : st (MF σ v fc a b c d) 0 k 0 j x = MF (st σ 0 k 0 j x) v fc a b c d := by
  funext g' k' i' j'
  rw [st_app]
  unfold MF
  rw [st_app]
  by_cases q : g' = 0 ∧ k' = k ∧ i' = 0 ∧ j' = j
  · obtain ⟨rfl, rfl, rfl, rfl⟩ := q
    simp [h]
  · rw [if_neg q, if_neg q]
def nf (a b c : Nat → Int) (f : Nat) : V3 := (a f, b f, c f)
theorem f_in {P : Int → Tab → Prop} {f p : Nat} (hf : f < 64) (hp : p < 24) (hB : B93 (MP σ p)) (hb : bN (a f) ∧ bN (b f) ∧ bN (c f) ∧ bO (d f)) (h1 : dt (nf a b c f) (MP σ p) = d f → P 1 (MF σ v m a b c d)) (h0 : dt (nf a b c f) (MP σ p) ≠ d f → P 0 (MF σ v m a b c d)) : wpX8_in f p (MF σ v m a b c d) P := by
  unfold wpX8_in
  have r27 : MF σ v m a b c d 0 27 0 = σ 0 27 0 := MF_o (by decide) 0 0
  have r28 : MF σ v m a b c d 0 28 0 = σ 0 28 0 := MF_o (by decide) 0 0
  have r29 : MF σ v m a b c d 0 29 0 = σ 0 29 0 := MF_o (by decide) 0 0
  rw [r27, r28, r29, Int.toNat_natCast, Int.toNat_natCast, MF_30, MF_31, MF_32, MF_33]
  obtain ⟨b1, b2, b3, b4⟩ := hb
  obtain ⟨⟨a1, a2⟩, ⟨a3, a4⟩, a5, a6⟩ := hB
  simp only [MP] at a1 a2 a3 a4 a5 a6
  unfold bN at b1 b2 b3
  unfold bO at b4
  have m1 := mul_bd (a := 2097152) (b := 512) b1 (y := σ 0 27 0 p) (by omega) (by decide)
  have m2 := mul_bd (a := 2097152) (b := 512) b2 (y := σ 0 28 0 p) (by omega) (by decide)
  have m3 := mul_bd (a := 2097152) (b := 512) b3 (y := σ 0 29 0 p) (by omega) (by decide)
  refine ⟨⟨by omega, by omega⟩, ⟨by omega, by omega⟩, inL_sm ⟨by omega, by omega⟩, inL_sm ⟨by omega, by omega⟩, fun h => h0 h, fun h => h1 (Decidable.of_not_not h)⟩
theorem f_goesOn {P : Int → Tab → Prop} {f x y : Nat} (hN : N ≤ 24) (hheld : σ 0 23 0 7 = N) (hB : ∀ i, i < N → B93 (MP σ i)) (hf : f < 64) (hx : x < N) (hy : y < N) (hb : bN (a f) ∧ bN (b f) ∧ bN (c f) ∧ bO (d f))
    (h1 : goOn (MP σ) (fun q => q < N) (nf a b c f) (d f) x y → ∀ v', P 1 (MF σ v' m a b c d)) (h0 : ¬ goOn (MP σ) (fun q => q < N) (nf a b c f) (d f) x y → ∀ v', P 0 (MF σ v' m a b c d)) : wpX8_goesOn f x y (MF σ v m a b c d) P := by
  have iN : inI (N : Int) := inI_sm ⟨by omega, by omega⟩
  have iX : inI (x : Int) := inI_sm ⟨by omega, by omega⟩
  have iY : inI (y : Int) := inI_sm ⟨by omega, by omega⟩
  have lp : ∀ (q p : Nat) (ok : Int) (v : V3), N - p = q → p ≤ N → ((ok = 1 ∧ x ≠ y ∧ ∀ i, i < p → dt (nf a b c f) (MP σ i) = d f → i ≠ x → i ≠ y → 0 < LL (MP σ) (nf a b c f) x y i ∨ (LL (MP σ) (nf a b c f) x y i = 0 ∧ bt3 (MP σ) x y i < 0)) ∨ (ok = 0 ∧ ¬ goOn (MP σ) (fun q => q < N) (nf a b c f) (d f) x y)) → wlX8_goesOn_15 P (q + 1) f x y ok p (MF σ v m a b c d) := by
    intro q
    induction q with
    | zero =>
      intro p ok v e1 e2 e3
      have ep : p = N := by omega
      subst ep
      unfold wlX8_goesOn_15
      rw [MF_h (by decide), hheld]
      refine ⟨iN, iN, fun _ => ?_, fun z => by omega⟩
      rcases e3 with ⟨z, w1, w2⟩ | ⟨z, w⟩
      · rw [z]; exact ⟨Or.inr rfl, h1 ⟨w1, w2⟩ v⟩
      · rw [z]; exact ⟨Or.inl rfl, h0 w v⟩
    | succ q ih =>
      intro p ok v e1 e2 e3
      have hok : ok = 0 ∨ ok = 1 := by
        rcases e3 with ⟨z, _⟩ | ⟨z, _⟩
        · exact Or.inr z
        · exact Or.inl z
      unfold wlX8_goesOn_15
      rw [MF_h (by decide), hheld, ic]
      refine ⟨inI_sm ⟨by omega, by omega⟩, iN, fun z => by omega, fun _ => ⟨inI_f hok, fun z => ⟨Or.inl z, ?_⟩, fun z => ?_⟩⟩
      · rcases e3 with ⟨w, _⟩ | ⟨_, w⟩
        · omega
        · rw [z]; exact h0 w v
      · have e3' : ok = 1 ∧ x ≠ y ∧ ∀ i, i < p → dt (nf a b c f) (MP σ i) = d f → i ≠ x → i ≠ y → 0 < LL (MP σ) (nf a b c f) x y i ∨ (LL (MP σ) (nf a b c f) x y i = 0 ∧ bt3 (MP σ) x y i < 0) := by
          rcases e3 with w | ⟨w, _⟩
          · exact w
          · exact absurd w z
        obtain ⟨k1, k2, k3⟩ := e3'
        have nx : ∀ v', (dt (nf a b c f) (MP σ p) = d f → p ≠ x → p ≠ y → 0 < LL (MP σ) (nf a b c f) x y p ∨ (LL (MP σ) (nf a b c f) x y p = 0 ∧ bt3 (MP σ) x y p < 0)) → wlX8_goesOn_15 P (q + 1) f x y 1 ((p + 1 : Nat) : Int) (MF σ v' m a b c d) := by
          intro v' hp
          refine ih (p + 1) 1 v' (by omega) (by omega) (Or.inl ⟨rfl, k2, fun i hi h2 h3 h4 => ?_⟩)
          by_cases e : i = p
          · subst e; exact hp h2 h3 h4
          · exact k3 i (by omega) h2 h3 h4
        rw [k1]
        refine ⟨iX, fun w => nx v (fun _ h3 _ => absurd (by omega) h3), fun w => ⟨iY, fun w' => nx v (fun _ _ h4 => absurd (by omega) h4), fun w' => ?_⟩⟩
        refine f_in hf (by omega) (hB p (by omega)) hb (fun hin => ?_) (fun hin => ?_)
        · refine ⟨⟨by decide, by decide⟩, fun z => absurd z (by decide), fun _ => ?_⟩
          refine f_across (by omega) (by omega) (by omega) ⟨⟨by omega, by omega⟩, fun y17 e17 => ⟨⟨by omega, by omega⟩, ⟨by omega, by omega⟩, ⟨by omega, by omega⟩, fun y21 e21 => ?_⟩⟩
          have l17 : y17 = LL (MP σ) (nf a b c f) x y p := by
            rw [e17, MF_t1, MF_t2, MF_t3, Int.toNat_natCast, MF_30, MF_31, MF_32]
            rfl
          have l21 : y21 = bt3 (MP σ) x y p := by
            rw [e21, Int.toNat_natCast, Int.toNat_natCast, Int.toNat_natCast, MF_o (by decide) 0 0, MF_o (by decide) 0 0, MF_o (by decide) 0 0]
            rfl
          have bd17 : inL y17 := by
            rw [l17]
            obtain ⟨b1, b2, b3, b4⟩ := hb
            unfold bN at b1 b2 b3
            obtain ⟨⟨a1, a2⟩, ⟨a3, a4⟩, a5, a6⟩ := hB x hx
            obtain ⟨⟨c1, c2⟩, ⟨c3, c4⟩, c5, c6⟩ := hB y hy
            obtain ⟨⟨d1, d2⟩, ⟨d3, d4⟩, d5, d6⟩ := hB p (by omega)
            simp only [LL, tp, dt, cr, sb, nf]
            generalize MP σ x = X at *
            generalize MP σ y = Y at *
            generalize MP σ p = Z at *
            have m1 := mul_bd (a := 1024) (b := 1024) (x := Y.2.1 - X.2.1) (y := Z.2.2 - X.2.2) (by omega) (by omega) (by decide)
            have m2 := mul_bd (a := 1024) (b := 1024) (x := Y.2.2 - X.2.2) (y := Z.2.1 - X.2.1) (by omega) (by omega) (by decide)
            have m3 := mul_bd (a := 1024) (b := 1024) (x := Y.2.2 - X.2.2) (y := Z.1 - X.1) (by omega) (by omega) (by decide)
            have m4 := mul_bd (a := 1024) (b := 1024) (x := Y.1 - X.1) (y := Z.2.2 - X.2.2) (by omega) (by omega) (by decide)
            have m5 := mul_bd (a := 1024) (b := 1024) (x := Y.1 - X.1) (y := Z.2.1 - X.2.1) (by omega) (by omega) (by decide)
            have m6 := mul_bd (a := 1024) (b := 1024) (x := Y.2.1 - X.2.1) (y := Z.1 - X.1) (by omega) (by omega) (by decide)
            have t1 := mul_bd (a := 2097152) (b := 2097152) (x := (Y.2.1 - X.2.1) * (Z.2.2 - X.2.2) - (Y.2.2 - X.2.2) * (Z.2.1 - X.2.1)) (y := a f) (by omega) (by omega) (by decide)
            have t2 := mul_bd (a := 2097152) (b := 2097152) (x := (Y.2.2 - X.2.2) * (Z.1 - X.1) - (Y.1 - X.1) * (Z.2.2 - X.2.2)) (y := b f) (by omega) (by omega) (by decide)
            have t3 := mul_bd (a := 2097152) (b := 2097152) (x := (Y.1 - X.1) * (Z.2.1 - X.2.1) - (Y.2.1 - X.2.1) * (Z.1 - X.1)) (y := c f) (by omega) (by omega) (by decide)
            exact inL_sm ⟨by omega, by omega⟩
          have bd21 : inL y21 := by
            rw [l21]
            obtain ⟨⟨a1, a2⟩, ⟨a3, a4⟩, a5, a6⟩ := hB x hx
            obtain ⟨⟨c1, c2⟩, ⟨c3, c4⟩, c5, c6⟩ := hB y hy
            obtain ⟨⟨d1, d2⟩, ⟨d3, d4⟩, d5, d6⟩ := hB p (by omega)
            simp only [bt3, dt, sb]
            generalize MP σ x = X at *
            generalize MP σ y = Y at *
            generalize MP σ p = Z at *
            have m1 := mul_bd (a := 1024) (b := 1024) (x := Z.1 - X.1) (y := Z.1 - Y.1) (by omega) (by omega) (by decide)
            have m2 := mul_bd (a := 1024) (b := 1024) (x := Z.2.1 - X.2.1) (y := Z.2.1 - Y.2.1) (by omega) (by omega) (by decide)
            have m3 := mul_bd (a := 1024) (b := 1024) (x := Z.2.2 - X.2.2) (y := Z.2.2 - Y.2.2) (by omega) (by omega) (by decide)
            exact inL_sm ⟨by omega, by omega⟩
          have bad : ∀ v', ¬ (0 < LL (MP σ) (nf a b c f) x y p ∨ (LL (MP σ) (nf a b c f) x y p = 0 ∧ bt3 (MP σ) x y p < 0)) → wlX8_goesOn_15 P (q + 1) f x y 0 ((p + 1 : Nat) : Int) (MF σ v' m a b c d) := by
            intro v' hbad
            refine ih (p + 1) 0 v' (by omega) (by omega) (Or.inr ⟨rfl, fun hg => hbad (hg.2 p (by show p < N; omega) hin (by omega) (by omega))⟩)
          refine ⟨bd17, fun z => nx _ (fun _ _ _ => Or.inl (by omega)), fun z => ⟨fun z2 => bad _ (by omega), fun z2 => ⟨bd21, fun z3 => bad _ (by omega), fun z3 => nx _ (fun _ _ _ => Or.inr ⟨?_, by omega⟩)⟩⟩⟩
          have := Decidable.of_not_not z2
          omega
        · exact ⟨⟨by decide, by decide⟩, fun _ => nx v (fun h2 _ _ => absurd h2 hin), fun z => absurd rfl z⟩
  unfold wpX8_goesOn
  refine ⟨iX, iY, fun z => ⟨_, lp _ 0 0 v rfl (by omega) (Or.inr ⟨rfl, fun hg => hg.1 (by omega)⟩)⟩, fun z => ⟨_, lp _ 0 1 v rfl (by omega) (Or.inl ⟨rfl, by omega, fun i hi => absurd hi (Nat.not_lt_zero _)⟩)⟩⟩
theorem f_behind {P : Int → Tab → Prop} {f x : Nat} (hN : N ≤ 24) (hheld : σ 0 23 0 7 = N) (hB : ∀ i, i < N → B93 (MP σ i)) (hf : f < 64) (hx : x < N) (hb : bN (a f) ∧ bN (b f) ∧ bN (c f) ∧ bO (d f))
    (h1 : ∀ y, y < N → dt (nf a b c f) (MP σ y) = d f → goOn (MP σ) (fun q => q < N) (nf a b c f) (d f) x y → ∀ v', P y (MF σ v' m a b c d)) (h0 : (∀ y, y < N → dt (nf a b c f) (MP σ y) = d f → ¬ goOn (MP σ) (fun q => q < N) (nf a b c f) (d f) x y) → ∀ v', P (-1) (MF σ v' m a b c d)) : wpX8_behind f x (MF σ v m a b c d) P := by
  have iN : inI (N : Int) := inI_sm ⟨by omega, by omega⟩
  have lp : ∀ (q y : Nat) (v : V3), N - y = q → y ≤ N → (∀ y', y' < y → dt (nf a b c f) (MP σ y') = d f → ¬ goOn (MP σ) (fun q => q < N) (nf a b c f) (d f) x y') → wlX8_behind_2 P (q + 1) f x y (MF σ v m a b c d) := by
    intro q
    induction q with
    | zero =>
      intro y v e1 e2 e3
      unfold wlX8_behind_2
      rw [MF_h (by decide), hheld]
      exact ⟨inI_sm ⟨by omega, by omega⟩, iN, fun _ => h0 (fun y' hy' => e3 y' (by omega)) v, fun z => by omega⟩
    | succ q ih =>
      intro y v e1 e2 e3
      unfold wlX8_behind_2
      rw [MF_h (by decide), hheld, ic]
      have nx : ∀ v', (dt (nf a b c f) (MP σ y) = d f → ¬ goOn (MP σ) (fun q => q < N) (nf a b c f) (d f) x y) → wlX8_behind_2 P (q + 1) f x ((y + 1 : Nat) : Int) (MF σ v' m a b c d) := by
        intro v' hn
        refine ih (y + 1) v' (by omega) (by omega) (fun y' hy' => ?_)
        by_cases e : y' = y
        · subst e; exact hn
        · exact e3 y' (by omega)
      refine ⟨inI_sm ⟨by omega, by omega⟩, iN, fun z => by omega, fun _ => ?_⟩
      refine f_in hf (by omega) (hB y (by omega)) hb (fun hin => ?_) (fun hin => ?_)
      · refine ⟨⟨by decide, by decide⟩, fun z => absurd z (by decide), fun _ => ?_⟩
        refine f_goesOn hN hheld hB hf hx (by omega) hb (fun hg v' => ?_) (fun hg v' => ?_)
        · exact ⟨⟨by decide, by decide⟩, fun z => absurd z (by decide), fun _ => h1 y (by omega) hin hg v'⟩
        · exact ⟨⟨by decide, by decide⟩, fun _ => nx v' (fun _ => hg), fun z => absurd rfl z⟩
      · exact ⟨⟨by decide, by decide⟩, fun _ => nx v (fun h => absurd h hin), fun z => absurd rfl z⟩
  exact ⟨_, lp _ 0 v rfl (by omega) (fun y' hy' => absurd hy' (Nat.not_lt_zero _))⟩
theorem MP_st {k i j : Nat} {x : Int} (h : k ≠ 27 ∧ k ≠ 28 ∧ k ≠ 29) : MP (st σ 0 k i j x) = MP σ := by
  funext q
  unfold MP
  rw [st_k (fun e => h.1 e.symm), st_k (fun e => h.2.1 e.symm), st_k (fun e => h.2.2 e.symm)]
theorem MP_strow {k i : Nat} {r : Nat → Int} (h : k ≠ 27 ∧ k ≠ 28 ∧ k ≠ 29) : MP (strow σ 0 k i r) = MP σ := by
  funext q
  unfold MP
  rw [strow_ne (fun z => h.1 z.2.1.symm), strow_ne (fun z => h.2.1 z.2.1.symm), strow_ne (fun z => h.2.2 z.2.1.symm)]
theorem f_walk8 {P : Tab → Prop} {f sz : Nat} {co : Nat → Nat} (hN : N ≤ 24) (hheld : σ 0 23 0 7 = N) (hB : ∀ i, i < N → B93 (MP σ i)) (hf : f < 64) (hb : bN (a f) ∧ bN (b f) ∧ bN (c f) ∧ bO (d f)) (hF : FaceIs (MP σ) N (nf a b c f) (d f) sz co)
    (hP : ∀ (v' : V3) (r : Nat → Int), (∀ i, i < sz → r (24 * f + i) = co i) → (∀ j, (j < 24 * f ∨ 24 * f + 24 ≤ j) → r j = σ 0 35 0 j) → P (MF (st (strow σ 0 35 0 r) 0 34 0 f sz) v' m a b c d)) : wpX8_walk f (MF σ v m a b c d) P := by
  obtain ⟨-, hFac, ⟨s3, sN⟩, hin, hg, hd, hm, hc⟩ := id hF
  have lt : ∀ i, i < sz → (i + 1) % sz < sz := fun i _ => Nat.mod_lt _ (by omega)
  -- the second loop
  have lp2 : ∀ (q n : Nat) (r : Nat → Int) (v : V3), sz - n = q → n ≤ sz → (∀ i, i < n → r (24 * f + i) = co i) → (∀ j, (j < 24 * f ∨ 24 * f + 24 ≤ j) → r j = σ 0 35 0 j) → wlX8_walk_34 P (q + 1) f (co 0) n (co (n % sz)) n (MF (strow σ 0 35 0 r) v m a b c d) := by
    intro q
    induction q with
    | zero =>
      intro n r v e1 e2 e3 e4
      have en : n = sz := by omega
      have fin : ∀ σ4, σ4 = st (MF (strow σ 0 35 0 r) v m a b c d) 0 34 0 f n → P σ4 := by
        intro σ4 h4
        rw [h4, MF_base (by decide), en]
        exact hP v r (by rw [en] at e3; exact e3) e4
      unfold wlX8_walk_34
      rw [Int.toNat_natCast, en, Nat.mod_self, ← en]
      refine ⟨inI_sm ⟨by omega, by omega⟩, fun _ => ⟨⟨by omega, by omega⟩, fin⟩, fun z => ⟨inI_sm ⟨by omega, by omega⟩, fun w => by omega, fun w => ⟨inI_sm ⟨by omega, by have := (hin 0 (by omega)).1; omega⟩, inI_sm ⟨by omega, by have := (hin 0 (by omega)).1; omega⟩, fun _ => ⟨⟨by omega, by omega⟩, fin⟩, fun w' => absurd rfl w'⟩⟩⟩
    | succ q ih =>
      intro n r v e1 e2 e3 e4
      have nlt : n < sz := by omega
      rw [Nat.mod_eq_of_lt nlt]
      have cn := (hin n nlt).1
      have c0 := (hin 0 (by omega)).1
      have k51 : wlX8_walk_51 P (fun x1 x2 x3 x4 x5 τ => wlX8_walk_34 P (q + 1) x1 x2 x3 x4 x5 τ) f (co 0) n (co n) n (MF (strow σ 0 35 0 r) v m a b c d) := by
        unfold wlX8_walk_51
        refine ⟨⟨by omega, by omega⟩, fun σ2 e2' => ?_⟩
        have ei : (24 * (f : Int) + (n : Int)).toNat = 24 * f + n := by omega
        rw [e2', ei, MF_base (by decide), strow_st]
        have hheld' : strow σ 0 35 0 (upr r (24 * f + n) (co n)) 0 23 0 7 = N := by rw [strow_ne (fun z => by omega)]; exact hheld
        have eM : MP (strow σ 0 35 0 (upr r (24 * f + n) (co n))) = MP σ := MP_strow (by decide)
        refine f_behind hN hheld' (by rw [eM]; exact hB) hf cn hb (fun y hy hyin hgo v' => ?_) (fun hno => ?_)
        · rw [eM] at hyin hgo
          have ey : y = co ((n + 1) % sz) := goOn_uniq hgo (hg n nlt) hy (hin _ (lt n nlt)).1 hyin (hin _ (lt n nlt)).2
          rw [ey, ic]
          refine ih (n + 1) _ v' (by omega) (by omega) (fun i hi => ?_) (fun j hj => ?_)
          · unfold upr
            by_cases e : i = n
            · rw [if_pos (by omega), e]
            · rw [if_neg (by omega)]; exact e3 i (by omega)
          · unfold upr; rw [if_neg (by omega)]; exact e4 j hj
        · exfalso
          rw [eM] at hno
          exact hno _ (hin _ (lt n nlt)).1 (hin _ (lt n nlt)).2 (hg n nlt)
      unfold wlX8_walk_34
      refine ⟨inI_sm ⟨by omega, by omega⟩, fun z => by omega, fun _ => ⟨inI_sm ⟨by omega, by omega⟩, fun _ => k51, fun w => ⟨inI_sm ⟨by omega, by omega⟩, inI_sm ⟨by omega, by omega⟩, fun w' => ?_, fun _ => k51⟩⟩⟩
      exfalso
      exact hd 0 n (by omega) nlt (by omega)
  have lp1 : ∀ (q p : Nat) (v : V3), co 0 - p = q → p ≤ co 0 → wlX8_walk_2 P (q + 1) f p (MF σ v m a b c d) := by
    have c0 := (hin 0 (by omega)).1
    intro q
    induction q with
    | zero =>
      intro p v e1 e2
      have ep : p = co 0 := by omega
      subst ep
      unfold wlX8_walk_2
      refine f_in hf (by omega) (hB _ c0) hb (fun _ => ?_) (fun h => absurd (hin 0 (by omega)).2 h)
      refine ⟨⟨by decide, by decide⟩, fun z => absurd z (by decide), fun _ => ?_⟩
      refine f_behind hN hheld hB hf c0 hb (fun y hy hyin hgo v' => ?_) (fun hno => ?_)
      · refine ⟨inI_sm ⟨by omega, by omega⟩, fun _ => ⟨sz - 0 + 1, ?_⟩, fun z => by omega⟩
        have := lp2 (sz - 0) 0 (σ 0 35 0) v' rfl (by omega) (fun i hi => absurd hi (Nat.not_lt_zero _)) (fun j _ => rfl)
        rw [strow_id, Nat.zero_mod] at this
        exact this
      · exact absurd (hg 0 (by omega)) (hno _ (hin _ (lt 0 (by omega))).1 (hin _ (lt 0 (by omega))).2)
    | succ q ih =>
      intro p v e1 e2
      unfold wlX8_walk_2
      rw [ic]
      refine f_in hf (by omega) (hB p (by omega)) hb (fun hp => ?_) (fun hp => ?_)
      · refine ⟨⟨by decide, by decide⟩, fun z => absurd z (by decide), fun _ => ?_⟩
        refine f_behind hN hheld hB hf (by omega) hb (fun y hy hyin hgo v' => ?_) (fun hno v' => ?_)
        · exfalso
          obtain ⟨i, hi, ei⟩ := hc p y (by omega) hy hp hyin hgo
          have := hm i hi
          omega
        · exact ⟨⟨by decide, by decide⟩, fun z => absurd z (by decide), fun _ => ih (p + 1) v' (by omega) (by omega)⟩
      · exact ⟨⟨by decide, by decide⟩, fun _ => ih (p + 1) v (by omega) (by omega), fun z => absurd rfl z⟩
  exact ⟨_, lp1 _ 0 v rfl (by omega)⟩
/-- each supporting plane has its face -/
theorem face_ex {Q : Nat → V3} {T : Nat → Nat → Nat → Prop} (H : Hul Q N (fun q => q < N) T) (hinj : ∀ a b, a < N → b < N → Q a = Q b → a = b) {n : V3} {o : Int} (hpr : prim n) (hF : Fac Q (fun q => q < N) n o) : ∃ sz co, FaceIs Q N n o sz co := by
  obtain ⟨w, x, y, t, hw⟩ := H.top hF
  obtain ⟨x, y, t1, hx, hy, _, _⟩ := H.goOn_first hF t hw
  have fs : ∀ u, crn Q T n o u → crn Q T n o (Classical.epsilon (fun x => crn Q T n o x ∧ goOn Q (fun q => q < N) n o u x)) ∧ goOn Q (fun q => q < N) n o u (Classical.epsilon (fun x => crn Q T n o x ∧ goOn Q (fun q => q < N) n o u x)) := fun u hu => Classical.epsilon_spec (H.crn_next hF hu)
  have hs : crn Q T n o w := ⟨⟨x, y, t1⟩, hw⟩
  obtain ⟨m, hm, hmN, hback, hdis, hcov⟩ := H.crn_orbit hF (fun u => Classical.epsilon (fun x => crn Q T n o x ∧ goOn Q (fun q => q < N) n o u x)) fs hs
  obtain ⟨f, hfd⟩ : ∃ f : Nat → Nat, f = fun u => Classical.epsilon (fun x => crn Q T n o x ∧ goOn Q (fun q => q < N) n o u x) := ⟨_, rfl⟩
  rw [← hfd] at hback hdis hcov
  have fs' : ∀ u, crn Q T n o u → crn Q T n o (f u) ∧ goOn Q (fun q => q < N) n o u (f u) := by rw [hfd]; exact fs
  have cI : ∀ i, crn Q T n o (itf f i w) := fun i => itf_dom (D := crn Q T n o) (fun a ha => (fs' a ha).1) hs i
  have three : 3 ≤ m := by
    obtain ⟨i0, h0, e0⟩ := hcov w hs
    obtain ⟨i1, h1, e1⟩ := hcov x ⟨⟨_, _, H.rot t1⟩, hx⟩
    obtain ⟨i2, h2, e2⟩ := hcov y ⟨⟨_, _, H.rot2 t1⟩, hy⟩
    have d01 : i0 ≠ i1 := fun e => H.ne t1 (by rw [← e1, ← e]; exact e0.symm)
    have d12 : i1 ≠ i2 := fun e => H.ne (H.rot t1) (by rw [← e1, ← e2, e])
    have d20 : i2 ≠ i0 := fun e => H.ne (H.rot2 t1) (by rw [← e2, e]; exact e0)
    omega
  obtain ⟨low, hlow, hmin⟩ := top_of (fun i => - (itf f i w : Int)) (fun i => i < m) m (fun i hi => hi) ⟨0, hm⟩
  refine ⟨m, _, cyc_face hpr hF three hmN (fun i => ⟨H.crn_mem (cI i), (cI i).2, (fs' _ (cI i)).2⟩) hback hdis (fun v z hv hz hvp hzp hg => ?_) hlow (fun i hi => by have := hmin i hi; omega)⟩
  obtain ⟨k, t2, _, _⟩ := H.rim_goOn hF hinj hv hz hvp hzp hg
  exact hcov v ⟨⟨_, _, t2⟩, hvp⟩
end FT

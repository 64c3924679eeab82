/-! THE BUILDER'S support, and side -/
section GG
theorem top_conn {Q : Nat → V3} {N : Nat} {T : Nat → Nat → Nat → Prop} (H : Hul Q N (fun q => q < N) T) (hinj : ∀ a b, a < N → b < N → Q a = Q b → a = b) {d : V3} {a b : Nat} (va : vtx T a) (vb : vtx T b) (hmax : ∀ q, q < N → dt d (Q q) ≤ dt d (Q a)) (hb : dt d (Q b) = dt d (Q a)) :
    ∃ n, pth (fun x y => Eg Q (fun q => q < N) x y ∧ dt d (Q y) = dt d (Q a)) a n b := by
  obtain ⟨x, y, t⟩ := vb
  obtain ⟨h, hh⟩ := H.ext t
  have hbN : b < N := H.bd (H.mem t)
  obtain ⟨B, hB, hBu⟩ := bnd (fun u => dt h (Q b) - dt h (Q u)) N
  have ev : ∀ q, dt (ad3 (sm (B + 1) d) h) (Q q) = (B + 1) * dt d (Q q) + dt h (Q q) := fun q => by rw [ad_dt, sm_dt]
  refine climb H hinj (fun y => dt d (Q y) = dt d (Q a)) (ad3 (sm (B + 1) d) h) b (fun q hq hne => ?_) hbN (fun u w hu hFu hE hlt => ?_) _ a rfl va rfl
  · rw [ev, ev, hb]
    have h1 := hh q hq hne
    have h2 := Int.mul_le_mul_of_nonneg_left (hmax q hq) (show 0 ≤ B + 1 by omega)
    omega
  · rw [ev, ev, hFu] at hlt
    have wN : w < N := by obtain ⟨_, _, t'⟩ := (H.Eg_vtx hinj hE).2; exact H.bd (H.mem t')
    have uN : u < N := by obtain ⟨_, _, t'⟩ := hu; exact H.bd (H.mem t')
    have h1 := hmax w wN
    rcases Decidable.em (dt d (Q w) = dt d (Q a)) with q | q
    · exact q
    · exfalso
      have h2 := Int.mul_le_mul_of_nonneg_left (show dt d (Q w) ≤ dt d (Q a) - 1 by omega) (show 0 ≤ B + 1 by omega)
      have e2 : (B + 1) * (dt d (Q a) - 1) = (B + 1) * dt d (Q a) - (B + 1) := by grind
      have h3 := hBu u uN
      have h4 : dt h (Q w) ≤ dt h (Q b) := by
        by_cases e : w = b
        · rw [e]; omega
        · have := hh w wN e; omega
      omega
variable {σ : Tab} {g N fc m : Nat} {sz : Nat → Nat} {co : Nat → Nat → Nat} {nn : Nat → V3} {off : Nat → Int}
theorem HSp_J (h : HSp σ g N fc sz co nn off m) : (∀ x y, x < 24 → y < 24 → (σ g 11 x y = 0 ∨ σ g 11 x y = 1) ∧ (σ g 11 x y = 1 ↔ dE fc sz co x y)) ∧ ∀ x, x < 24 → (σ g 9 0 x = 0 ∨ σ g 9 0 x = 1) ∧ (σ g 9 0 x = 1 ↔ icn fc sz co x) := by
  obtain ⟨-, -, -, -, -, -, -, -, hB, -, -⟩ := h
  constructor
  · intro x y hx hy
    obtain ⟨h1, h2⟩ := hB.2 x y hx hy
    refine ⟨h1, h2.trans ⟨?_, ?_⟩⟩
    · rintro ⟨j, i, _, hj, hi, e1, e2⟩
      exact ⟨j, hj, i, hi, e1, e2⟩
    · rintro ⟨j, hj, i, hi, e1, e2⟩
      exact ⟨j, i, Or.inl hj, hj, hi, e1, e2⟩
  · intro x hx
    obtain ⟨h1, h2⟩ := hB.1 x hx
    refine ⟨h1, h2.trans ⟨?_, ?_⟩⟩
    · rintro ⟨j, i, _, hj, hi, e1⟩
      exact ⟨j, i, hj, hi, e1⟩
    · rintro ⟨j, i, hj, hi, e1⟩
      exact ⟨j, i, Or.inl hj, hj, hi, e1⟩
theorem f_along {P : Int → Tab → Prop} {p : Nat} {x y z : Int} (h : HSp σ g N fc sz co nn off m) (hp : p < N) (hP : P (dt (x, y, z) (PD σ g p)) σ) : wpX2_along g p x y z σ P := by
  obtain ⟨-, hp2, -⟩ := h
  obtain ⟨⟨a1, a2⟩, ⟨a3, a4⟩, a5, a6⟩ := hp2.2.1 p hp
  simp only [PD, v3] at a1 a2 a3 a4 a5 a6
  have := hp2.1
  unfold wpX2_along
  rw [Int.toNat_natCast]
  exact ⟨⟨by omega, by omega⟩, inI_sm ⟨by omega, by omega⟩, inI_sm ⟨by omega, by omega⟩, inI_sm ⟨by omega, by omega⟩, hP⟩
/-- the set on the top, as far as it is found -/
def lowQ (R : Nat → Int) (s : Nat) (low : Int) : Prop := (∃ k, k < s ∧ low = R k) ∧ ∀ k, k < s → low ≤ R k
def dQ (D R : Nat → Int) (s v : Nat) : Prop := D v = -1 ∨ (D v = 0 ∧ inQ R s v)
def BS (F : Nat → Prop) (D R : Nat → Int) (s : Nat) (low : Int) : Prop :=
  (1 ≤ s ∧ s ≤ 24) ∧ (∀ k, k < s → 0 ≤ R k ∧ R k < 24 ∧ F (R k).toNat) ∧ (∀ i j, i < j → j < s → R i ≠ R j) ∧ (∀ k, k < s → D (R k).toNat = 0) ∧ (∀ v, v < 24 → dQ D R s v) ∧ lowQ R s low
def prs (E : Nat → Nat → Prop) (D R : Nat → Int) (h : Nat) : Prop := ∀ k, k < h → ∀ b, b < 24 → E (R k).toNat b → D b = 0
theorem BS_room {F : Nat → Prop} {D R : Nat → Int} {s b : Nat} {low : Int} (hQ : BS F D R s low) (hb : b < 24) (hD : D b < 0) : s < 24 := by
  obtain ⟨h1, h2, h3, h4, h5, h6⟩ := hQ
  have := pigeon_out s 1 24 (fun k => (R k).toNat) (fun _ => b) (fun k hk => by have := h2 k hk; omega) (fun i j hij hj e => by
    have a1 := h2 i (by omega)
    have a2 := h2 j hj
    exact h3 i j hij hj (by omega)) (fun _ _ => hb) (fun i j h1 h2 => by omega) (fun i j hi _ e => by
    have := h4 i hi
    rw [e] at this
    omega)
  omega
theorem BS_ins {F : Nat → Prop} {D R : Nat → Int} {s b : Nat} {low low' : Int} (hQ : BS F D R s low) (hb : b < 24) (hD : D b < 0) (hF : F b) (hl : (low' = low ∧ low ≤ b) ∨ (low' = b ∧ (b : Int) < low)) : BS F (upr D b 0) (upr R s b) (s + 1) low' ∧ ∀ v, D v = 0 → upr D b 0 v = 0 := by
  have room := BS_room hQ hb hD
  obtain ⟨h1, h2, h3, h4, h5, ⟨h6, h7⟩⟩ := hQ
  have uR : ∀ k, k < s → upr R s b k = R k := fun k hk => by unfold upr; rw [if_neg (by omega)]
  have uRs : upr R s b s = b := by unfold upr; rw [if_pos rfl]
  have nb : ∀ k, k < s → (R k).toNat ≠ b := fun k hk e => by have := h4 k hk; rw [e] at this; omega
  have uV : ∀ v, v ≠ b → upr D b 0 v = D v := fun v hv => by unfold upr; rw [if_neg hv]
  have uDb : upr D b 0 b = 0 := by unfold upr; rw [if_pos rfl]
  refine ⟨⟨⟨by omega, by omega⟩, fun k hk => ?_, fun i j hij hj => ?_, fun k hk => ?_, fun v hv => ?_, ?_, fun k hk => ?_⟩, fun v hv => ?_⟩
  · by_cases e : k = s
    · subst e; rw [uRs, Int.toNat_natCast]; exact ⟨by omega, by omega, hF⟩
    · rw [uR k (by omega)]; exact h2 k (by omega)
  · rw [uR i (by omega)]
    by_cases e : j = s
    · subst e
      rw [uRs]
      intro z
      exact nb i (by omega) (by omega)
    · rw [uR j (by omega)]; exact h3 i j hij (by omega)
  · by_cases e : k = s
    · subst e; rw [uRs, Int.toNat_natCast, uDb]
    · rw [uR k (by omega), uV _ (nb k (by omega))]; exact h4 k (by omega)
  · by_cases e : v = b
    · subst e
      exact Or.inr ⟨uDb, s, by omega, uRs⟩
    · unfold dQ
      rw [uV v e]
      rcases h5 v hv with w | ⟨w, k, hk, ek⟩
      · exact Or.inl w
      · exact Or.inr ⟨w, k, by omega, by rw [uR k hk]; exact ek⟩
  · rcases hl with ⟨w1, w2⟩ | ⟨w1, w2⟩
    · obtain ⟨k, hk, ek⟩ := h6
      exact ⟨k, by omega, by rw [uR k hk, w1]; exact ek⟩
    · exact ⟨s, by omega, by rw [uRs]; exact w1⟩
  · by_cases e : k = s
    · subst e; rw [uRs]; omega
    · rw [uR k (by omega)]
      have := h7 k (by omega)
      omega
  · by_cases e : v = b
    · rw [e]; exact uDb
    · rw [uV v e]; exact hv
theorem f_side {P : Int → Tab → Prop} {x y z : Int} (h : HSp σ g N fc sz co nn off m) (hb : ∀ k, k < fc → bN (nn k).1 ∧ bN (nn k).2.1 ∧ bN (nn k).2.2 ∧ bO (off k)) (hx : wid x) (hy : wid y) (hz : wid z) (hP : ∀ r, SideR fc nn off (x, y, z) r → P r σ) : wpX2_side g x y z σ P := by
  obtain ⟨-, -, ⟨h13, h44, hFP, -⟩, -, hpl, -⟩ := h
  have iF : inI (fc : Int) := inI_sm ⟨by omega, by omega⟩
  have lp : ∀ (q j : Nat) (r : Int), fc - j = q → j ≤ fc → (∀ i, i < j → dt (nn i) (x, y, z) - off i ≤ 0) → ((r = 0 ∧ ∃ i, i < j ∧ dt (nn i) (x, y, z) - off i = 0) ∨ (r = 1 ∧ ∀ i, i < j → dt (nn i) (x, y, z) - off i ≠ 0)) → wlX2_side_6 g P (q + 1) x y z r j σ := by
    intro q
    induction q with
    | zero =>
      intro j r e1 e2 e3 e4
      have : j = fc := by clear e4; omega
      subst this
      unfold wlX2_side_6
      rw [h13]
      exact ⟨iF, iF, fun _ => hP r (Or.inr ⟨e3, e4⟩), fun z => absurd (Int.le_refl _) z⟩
    | succ q ih =>
      intro j r e1 e2 e3 e4
      have hj : j < fc := by clear e4; omega
      have a1 : fc - (j + 1) = q := by clear e4; omega
      obtain ⟨p1, p2⟩ := hpl j hj
      obtain ⟨b1, b2, b3, b4⟩ := hb j hj
      unfold bN at b1 b2 b3
      unfold bO at b4
      have m1 := mul_bd (a := 2097152) (b := 65536) b1 hx (by decide)
      have m2 := mul_bd (a := 2097152) (b := 65536) b2 hy (by decide)
      have m3 := mul_bd (a := 2097152) (b := 65536) b3 hz (by decide)
      have bd : -1000000000000 ≤ dt (nn j) (x, y, z) - off j ∧ dt (nn j) (x, y, z) - off j ≤ 1000000000000 := by
        clear e4
        simp only [dt]
        omega
      have ev : σ g 17 (fxs σ g j) 0 * x + σ g 17 (fxs σ g j) 1 * y + σ g 17 (fxs σ g j) 2 * z - σ g 17 (fxs σ g j) 3 = dt (nn j) (x, y, z) - off j := by
        rw [← p1, ← p2]; rfl
      unfold wlX2_side_6
      have exi : (σ g 3 0 ((j : Int)).toNat).toNat = fxs σ g j := rfl
      rw [h13, exi, Int.toNat_natCast, ic]
      unfold wpX3_above_2
      rw [ev]
      have low : ∀ {Q : Nat → Prop}, Q j → (∀ i, i < j → Q i) → ∀ i, i < j + 1 → Q i := by
        intro Q h1 h2 i hi
        by_cases ee : i = j
        · subst ee; exact h1
        · exact h2 i (by clear e4; omega)
      have lj : j + 1 ≤ fc := hj
      have vp : ¬ dt (nn j) (x, y, z) - off j ≤ 0 → 0 < dt (nn j) (x, y, z) - off j := fun z => by clear e4; omega
      refine ⟨inI_sm ⟨by clear e4; omega, by clear e4; omega⟩, iF, fun z => by clear e4; omega, fun _ => ⟨⟨by clear e4; omega, by clear e4; omega⟩, hFP.1 j (by clear e4; omega), inL_sm ⟨by clear e4; omega, by clear e4; omega⟩, fun w => ⟨fun w2 => ?_, fun w2 => ?_⟩, fun w => ?_⟩⟩
      · refine ih (j + 1) r a1 lj (low w e3) ?_
        rcases e4 with ⟨e, i, hi, v⟩ | ⟨e, v⟩
        · exact Or.inl ⟨e, i, Nat.lt_succ_of_lt hi, v⟩
        · exact Or.inr ⟨e, low w2 v⟩
      · exact ih (j + 1) 0 a1 lj (low w e3) (Or.inl ⟨rfl, j, Nat.lt_succ_self j, Decidable.of_not_not w2⟩)
      · exact hP (-1) (Or.inl ⟨rfl, j, hj, vp w⟩)
  exact ⟨_, lp _ 0 1 rfl (by omega) (fun i hi => absurd hi (Nat.not_lt_zero _)) (Or.inr ⟨rfl, fun i hi => absurd hi (Nat.not_lt_zero _)⟩)⟩
theorem f_support {P : Int → Tab → Prop} {x y z : Int} (h : HSp σ g N fc sz co nn off m) (hs : sol4 (PD σ g) N) (hx : wid x) (hy : wid y) (hz : wid z) (hP : ∀ (r : Nat) (D R : Nat → Int), SupR (PD σ g) N (icn fc sz co) (x, y, z) r → P r (T2 σ g D R)) : wpX2_support g x y z σ P := by
  obtain ⟨hmn, hp, hTab, hfc, hpl, hF, -, -, -, -, -⟩ := id h
  have hN := hp.1
  have hinj := hp.2.2
  obtain ⟨T, H⟩ := Hul_of hinj hs
  obtain ⟨hJ, -⟩ := HSp_J h
  obtain ⟨d, hd⟩ : ∃ d : V3, d = (x, y, z) := ⟨_, rfl⟩
  have bdd : ∀ p, p < N → -100663296 ≤ dt d (PD σ g p) ∧ dt d (PD σ g p) ≤ 100663296 := fun p hp' => by rw [hd]; exact dt_bd hx hy hz (hp.2.1 p hp')
  have iL : ∀ p, p < N → inL (dt d (PD σ g p)) := fun p hp' => by have := bdd p hp'; exact inL_sm ⟨by omega, by omega⟩
  have o : ∀ D R g' k' i', ¬ (g' = g ∧ (k' = 7 ∨ k' = 8) ∧ i' = 0) → T2 σ g D R g' k' i' = σ g' k' i' := fun D R g' k' i' hn => T2_o hn
  have hT2 : ∀ D R, HSp (T2 σ g D R) g N fc sz co nn off m := by
    intro D R
    have r : ∀ k i, k ≠ 7 → k ≠ 8 → T2 σ g D R g k i = σ g k i := fun k i h1 h2 => T2_o (fun z => by omega)
    have rk : ∀ k, k ≠ 7 → k ≠ 8 → T2 σ g D R g k = σ g k := fun k h1 h2 => funext fun i => r k i h1 h2
    have ePD : PD (T2 σ g D R) g = PD σ g := by unfold PD v3; rw [rk 13 (by decide) (by decide)]
    have ef : fxs (T2 σ g D R) g = fxs σ g := by unfold fxs; rw [rk 3 (by decide) (by decide)]
    unfold HSp PtsOK FTab FP v3 at *
    rw [rk 0 (by decide) (by decide), rk 3 (by decide) (by decide), rk 9 (by decide) (by decide), rk 11 (by decide) (by decide), rk 16 (by decide) (by decide), rk 17 (by decide) (by decide), rk 18 (by decide) (by decide), rk 19 (by decide) (by decide), ePD, ef]
    exact h
  have ePD : ∀ D R, PD (T2 σ g D R) g = PD σ g := fun D R => by funext i; unfold PD v3; rw [o _ _ _ _ _ (fun z => by omega)]
  -- from a top
  have last : ∀ at' : Nat, vtx T at' → at' < N → (∀ q, q < N → dt d (PD σ g q) ≤ dt d (PD σ g at')) → ∃ k, wlX2_support_107 g P k x y z at' (dt d (PD σ g at')) 0 σ := by
    intro at' hv hat hmax
    have cor : ∀ v, v < N → (icn fc sz co v ↔ vtx T v) := fun v _ => icn_vtx H hinj hF
    obtain ⟨E, hE⟩ : ∃ E : Nat → Nat → Prop, E = fun u b => dE fc sz co u b ∧ dt d (PD σ g b) = dt d (PD σ g at') := ⟨_, rfl⟩
    obtain ⟨F, hFd⟩ : ∃ F : Nat → Prop, F = fun v => v < N ∧ icn fc sz co v ∧ dt d (PD σ g v) = dt d (PD σ g at') := ⟨_, rfl⟩
    have fin : ∀ (s : Nat) (D R : Nat → Int) (low : Int), BS F D R s low → D at' = 0 → prs E D R s → P low (T2 σ g D R) := by
      intro s D R low hQ hDa hPr
      obtain ⟨h1, h2, h3, h4, h5, ⟨⟨k, hk, ek⟩, h7⟩⟩ := hQ
      have rk := h2 k hk
      have el : low = ((R k).toNat : Int) := by omega
      have all : ∀ n v, pth (fun u b => Eg (PD σ g) (fun q => q < N) u b ∧ dt d (PD σ g b) = dt d (PD σ g at')) at' n v → v < 24 ∧ D v = 0 := by
        intro n
        induction n with
        | zero =>
          intro v hv'
          have : v = at' := hv'
          subst this
          exact ⟨by omega, hDa⟩
        | succ n ih =>
          rintro c ⟨b, hb, hEg, hc⟩
          obtain ⟨i1, i2⟩ := ih b hb
          have dd := (Fam_dE hF).mpr hEg
          have cN := (dE_lt hF dd).2.1
          rcases h5 b i1 with w | ⟨_, k', hk', ek'⟩
          · omega
          · have eb : (R k').toNat = b := by omega
            exact ⟨by omega, hPr k' hk' c (by omega) (by rw [hE, eb]; exact ⟨dd, hc⟩)⟩
      have top : ∀ v, v < N → icn fc sz co v → dt d (PD σ g v) = dt d (PD σ g at') → low ≤ v := by
        intro v hvN hc ht
        obtain ⟨n, hn⟩ := top_conn H hinj (d := d) hv ((cor v hvN).mp hc) hmax ht
        obtain ⟨i1, i2⟩ := all n v hn
        rcases h5 v i1 with w | ⟨_, k', hk', ek'⟩
        · omega
        · have := h7 k' hk'
          omega
      have fl := rk.2.2
      rw [hFd] at fl
      obtain ⟨f1, f2, f3⟩ := fl
      rw [el]
      refine hP _ D R ⟨f1, f2, fun p hp' _ => ?_, fun p hp' hc => ?_⟩
      · rw [← hd, f3]; exact hmax p hp'
      · rw [← hd, f3]
        have hpN : p < N := by omega
        have a1 := hmax p hpN
        rcases Decidable.em (dt d (PD σ g p) = dt d (PD σ g at')) with q | q
        · have := top p hpN hc q
          omega
        · omega
    have lp154 : ∀ (q hh s : Nat) (D R : Nat → Int) (low : Int), 24 - hh = q → hh ≤ s → BS F D R s low → D at' = 0 → prs E D R hh → wlX2_support_154 g P (q + 1) x y z (dt d (PD σ g at')) low s hh (T2 σ g D R) := by
      intro q
      induction q with
      | zero =>
        intro hh s D R low e1 e2 hQ hDa hPr
        have := hQ.1
        have : hh = s := by omega
        subst this
        unfold wlX2_support_154
        exact ⟨inI_sm ⟨by omega, by omega⟩, inI_sm ⟨by omega, by omega⟩, fun _ => fin _ D R low hQ hDa hPr, fun z => by omega⟩
      | succ q ih =>
        intro hh s D R low e1 e2 hQ hDa hPr
        have hs' := hQ.1
        unfold wlX2_support_154
        refine ⟨inI_sm ⟨by omega, by omega⟩, inI_sm ⟨by omega, by omega⟩, fun zz => ?_, fun zz => ⟨24 - 0 + 1, ?_⟩⟩
        · have : hh = s := by omega
          subst this
          exact fin _ D R low hQ hDa hPr
        have inner : ∀ (e b s : Nat) (D R : Nat → Int) (low : Int), 24 - b = e → b ≤ 24 → hh < s → BS F D R s low → D at' = 0 → prs E D R hh → (∀ c, c < b → E (R hh).toNat c → D c = 0) → wlX2_support_164 g P (fun x1 x3 x5 x9 x11 x12 x13 τ => wlX2_support_154 g P (q + 1) x1 x3 x5 x9 x11 x12 x13 τ) (e + 1) x y z (dt d (PD σ g at')) low s hh b (T2 σ g D R) := by
          intro e
          induction e with
          | zero =>
            intro b s D R low g1 g2 g3 hQ hDa hPr hT
            unfold wlX2_support_164
            rw [ic]
            refine ⟨inI_sm ⟨by omega, by omega⟩, fun _ => ih (hh + 1) s D R low (by omega) (by omega) hQ hDa (fun k hk c hc hE' => ?_), fun z => by omega⟩
            by_cases ee : k = hh
            · subst ee; exact hT c (by omega) hE'
            · exact hPr k (by omega) c hc hE'
          | succ e ihe =>
            intro b s D R low g1 g2 g3 hQ hDa hPr hT
            have hb24 : b < 24 := by omega
            obtain ⟨q1, q2, q3, q4, q5, q6⟩ := id hQ
            obtain ⟨r1, r2, r3⟩ := q2 hh g3
            have jb := hJ (R hh).toNat b (by omega) hb24
            have dbv : D b = -1 ∨ D b = 0 := by
              rcases q5 b hb24 with w | ⟨w, _⟩
              · exact Or.inl w
              · exact Or.inr w
            have skip : (E (R hh).toNat b → D b = 0) → wlX2_support_164 g P (fun x1 x3 x5 x9 x11 x12 x13 τ => wlX2_support_154 g P (q + 1) x1 x3 x5 x9 x11 x12 x13 τ) (e + 1) x y z (dt d (PD σ g at')) low s hh ((b + 1 : Nat) : Int) (T2 σ g D R) := by
              intro hk
              refine ihe (b + 1) s D R low (by omega) (by omega) g3 hQ hDa hPr (fun c hc hE' => ?_)
              by_cases ee : c = b
              · subst ee; exact hk hE'
              · exact hT c (by omega) hE'
            unfold wlX2_support_164
            have o11 : T2 σ g D R g 11 (R hh).toNat = σ g 11 (R hh).toNat := o _ _ _ _ _ (fun z => by omega)
            rw [ic, ic, Int.toNat_natCast, Int.toNat_natCast, T2_8, T2_7, o11]
            refine ⟨inI_sm ⟨by omega, by omega⟩, fun z => by omega, fun _ => ⟨⟨by omega, by omega⟩, ⟨r1, r2⟩, ⟨by omega, by omega⟩, inI_f jb.1, fun zz => ?_, fun zz => ⟨by rcases dbv with w | w <;> rw [w] <;> exact ⟨by decide, by decide⟩, fun w => ?_, fun w => ?_⟩⟩⟩
            · refine skip (fun hE' => ?_)
              rw [hE] at hE'
              have := jb.2.mpr hE'.1
              omega
            · exact skip (fun _ => by omega)
            · have dd : dE fc sz co (R hh).toNat b := jb.2.mp (by have := jb.1; omega)
              have bN' : b < N := (dE_lt hF dd).2.1
              refine f_along (hT2 D R) bN' ?_
              rw [ePD, ← hd]
              refine ⟨iL b bN', iL at' hat, fun w2 => ⟨⟨by omega, by omega⟩, fun σ15 e15 => ?_⟩, fun w2 => skip (fun hE' => ?_)⟩
              · have room := BS_room hQ hb24 (by omega)
                have hFb : F b := by rw [hFd]; exact ⟨bN', (icn_dE hF).mpr ⟨_, dE_sym H hinj hF dd⟩, w2⟩
                refine ⟨⟨by omega, by omega⟩, fun σ17 e17 => ?_⟩
                rw [e17, e15, T2_s7, Int.toNat_natCast, T2_s8]
                have nx : ∀ low', ((low' = low ∧ low ≤ b) ∨ (low' = b ∧ (b : Int) < low)) → wlX2_support_164 g P (fun x1 x3 x5 x9 x11 x12 x13 τ => wlX2_support_154 g P (q + 1) x1 x3 x5 x9 x11 x12 x13 τ) (e + 1) x y z (dt d (PD σ g at')) low' ((s + 1 : Nat) : Int) hh ((b + 1 : Nat) : Int) (T2 σ g (upr D b 0) (upr R s b)) := by
                  intro low' hl
                  obtain ⟨n1, n2⟩ := BS_ins hQ hb24 (by omega) hFb hl
                  have uR : ∀ k, k < s → upr R s b k = R k := fun k hk => by unfold upr; rw [if_neg (by omega)]
                  refine ihe (b + 1) (s + 1) _ _ low' (by omega) (by omega) (by omega) n1 (n2 _ hDa) (fun k hk c hc hE' => ?_) (fun c hc hE' => ?_)
                  · rw [uR k (by omega)] at hE'
                    exact n2 c (hPr k hk c hc hE')
                  · rw [uR hh g3] at hE'
                    by_cases ee : c = b
                    · subst ee; unfold upr; rw [if_pos rfl]
                    · exact n2 c (hT c (by omega) hE')
                have li : inI low := by
                  obtain ⟨⟨k, hk, ek⟩, _⟩ := q6
                  have := q2 k hk
                  exact inI_sm ⟨by omega, by omega⟩
                exact ⟨li, fun z => nx low (Or.inl ⟨rfl, z⟩), fun z => nx b (Or.inr ⟨rfl, by omega⟩)⟩
              · rw [hE] at hE'
                exact absurd hE'.2 w2
        exact inner _ 0 s D R low rfl (by omega) (by omega) hQ hDa hPr (fun c hc => absurd hc (Nat.not_lt_zero _))
    have lp107 : ∀ (q k : Nat) (D : Nat → Int), 24 - k = q → k ≤ 24 → (∀ i, i < k → D i = -1) → wlX2_support_107 g P (q + 1) x y z at' (dt d (PD σ g at')) k (T2 σ g D (σ g 8 0)) := by
      intro q
      induction q with
      | zero =>
        intro k D e1 e2 hD
        have : k = 24 := by omega
        subst this
        unfold wlX2_support_107
        refine ⟨⟨by decide, by decide⟩, fun _ => ⟨⟨by omega, by omega⟩, fun σ4 e4 σ5 e5 => ⟨25, ?_⟩⟩, fun z => absurd (by decide) z⟩
        rw [e5, e4, Int.toNat_natCast, T2_s7, T2_s8]
        have uR : upr (σ g 8 0) 0 at' 0 = at' := by unfold upr; rw [if_pos rfl]
        have k0 : ∀ k, k < 1 → upr (σ g 8 0) 0 at' k = at' := fun k hk => by rw [show k = 0 by omega]; exact uR
        have Da : upr D at' 0 at' = 0 := by unfold upr; rw [if_pos rfl]
        refine lp154 24 0 1 _ _ _ (by omega) (by omega) ⟨⟨by omega, by omega⟩, fun k hk => ?_, fun i j hij hj => by omega, fun k hk => ?_, fun v hv' => ?_, ⟨0, by omega, uR.symm⟩, fun k hk => ?_⟩ Da (fun k hk => absurd hk (Nat.not_lt_zero _))
        · rw [k0 k hk, Int.toNat_natCast, hFd]
          exact ⟨by omega, by omega, hat, (cor at' hat).mpr hv, rfl⟩
        · rw [k0 k hk, Int.toNat_natCast, Da]
        · by_cases e : v = at'
          · subst e; exact Or.inr ⟨Da, 0, by omega, uR⟩
          · refine Or.inl ?_
            unfold upr
            rw [if_neg e]; exact hD v hv'
        · rw [k0 k hk]; exact Int.le_refl _
      | succ q ih =>
        intro k D e1 e2 hD
        unfold wlX2_support_107
        refine ⟨inI_sm ⟨by omega, by omega⟩, fun z => by omega, fun _ => ⟨⟨by omega, by omega⟩, fun σ8 e8 => ?_⟩⟩
        rw [e8, Int.toNat_natCast, T2_s7, ic]
        refine ih (k + 1) _ (by omega) (by omega) (fun i hi => ?_)
        unfold upr
        by_cases e : i = k
        · rw [if_pos e]
        · rw [if_neg e]; exact hD i (by omega)
    have := lp107 _ 0 (σ g 7 0) rfl (by omega) (fun i hi => absurd hi (Nat.not_lt_zero _))
    rw [T2_id] at this
    exact ⟨_, this⟩
  -- uphill
  have lp16 : ∀ (k v n : Nat), (100663296 - dt d (PD σ g v)).toNat = k → k + 2 ≤ n → vtx T v → v < N → wlX2_support_16 g P n x y z v 1 σ := by
    intro k
    induction k using Nat.strongRecOn with
    | ind k ih =>
      intro v n hk hn hv hvN
      obtain ⟨n, rfl⟩ : ∃ n', n = n' + 2 := ⟨n - 2, by omega⟩
      unfold wlX2_support_16
      refine ⟨⟨by decide, by decide⟩, fun z => absurd z (by decide), fun _ => ⟨24 - 0 + 1, ?_⟩⟩
      have nxt : ∀ b, b < N → dt d (PD σ g v) < dt d (PD σ g b) → dE fc sz co v b → wlX2_support_16 g P (n + 1) x y z b 1 σ := by
        intro b hb hlt dd
        have b1 := bdd b hb
        exact ih (100663296 - dt d (PD σ g b)).toNat (by omega) b (n + 1) rfl (by omega) ((icn_vtx H hinj hF).mp ((icn_dE hF).mpr ⟨_, dE_sym H hinj hF dd⟩)) hb
      have inner : ∀ (e b : Nat), 24 - b = e → b ≤ 24 → (∀ c, c < b → dE fc sz co v c → dt d (PD σ g c) ≤ dt d (PD σ g v)) → wlX2_support_27 g P (fun x1 x3 x5 x7 x8 τ => wlX2_support_16 g P (n + 1) x1 x3 x5 x7 x8 τ) (e + 1) x y z v 0 b σ := by
        intro e
        induction e with
        | zero =>
          intro b g1 g2 hT
          unfold wlX2_support_27
          refine ⟨inI_sm ⟨by omega, by omega⟩, fun _ => ?_, fun z => by omega⟩
          unfold wlX2_support_16
          refine ⟨⟨by decide, by decide⟩, fun _ => ?_, fun z => absurd rfl z⟩
          refine f_along h hvN ?_
          rw [← hd]
          refine last v hv hvN (fun q hq => H.lgE hinj hv d (fun b' hb' => ?_) hq)
          have dd := (Fam_dE hF).mpr hb'
          exact hT b' (by have := (dE_lt hF dd).2.1; omega) dd
        | succ e ihe =>
          intro b g1 g2 hT
          have hb24 : b < 24 := by omega
          have jb := hJ v b (by omega) hb24
          have skip : (dE fc sz co v b → dt d (PD σ g b) ≤ dt d (PD σ g v)) → wlX2_support_27 g P (fun x1 x3 x5 x7 x8 τ => wlX2_support_16 g P (n + 1) x1 x3 x5 x7 x8 τ) (e + 1) x y z v 0 ((b + 1 : Nat) : Int) σ := by
            intro hk'
            refine ihe (b + 1) (by omega) (by omega) (fun c hc dd => ?_)
            by_cases ee : c = b
            · subst ee; exact hk' dd
            · exact hT c (by omega) dd
          unfold wlX2_support_27
          rw [ic, Int.toNat_natCast, Int.toNat_natCast]
          refine ⟨inI_sm ⟨by omega, by omega⟩, fun z => by omega, fun _ => ⟨⟨by decide, by decide⟩, fun z => absurd rfl z, fun _ => ⟨⟨by omega, by omega⟩, ⟨by omega, by omega⟩, inI_f jb.1, fun z => skip (fun dd => ?_), fun z => ?_⟩⟩⟩
          · have := jb.2.mpr dd
            omega
          · have dd : dE fc sz co v b := jb.2.mp (by have := jb.1; omega)
            have bN' : b < N := (dE_lt hF dd).2.1
            refine f_along h bN' (f_along h hvN ?_)
            rw [← hd]
            refine ⟨iL b bN', iL v hvN, fun w => skip (fun _ => w), fun w => ?_⟩
            -- it climbs: the next look ends the loop
            obtain ⟨e', he'⟩ : ∃ e', e + 1 = e' + 1 := ⟨e, rfl⟩
            unfold wlX2_support_27
            have nn' := nxt b bN' (by omega) dd
            exact ⟨inI_sm ⟨by omega, by omega⟩, fun _ => nn', fun _ => ⟨⟨by decide, by decide⟩, fun _ => nn', fun z => absurd (by decide) z⟩⟩
      exact inner _ 0 rfl (by omega) (fun c hc => absurd hc (Nat.not_lt_zero _))
  have t0 := hTab.2.2.2 0 (by omega)
  have f0 := hF.1 0 (by omega)
  have s3 := f0.2.2.1
  have c0 := (t0.2.2.2 0 (by omega)).1
  have cN := (f0.2.2.2.1 0 (by omega)).1
  unfold wpX2_support
  refine ⟨hTab.2.2.1.1 0 (by omega), fun y2 e2 => ?_⟩
  have e2' : y2 = co 0 0 := by rw [e2]; exact c0
  rw [e2']
  have := lp16 _ (co 0 0) _ rfl (Nat.le_refl _) ((icn_vtx H hinj hF).mp ⟨0, 0, by omega, by omega, rfl⟩) cN
  exact ⟨_, this⟩
end GG

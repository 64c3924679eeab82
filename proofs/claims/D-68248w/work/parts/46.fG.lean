/-! BEGIN: the first four points that span space -/
section FG
variable {σ : Tab} {g n : Nat} {S : Nat → Prop}
theorem TI_congr {τ τ' : Tab} (h0 : τ' g 0 0 = τ g 0 0) (h13 : ∀ i, τ' g 13 i = τ g 13 i) (h14 : ∀ i, τ' g 14 i = τ g 14 i) (h15 : ∀ i, τ' g 15 i = τ g 15 i) (h : TI τ g n S) : TI τ' g n S := by
  have e1 : PD τ' g = PD τ g := by funext i; unfold PD v3; rw [h13]
  have e2 : ∀ k, tv τ' g k = tv τ g k := fun k => by unfold tv; rw [h14]
  have e3 : ∀ k, live τ' g k ↔ live τ g k := fun k => by unfold live; rw [h0, h14]
  have e4 : ∀ k, v3 τ' g 15 k = v3 τ g 15 k := fun k => by unfold v3; rw [h15]
  have e5 : triT τ' g = triT τ g := by
    funext a b c
    apply propext
    unfold triT
    constructor
    · rintro ⟨k, a1, a2⟩; exact ⟨k, (e3 k).mp a1, by rw [← e2]; exact a2⟩
    · rintro ⟨k, a1, a2⟩; exact ⟨k, (e3 k).mpr a1, by rw [e2]; exact a2⟩
  obtain ⟨j1, j2, j3, j4, j5, j6⟩ := h
  refine ⟨by rw [h0]; exact j1, fun k hk => by rw [h14]; rw [h0] at hk; exact j2 k hk, fun k hk => by rw [h14]; rw [h0] at hk; exact j3 k hk, fun k hk => ?_, fun k k' a1 a2 a3 => by rw [e2, e2]; exact j5 k k' ((e3 k).mp a1) ((e3 k').mp a2) a3, by rw [e1, e5]; exact j6⟩
  obtain ⟨c1, G, g1, g2, g3, g4⟩ := j4 k ((e3 k).mp hk)
  refine ⟨by unfold corOK at c1 ⊢; rw [h14]; exact c1, G, g1, by rw [e4, e1, e2]; exact g2, by rw [e4]; exact g3, by rw [e4, e1, e2, h15]; exact g4⟩
/-- triangles of a part of a hull are laid -/
def LayS (σ τ : Tab) (g n : Nat) (T0 : Nat → Nat → Nat → Prop) : Prop :=
  (0 ≤ τ g 0 0 12 ∧ τ g 0 0 12 ≤ 44) ∧ flags τ g ∧ seens τ g ∧ (∀ k', live τ g k' → slotOK τ g n k') ∧ (∀ k' k'', live τ g k' → live τ g k'' → k' ≠ k'' → ¬ rot3 (tv τ g k') (tv τ g k'')) ∧
  (∀ a b c, triT τ g a b c ↔ T0 a b c) ∧ (∀ g' k' i', ¬ (g' = g ∧ (k' = 14 ∨ k' = 15 ∨ (k' = 0 ∧ i' = 0))) → τ g' k' i' = σ g' k' i') ∧ ∀ j, j ≠ 12 → τ g 0 0 j = σ g 0 0 j
theorem LayS_PD {τ : Tab} {T0 : Nat → Nat → Nat → Prop} (h : LayS σ τ g n T0) : PD τ g = PD σ g := by
  funext i
  have e := h.2.2.2.2.2.2.1 g 13 i (fun z => by omega)
  show v3 τ g 13 i = v3 σ g 13 i
  unfold v3
  rw [e]
theorem VV_cr {P : Nat → V3} {a b c q : Nat} (h : VV P a b c q ≠ 0) : cr (sb (P b) (P a)) (sb (P c) (P a)) ≠ (0, 0, 0) := by
  intro z
  apply h
  show dt (cr (sb (P b) (P a)) (sb (P c) (P a))) (sb (P q) (P a)) = 0
  rw [z]
  simp [dt]
theorem lay1 {τ : Tab} {T0 T : Nat → Nat → Nat → Prop} {a b c : Nat} {Q : Tab → Prop} (hp : PtsOK σ g n) (h : LayS σ τ g n T0) (H : Hul (PD σ g) n S T) (hsub : ∀ x y z, T0 x y z → T x y z) (hT : T a b c) (hnew : ¬ T0 a b c) (hQ : ∀ τ', LayS σ τ' g n (fun x y z => T0 x y z ∨ rotq a b c x y z) → Q τ') : wpX2_triangle g a b c τ Q := by
  have ePD := LayS_PD h
  obtain ⟨j1, j2, j3, j4, j5, j6, j7, j8⟩ := h
  have ha := H.bd (H.mem hT)
  have hb := H.bd (H.mem (H.rot hT))
  have hc := H.bd (H.mem (H.rot2 hT))
  refine f_triangle (PtsOK_PD hp ePD) ha hb hc ?_ (by omega) j2 (fun τ' k1 q1 q2 q3 hA => ?_)
  · rw [ePD]
    obtain ⟨q, _, q2⟩ := H.str hT
    exact VV_cr (q := q) (by omega)
  · have hd : ¬ live τ g k1 := fun z => by have := q3 z.1; have := z.2; omega
    obtain ⟨m1, m2⟩ := Tadd_room hA q1 j1 q2 hd j5 (by rw [j6]; exact hnew) H hp.1 gen3 (fun a b ha hb e => gen3_inj hp (H.bd ha) (H.bd hb) e) (fun x y z t => hsub x y z ((j6 x y z).mp t)) hT
    obtain ⟨f1, f2⟩ := Tadd_flags hA q1 j2 j3
    refine hQ τ' ⟨m1, f1, f2, Tadd_slots hA q1 ha hb hc j4, m2, fun x y z => by rw [Tadd_tri hA q1 hd, j6], fun g' k' i' hn' => ?_, fun j hj => ?_⟩
    · rw [hA.2.2.2.1 g' k' i' (fun z => hn' ⟨z.1, by omega⟩)]
      exact j7 g' k' i' hn'
    · rw [hA.2.2.1 j hj, j8 j hj]
theorem lay4 {a b c d : Nat} {Q : Tab → Prop} (hp : PtsOK σ g n) (h0 : σ g 0 0 12 = 0) (hV : VV (PD σ g) a b c d < 0) (ha : a < n) (hb : b < n) (hc : c < n) (hd : d < n) (hQ : ∀ τ, TI τ g n (fun q => q = a ∨ q = b ∨ q = c ∨ q = d) → AddFr σ τ g → Q τ) :
    wpX2_triangle g a b c σ (fun σ1 => wpX2_triangle g a c d σ1 (fun σ2 => wpX2_triangle g c b d σ2 (fun σ3 => wpX2_triangle g b a d σ3 (fun σ4 => Q σ4)))) := by
  have H := Hul_tet (N := n) hV ha hb hc hd
  have e1 : VV (PD σ g) a c d b = VV (PD σ g) a b c d := by simp only [VV, tp, dt, cr, sb]; grind
  have e3 : VV (PD σ g) b a d c = VV (PD σ g) a b c d := by simp only [VV, tp, dt, cr, sb]; grind
  have ab : a ≠ b := by intro e; subst e; rw [VV_d1] at hV; omega
  have ac : a ≠ c := by intro e; subst e; rw [← e1, VV_d1] at hV; omega
  have bc : b ≠ c := by intro e; subst e; rw [← e3, VV_s1] at hV; omega
  have ad : a ≠ d := by intro e; subst e; rw [VV_s1] at hV; omega
  have bd : b ≠ d := by intro e; subst e; rw [VV_s2] at hV; omega
  have cd : c ≠ d := by intro e; subst e; rw [VV_s4] at hV; omega
  have nl : ∀ k, ¬ live σ g k := fun k z => by have := z.1; omega
  have L0 : LayS σ σ g n (fun _ _ _ => False) := ⟨by omega, fun k hk => by omega, fun k hk => by omega, fun k hk => (nl k hk).elim, fun k k' hk => (nl k hk).elim, fun x y z => ⟨fun ⟨k, hk, _⟩ => nl k hk, fun z => z.elim⟩, fun _ _ _ _ => rfl, fun _ _ => rfl⟩
  refine lay1 hp L0 H (fun x y z h => h.elim) (Or.inl (Or.inl ⟨rfl, rfl, rfl⟩)) (fun h => h) (fun τ1 L1 => ?_)
  refine lay1 hp L1 H (fun x y z h => Or.inl (h.resolve_left id)) (Or.inr (Or.inl (Or.inl ⟨rfl, rfl, rfl⟩))) (by simp only [rotq, false_or]; omega) (fun τ2 L2 => ?_)
  refine lay1 hp L2 H (fun x y z h => by rcases h with (h | h) | h; exact h.elim; exact Or.inl h; exact Or.inr (Or.inl h)) (Or.inr (Or.inr (Or.inl (Or.inl ⟨rfl, rfl, rfl⟩)))) (by simp only [rotq, false_or]; omega) (fun τ3 L3 => ?_)
  refine lay1 hp L3 H (fun x y z h => by rcases h with ((h | h) | h) | h; exact h.elim; exact Or.inl h; exact Or.inr (Or.inl h); exact Or.inr (Or.inr (Or.inl h))) (Or.inr (Or.inr (Or.inr (Or.inl ⟨rfl, rfl, rfl⟩)))) (by simp only [rotq, false_or]; omega) (fun τ4 L4 => ?_)
  have ePD := LayS_PD L4
  obtain ⟨j1, j2, j3, j4, j5, j6, j7, j8⟩ := L4
  refine hQ τ4 ⟨j1, j2, j3, j4, j5, ?_⟩ ⟨fun g' k' i' hn' => j7 g' k' i' (fun z => hn' ⟨z.1, by omega⟩), j8⟩
  have e : triT τ4 g = tet a b c d := by
    funext x y z
    apply propext
    rw [j6]
    unfold tet
    constructor
    · rintro ((((h | h) | h) | h) | h)
      · exact h.elim
      · exact Or.inl h
      · exact Or.inr (Or.inl h)
      · exact Or.inr (Or.inr (Or.inl h))
      · exact Or.inr (Or.inr (Or.inr h))
    · rintro (h | h | h | h)
      · exact Or.inl (Or.inl (Or.inl (Or.inr h)))
      · exact Or.inl (Or.inl (Or.inr h))
      · exact Or.inl (Or.inr h)
      · exact Or.inr h
  rw [e, ePD]
  exact H
def BFr (σ τ : Tab) (g : Nat) : Prop := (∀ g' k' i', ¬ (g' = g ∧ (k' = 14 ∨ k' = 15 ∨ (k' = 0 ∧ i' = 0) ∨ (k' = 5 ∧ i' = 0) ∨ (k' = 6 ∧ i' = 0) ∨ (k' = 12 ∧ i' = 0))) → τ g' k' i' = σ g' k' i') ∧ ∀ j, j ≠ 12 → τ g 0 0 j = σ g 0 0 j
theorem keepR_12 {τ : Tab} (h : keepR σ τ g 12 0) : BFr σ τ g := ⟨fun g' k' i' hn => h g' k' i' (fun z => hn ⟨z.1, by omega⟩), fun j _ => by rw [h g 0 0 (fun z => by omega)]⟩
theorem BFr.add {τ υ : Tab} (h : BFr σ τ g) (h' : AddFr τ υ g) : BFr σ υ g := ⟨fun g' k' i' hn => by rw [h'.1 g' k' i' (fun z => hn ⟨z.1, by omega⟩), h.1 g' k' i' hn], fun j hj => by rw [h'.2 j hj, h.2 j hj]⟩
theorem flat_line {P : Nat → V3} (h01 : P 1 ≠ P 0) (h : ∀ c, 2 ≤ c → c < n → cr (sb (P 1) (P 0)) (sb (P c) (P 0)) = (0, 0, 0)) {a b c d : Nat} (ha : a < n) (hb : b < n) (hc : c < n) (hd : d < n) : VV P a b c d = 0 := by
  have all : ∀ x, x < n → cr (sb (P 1) (P 0)) (sb (P x) (P 0)) = (0, 0, 0) := by
    intro x hx
    by_cases e0 : x = 0
    · subst e0; simp only [cr, sb]; refine Prod.ext ?_ (Prod.ext ?_ ?_) <;> grind
    · by_cases e1 : x = 1
      · subst e1; simp only [cr, sb]; refine Prod.ext ?_ (Prod.ext ?_ ?_) <;> grind
      · exact h x (by omega) hx
  have df : ∀ x y, x < n → y < n → cr (sb (P 1) (P 0)) (sb (P x) (P y)) = (0, 0, 0) := by
    intro x y hx hy
    rw [← sb_sb (P x) (P y) (P 0)]
    exact cr_sb _ _ _ (all x hx) (all y hy)
  have z := par_tr (sb_ne h01) (df b a hb ha) (df c a hc ha)
  show dt (cr (sb (P b) (P a)) (sb (P c) (P a))) (sb (P d) (P a)) = 0
  rw [z]
  simp [dt]
theorem flat_plane {P : Nat → V3} {m : V3} (hm : m ≠ (0, 0, 0)) {o : Int} (h : ∀ x, x < n → dt m (P x) = o) {a b c d : Nat} (ha : a < n) (hb : b < n) (hc : c < n) (hd : d < n) : VV P a b c d = 0 := by
  have e := perp3 (inp_perp (h b hb) (h a ha)) (inp_perp (h c hc) (h a ha)) (sb (P d) (P a))
  have k2 : dt m (sb (P d) (P a)) = 0 := by rw [dt_sb, h d hd, h a ha]; omega
  rw [k2, Int.mul_zero] at e
  rcases Int.mul_eq_zero.mp e with y | y
  · have := dt_pos m hm; omega
  · exact y
theorem f_begin {P : Int → Tab → Prop} (hp : PtsOK σ g n) (hn4 : 4 ≤ n) (hmany : σ g 0 0 11 = n) (h0 : σ g 0 0 12 = 0)
    (hflat : (∀ a b c d, a < n → b < n → c < n → d < n → VV (PD σ g) a b c d = 0) → ∀ τ, BFr σ τ g → P (-1) τ)
    (hsol : ∀ (c d : Nat) (τ : Tab), 2 ≤ c → c < n → 2 ≤ d → d < n → c ≠ d → VV (PD σ g) 0 1 c d ≠ 0 → TI τ g n (fun q => q = 0 ∨ q = 1 ∨ q = c ∨ q = d) → τ g 6 0 0 = c → BFr σ τ g → P d τ) : wpX2_begin g σ P := by
  have hn := hp.1
  have hB := hp.2.1
  have iN : inI (n : Int) := inI_sm ⟨by omega, by omega⟩
  have p01 : PD σ g 1 ≠ PD σ g 0 := fun e => by have := hp.2.2 1 0 (by omega) (by omega) e; omega
  -- the four triangles
  have k147 : ∀ (c d p q : Nat) (σ' : Tab), keepR σ σ' g 12 0 → 2 ≤ c → c < n → 2 ≤ d → d < n → c ≠ d → ((p = 1 ∧ q = c) ∨ (p = c ∧ q = 1)) → VV (PD σ g) 0 p q d < 0 → wlX2_begin_147 g P c d p q σ' := by
    intro c d p q σ' hk hc2 hc hd2 hd hcd hpq hV
    unfold wlX2_begin_147
    have ePD : PD σ' g = PD σ g := by funext i; show v3 σ' g 13 i = v3 σ g 13 i; unfold v3; rw [hk g 13 i (fun z => by omega)]
    have hz : σ' g 0 0 12 = 0 := by rw [hk g 0 0 (fun z => by omega)]; exact h0
    refine lay4 (a := 0) (PtsOK_PD hp ePD) hz (by rw [ePD]; exact hV) (by omega) (by omega) (by omega) hd (fun τ hT hF σ5 e5 => ?_)
    subst e5
    have hT' : TI (st τ g 6 0 0 c) g n (fun q => q = 0 ∨ q = 1 ∨ q = c ∨ q = d) := by
      refine TI_congr (st_k (by decide)) (fun i => st_k (by decide)) (fun i => st_k (by decide)) (fun i => st_k (by decide)) ?_
      obtain ⟨j1, j2, j3, j4, j5, j6⟩ := hT
      exact ⟨j1, j2, j3, j4, j5, Hul_congr (fun x => by omega) j6⟩
    refine hsol c d _ hc2 hc hd2 hd hcd ?_ hT' (st_same _ _ _ _ _ _) ?_
    · rcases hpq with ⟨rfl, rfl⟩ | ⟨rfl, rfl⟩
      · omega
      · intro z
        have e : VV (PD σ g) 0 p 1 d = - VV (PD σ g) 0 1 p d := by simp only [VV, tp, dt, cr, sb]; grind
        omega
    · have f1 := (keepR_12 hk).add hF
      exact ⟨fun g' k' i' hn' => by rw [st_ne (fun z => hn' ⟨z.1, by omega⟩)]; exact f1.1 g' k' i' hn', fun j hj => by rw [st_k (by decide)]; exact f1.2 j hj⟩
  have lp : ∀ (m c : Nat) (σ' : Tab), n - c = m → 2 ≤ c → c ≤ n → keepR σ σ' g 12 0 → (∀ c', 2 ≤ c' → c' < c → cr (sb (PD σ g 1) (PD σ g 0)) (sb (PD σ g c') (PD σ g 0)) = (0, 0, 0)) → wlX2_begin_4 g P (m + 1) 1 c σ' := by
    intro m
    induction m with
    | zero =>
      intro c σ' h1 h2 h3 hk h4
      have hc : c = n := by omega
      unfold wlX2_begin_4
      rw [hk g 0 0 (fun z => by omega), hmany]
      refine ⟨inI_sm ⟨by omega, by omega⟩, iN, fun _ => ?_, fun z => by omega⟩
      unfold wlX2_begin_46
      rw [hk g 0 0 (fun z => by omega), hmany]
      refine ⟨inI_sm ⟨by omega, by omega⟩, iN, fun z => by omega, fun _ => hflat (fun a b c' d ha hb hc' hd => ?_) σ' (keepR_12 hk)⟩
      exact flat_line p01 (fun x hx hxn => h4 x hx (by omega)) ha hb hc' hd
    | succ m ih =>
      intro c σ' h1 h2 h3 hk h4
      have ePD : ∀ i, v3 σ' g 13 i = PD σ g i := fun i => by unfold PD v3; rw [hk g 13 i (fun z => by omega)]
      unfold wlX2_begin_4
      rw [hk g 0 0 (fun z => by omega), hmany]
      refine ⟨inI_sm ⟨by omega, by omega⟩, iN, fun z => by omega, fun _ => ⟨⟨by decide, by decide⟩, ⟨by omega, by omega⟩, ?_⟩⟩
      rw [Int.toNat_natCast]
      refine f_through (by decide) (by rw [ePD]; exact hB 0 (by omega)) (by rw [ePD]; exact hB _ (by show 1 < n; omega)) (by rw [ePD]; exact hB c (by omega)) (fun z τ hk2 => ?_) (fun z τ hk2 G hG s1 s2 s3 => ?_)
      · rw [ePD, ePD, ePD] at z
        refine ⟨⟨by decide, by decide⟩, fun y => absurd rfl y, fun _ => ?_⟩
        rw [ic]
        refine ih (c + 1) τ (by omega) (by omega) (by omega) (fun g' k' i' hn' => by rw [hk2 g' k' i' hn', hk g' k' i' hn']) (fun c' hc' hlt => ?_)
        by_cases e : c' = c
        · subst e; exact z
        · exact h4 c' hc' (by omega)
      · refine ⟨⟨by decide, by decide⟩, fun _ => ?_, fun y => absurd (by decide) y⟩
        rw [ePD, ePD, ePD] at s1
        rw [ePD] at s3
        have s1 : sm G (v3 τ g 12 0) = cr (sb (PD σ g 1) (PD σ g 0)) (sb (PD σ g c) (PD σ g 0)) := s1
        have hk3 : keepR σ τ g 12 0 := fun g' k' i' hn' => by rw [hk2 g' k' i' hn', hk g' k' i' hn']
        have ePD3 : ∀ i, v3 τ g 13 i = PD σ g i := fun i => by unfold PD v3; rw [hk3 g 13 i (fun z => by omega)]
        have e00 : τ g 0 0 = σ g 0 0 := hk3 g 0 0 (fun z => by omega)
        -- the height over the plane is the volume
        have hV : ∀ q, VV (PD σ g) 0 1 c q = G * (dt (v3 τ g 12 0) (PD σ g q) - τ g 12 0 3) := by
          intro q
          rw [s3, ← dt_sb, ← sm_dt, s1]
          rfl
        have zb : ∀ d, d < n → inL (dt (v3 τ g 12 0) (PD σ g d) - τ g 12 0 3) := by
          intro d hd
          -- a bound by the same way as for a triangle's plane
          obtain ⟨⟨a1, a2⟩, ⟨a3, a4⟩, a5, a6⟩ := hB d hd
          have pb := plOK_bd (σ := fun g' k' i' => if k' = 15 then τ g 12 0 else σ g' k' i') (g := g) (k := 0) (hB 0 (by omega)) (hB 1 (by omega)) (hB c (by omega)) ⟨G, hG, by simpa [v3] using s1, by simpa [v3] using s2, by simpa [v3] using s3⟩
          simp only [if_true] at pb
          obtain ⟨x1, x2, x3, x4⟩ := pb
          have t1 := mul_bd (a := 2097152) (b := 512) x1 (y := (PD σ g d).1) (by omega) (by decide)
          have t2 := mul_bd (a := 2097152) (b := 512) x2 (y := (PD σ g d).2.1) (by omega) (by decide)
          have t3 := mul_bd (a := 2097152) (b := 512) x3 (y := (PD σ g d).2.2) (by omega) (by decide)
          simp only [dt, v3]
          exact inL_sm ⟨by omega, by omega⟩
        have pl : ∀ x, x < 2 ∨ x = c → dt (v3 τ g 12 0) (PD σ g x) = τ g 12 0 3 := by
          intro x hx
          have : VV (PD σ g) 0 1 c x = 0 := by
            have cs : x = 0 ∨ x = 1 ∨ x = c := by omega
            rcases cs with rfl | rfl | rfl
            · exact VV_s1 _ _ _ _
            · exact VV_s2 _ _ _ _
            · exact VV_s4 _ _ _ _
          rw [hV] at this
          rcases Int.mul_eq_zero.mp this with y | y <;> omega
        unfold wlX2_begin_46
        rw [e00, hmany]
        refine ⟨inI_sm ⟨by omega, by omega⟩, iN, fun _ => ?_, fun y => by omega⟩
        have hcc2 : 2 ≤ c := h2
        have hccn : c < n := by omega
        have lp2 : ∀ (m d : Nat), n - d = m → 2 ≤ d → d ≤ n → (∀ d', d' < d → dt (v3 τ g 12 0) (PD σ g d') = τ g 12 0 3) → wlX2_begin_58 g P (m + 1) 1 c d τ := by
          intro m
          induction m with
          | zero =>
            intro d h1 h2 h3 h4
            have hd : d = n := by omega
            unfold wlX2_begin_58
            rw [e00, hmany]
            refine ⟨inI_sm ⟨by omega, by omega⟩, iN, fun _ => ?_, fun y => by omega⟩
            unfold wlX2_begin_90
            rw [e00, hmany]
            refine ⟨inI_sm ⟨by omega, by omega⟩, iN, fun y => by omega, fun _ => hflat (fun a b c' d ha hb hc' hd => ?_) τ (keepR_12 hk3)⟩
            refine flat_plane (m := v3 τ g 12 0) (o := τ g 12 0 3) (fun y => ?_) (fun x hx => h4 x (by omega)) ha hb hc' hd
            rw [y] at s1
            rw [ePD, ePD, ePD] at z
            apply z
            rw [show ((1 : Int)).toNat = 1 from rfl, ← s1]
            simp [sm]
          | succ m ih2 =>
            intro d h1 h2 h3 h4
            unfold wlX2_begin_58
            rw [e00, hmany]
            refine ⟨inI_sm ⟨by omega, by omega⟩, iN, fun y => by omega, fun _ => ⟨⟨by omega, by omega⟩, ?_⟩⟩
            rw [Int.toNat_natCast]
            refine f_above (by rw [ePD3]; exact hB d (by omega)) ?_
            rw [ePD3]
            refine ⟨zb d (by omega), fun hne => ?_, fun he => ?_⟩
            · have cd : c ≠ d := by
                intro e
                apply hne
                rw [← e, pl c (Or.inr rfl)]
                omega
              unfold wlX2_begin_90
              rw [e00, hmany, Int.toNat_natCast]
              refine ⟨inI_sm ⟨by omega, by omega⟩, iN, fun _ => ⟨⟨by omega, by omega⟩, ?_⟩, fun y => by omega⟩
              refine f_above (by rw [ePD3]; exact hB d (by omega)) ?_
              rw [ePD3]
              refine ⟨zb d (by omega), fun hle => ?_, fun hgt => ?_⟩
              · unfold wlX2_begin_123
                refine ⟨⟨by decide, by decide⟩, fun _ => ⟨fun _ => ?_, fun y => absurd rfl y⟩, fun y => absurd rfl y⟩
                refine k147 c d 1 c τ hk3 hcc2 hccn h2 (by omega) cd (Or.inl ⟨rfl, rfl⟩) ?_
                rw [hV]
                exact Int.mul_neg_of_pos_of_neg hG (by omega)
              · unfold wlX2_begin_123
                refine ⟨⟨by decide, by decide⟩, fun y => absurd y (by decide), fun _ => ⟨fun y => absurd y (by decide), fun _ => ?_⟩⟩
                refine k147 c d c 1 τ hk3 hcc2 hccn h2 (by omega) cd (Or.inr ⟨rfl, rfl⟩) ?_
                have e : VV (PD σ g) 0 c 1 d = - VV (PD σ g) 0 1 c d := by simp only [VV, tp, dt, cr, sb]; grind
                rw [e, hV]
                have := Int.mul_pos hG (show 0 < dt (v3 τ g 12 0) (PD σ g d) - τ g 12 0 3 by omega)
                omega
            · rw [ic]
              refine ih2 (d + 1) (by omega) (by omega) (by omega) (fun d' hd' => ?_)
              by_cases e : d' = d
              · subst e
                have := Decidable.of_not_not he
                omega
              · exact h4 d' (by omega)
        exact ⟨_, lp2 _ 2 rfl (by decide) (by omega) (fun d' hd' => pl d' (Or.inl (by omega)))⟩
  exact ⟨_, lp _ 2 σ rfl (by decide) (by omega) (keepR_rf _ _ _ _) (fun c' h1 h2 => by omega)⟩
end FG

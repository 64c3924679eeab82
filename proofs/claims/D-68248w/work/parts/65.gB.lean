/-! THE MODEL'S QUERIES: corners, support, count, side -/
section GB
variable {σ : Tab} {N fc m : Nat} {sz : Nat → Nat} {co : Nat → Nat → Nat} {nn : Nat → V3} {off : Nat → Int}
def isc (σ : Tab) (p e : Nat) : Prop := (σ 0 37 0 e).tdiv 32 = p ∨ (σ 0 37 0 e).tmod 32 = p
theorem td32 {x y : Nat} (h : y < 32) : (32 * (x : Int) + y).tdiv 32 = x ∧ (32 * (x : Int) + y).tmod 32 = y := by
  rw [Int.tdiv_eq_ediv_of_nonneg (by omega), Int.tmod_eq_emod_of_nonneg (by omega)]
  omega
theorem MSp_edge (h : MSp σ N fc sz co nn off m) {e : Nat} (he : e < m) : ∃ x y : Nat, x < y ∧ y < N ∧ dE fc sz co x y ∧ σ 0 37 0 e = 32 * x + y ∧ (σ 0 37 0 e).tdiv 32 = x ∧ (σ 0 37 0 e).tmod 32 = y := by
  obtain ⟨-, h2, -, -, -, -, -, -, -, -, -, hE⟩ := h
  obtain ⟨x, y, q1, q2, q3, q4, q5, _⟩ := hE.1 e he
  have := td32 (x := x) (y := y) (by omega)
  exact ⟨x, y, q1, q2, q4, q5, by rw [q5]; exact this.1, by rw [q5]; exact this.2⟩
theorem isc_icn (h : MSp σ N fc sz co nn off m) {p : Nat} : (∃ e, e < m ∧ isc σ p e) ↔ icn fc sz co p := by
  obtain ⟨T, H⟩ := Hul_of h.2.2.2.1 h.2.2.2.2.1
  obtain ⟨-, h2, -, hinj, -, -, -, -, hF, -, -, hE⟩ := id h
  constructor
  · rintro ⟨e, he, hi⟩
    obtain ⟨x, y, q1, q2, q4, q5, q6, q7⟩ := MSp_edge h he
    rw [icn_dE hF]
    unfold isc at hi
    rw [q6, q7] at hi
    rcases hi with w | w
    · have : x = p := by omega
      subst this
      exact ⟨y, q4⟩
    · have : y = p := by omega
      subst this
      exact ⟨x, dE_sym H hinj hF q4⟩
  · intro hi
    obtain ⟨q, d⟩ := (icn_dE hF).mp hi
    obtain ⟨b1, b2, b3⟩ := dE_lt hF d
    rcases Nat.lt_or_gt_of_ne b3 with w | w
    · obtain ⟨e, he, ee⟩ := hE.2.2 p q w b2 (by omega) d
      refine ⟨e, he, Or.inl ?_⟩
      rw [ee]; exact (td32 (by omega)).1
    · obtain ⟨e, he, ee⟩ := hE.2.2 q p w b1 (by omega) (dE_sym H hinj hF d)
      refine ⟨e, he, Or.inr ?_⟩
      rw [ee]; exact (td32 (by omega)).2
theorem f_isCorner8 {P : Int → Tab → Prop} {p : Nat} (h : MSp σ N fc sz co nn off m) (hp : p < 24) (h1 : icn fc sz co p → P 1 σ) (h0 : ¬ icn fc sz co p → P 0 σ) : wpX8_isCorner p σ P := by
  have hm : σ 0 23 0 19 = m ∧ m ≤ 66 := ⟨h.2.2.2.2.2.2.2.2.2.2.1, h.2.2.2.2.2.2.2.2.2.1⟩
  have iM : inI (m : Int) := inI_sm ⟨by omega, by omega⟩
  have i01 : ∀ {A B : Prop} {f : Int}, ((f = 1 ∧ A) ∨ (f = 0 ∧ B)) → f = 0 ∨ f = 1 := by
    intro A B f h
    rcases h with ⟨z, _⟩ | ⟨z, _⟩
    · exact Or.inr z
    · exact Or.inl z
  have lp : ∀ (q e : Nat) (x2 : Int), m - e = q → e ≤ m → ((x2 = 1 ∧ icn fc sz co p) ∨ (x2 = 0 ∧ ∀ e', e' < e → ¬ isc σ p e')) → wlX8_isCorner_4 P (q + 1) p x2 e σ := by
    intro q
    induction q with
    | zero =>
      intro e x2 e1 e2 e3
      unfold wlX8_isCorner_4
      rw [hm.1]
      refine ⟨inI_sm ⟨by omega, by omega⟩, iM, fun _ => ⟨i01 e3, ?_⟩, fun z => by omega⟩
      rcases e3 with ⟨z, w⟩ | ⟨z, w⟩
      · rw [z]; exact h1 w
      · rw [z]
        refine h0 (fun hi => ?_)
        obtain ⟨e', he', w'⟩ := (isc_icn h).mpr hi
        exact w e' (by omega) w'
    | succ q ih =>
      intro e x2 e1 e2 e3
      have hf := i01 e3
      obtain ⟨x, y, q1, q2, q4, q5, q6, q7⟩ := MSp_edge h (show e < m by omega)
      have hN := h.2.1
      unfold wlX8_isCorner_4
      rw [hm.1, ic, Int.toNat_natCast, q6, q7, q5]
      have yes : isc σ p e → wlX8_isCorner_4 P (q + 1) p 1 ((e + 1 : Nat) : Int) σ := fun hi => ih (e + 1) 1 (by omega) (by omega) (Or.inl ⟨rfl, (isc_icn h).mp ⟨e, by omega, hi⟩⟩)
      refine ⟨inI_sm ⟨by omega, by omega⟩, iM, fun z => by omega, fun _ => ⟨inI_f hf, fun z => ?_, fun z => ⟨⟨by omega, by omega⟩, inI_sm ⟨by omega, by omega⟩, inI_sm ⟨by omega, by omega⟩, inI_sm ⟨by omega, by omega⟩, fun w => yes (Or.inl (by rw [q6]; exact w)), fun w => ⟨inI_sm ⟨by omega, by omega⟩, inI_sm ⟨by omega, by omega⟩, fun w2 => ?_, fun w2 => yes (Or.inr (by rw [q7]; exact Decidable.of_not_not w2))⟩⟩⟩⟩
      · rcases e3 with ⟨_, w⟩ | ⟨z', _⟩
        · exact ih (e + 1) 1 (by omega) (by omega) (Or.inl ⟨rfl, w⟩)
        · exact absurd z' z
      · refine ih (e + 1) 0 (by omega) (by omega) (Or.inr ⟨rfl, fun e' he' => ?_⟩)
        rcases e3 with ⟨z', _⟩ | ⟨_, w'⟩
        · omega
        · by_cases ee : e' = e
          · subst ee
            unfold isc
            rw [q6, q7]
            rintro (r | r)
            · exact w r
            · exact w2 r
          · exact w' e' (by omega)
  exact ⟨_, lp _ 0 0 rfl (by omega) (Or.inr ⟨rfl, fun e' he' => absurd he' (Nat.not_lt_zero _)⟩)⟩
/-- the lowest corner that is farthest -/
def SupR (Q : Nat → V3) (N : Nat) (C : Nat → Prop) (d : V3) (r : Nat) : Prop := r < N ∧ C r ∧ (∀ p, p < N → C p → dt d (Q p) ≤ dt d (Q r)) ∧ ∀ p, p < r → C p → dt d (Q p) < dt d (Q r)
theorem SupR_uniq {Q Q' : Nat → V3} {C C' : Nat → Prop} {d : V3} {r r' : Nat} (e : ∀ i, i < N → Q i = Q' i) (ec : ∀ i, i < N → (C i ↔ C' i)) (h : SupR Q N C d r) (h' : SupR Q' N C' d r') : r = r' := by
  obtain ⟨a1, a2, a3, a4⟩ := h
  obtain ⟨b1, b2, b3, b4⟩ := h'
  have m1 := a3 r' b1 ((ec r' b1).mpr b2)
  have m2 := b3 r a1 ((ec r a1).mp a2)
  rw [← e r a1, ← e r' b1] at m2
  rcases Nat.lt_trichotomy r r' with q | q | q
  · have := b4 r q ((ec r a1).mp a2)
    rw [← e r a1, ← e r' b1] at this
    omega
  · exact q
  · have := a4 r' q ((ec r' b1).mpr b2)
    omega
def wid (x : Int) : Prop := -65536 ≤ x ∧ x ≤ 65536
theorem dt_bd {x y z : Int} {p : V3} (hx : wid x) (hy : wid y) (hz : wid z) (hp : B93 p) : -100663296 ≤ dt (x, y, z) p ∧ dt (x, y, z) p ≤ 100663296 := by
  obtain ⟨⟨a1, a2⟩, ⟨a3, a4⟩, a5, a6⟩ := hp
  have m1 := mul_bd (a := 65536) (b := 512) (x := x) (y := p.1) hx ⟨a1, a2⟩ (by decide)
  have m2 := mul_bd (a := 65536) (b := 512) (x := y) (y := p.2.1) hy ⟨a3, a4⟩ (by decide)
  have m3 := mul_bd (a := 65536) (b := 512) (x := z) (y := p.2.2) hz ⟨a5, a6⟩ (by decide)
  simp only [dt]
  omega
theorem icn_ex (h : MSp σ N fc sz co nn off m) : ∃ p, p < N ∧ icn fc sz co p := by
  obtain ⟨T, H⟩ := Hul_of h.2.2.2.1 h.2.2.2.2.1
  obtain ⟨a, b, c, t⟩ := H.non
  exact ⟨a, H.bd (H.mem t), (icn_vtx H h.2.2.2.1 h.2.2.2.2.2.2.2.2.1).mpr ⟨b, c, t⟩⟩
theorem f_sup54 {P : Int → Tab → Prop} {x y z : Int} (h : MSp σ N fc sz co nn off m) (hx : wid x) (hy : wid y) (hz : wid z) (hP : ∀ r : Nat, SupR (MP σ) N (icn fc sz co) (x, y, z) r → P r σ) : ∃ k, wlX8_support_54 P k x y z (-1) 0 0 σ := by
  have hN := h.2.1
  have hB := h.2.2.1
  have iN : inI (N : Int) := inI_sm ⟨by omega, by omega⟩
  have lp : ∀ (q p : Nat) (x4 x5 : Int), N - p = q → p ≤ N → ((x4 = -1 ∧ ∀ i, i < p → ¬ icn fc sz co i) ∨ (∃ b : Nat, x4 = b ∧ b < p ∧ icn fc sz co b ∧ x5 = dt (x, y, z) (MP σ b) ∧ (∀ i, i < p → icn fc sz co i → dt (x, y, z) (MP σ i) ≤ x5) ∧ ∀ i, i < b → icn fc sz co i → dt (x, y, z) (MP σ i) < x5)) → wlX8_support_54 P (q + 1) x y z x4 x5 p σ := by
    intro q
    induction q with
    | zero =>
      intro p x4 x5 e1 e2 e3
      unfold wlX8_support_54
      rw [h.1]
      refine ⟨inI_sm ⟨by omega, by omega⟩, iN, fun _ => ?_, fun z => by omega⟩
      rcases e3 with ⟨_, w⟩ | ⟨b, w1, w2, w3, w4, w5, w6⟩
      · obtain ⟨i, hi, hc⟩ := icn_ex h
        exact absurd hc (w i (by omega))
      · rw [w1]
        rw [w4] at w5 w6
        exact hP b ⟨by omega, w3, fun i hi hc => w5 i (by omega) hc, w6⟩
    | succ q ih =>
      intro p x4 x5 e1 e2 e3
      unfold wlX8_support_54
      rw [h.1, ic, Int.toNat_natCast]
      obtain ⟨ax, ay⟩ := id hx
      obtain ⟨bx, bY⟩ := id hy
      obtain ⟨cx, cy⟩ := id hz
      refine ⟨inI_sm ⟨by omega, by omega⟩, iN, fun z => by omega, fun _ => ⟨inI_sm ⟨by omega, by omega⟩, ⟨by omega, by omega⟩, inI_sm ⟨by omega, by omega⟩, inI_sm ⟨by omega, by omega⟩, fun y8 e8 => ?_⟩⟩
      have e8 : y8 = dt (x, y, z) (MP σ p) := e8
      have b8 := dt_bd hx hy hz (hB p (by omega))
      rw [← e8] at b8
      refine f_isCorner8 h (by omega) (fun hc => ?_) (fun hc => ?_)
      · refine ⟨⟨by decide, by decide⟩, fun z => absurd z (by decide), fun _ => ?_⟩
        rcases e3 with ⟨w1, w2⟩ | ⟨b, w1, w2, w3, w4, w5, w6⟩
        · refine ⟨inI_sm ⟨by omega, by omega⟩, fun _ => ?_, fun z => by omega⟩
          refine ih (p + 1) p y8 (by omega) (by omega) (Or.inr ⟨p, rfl, by omega, hc, e8, fun i hi hi2 => ?_, fun i hi hi2 => absurd hi2 (w2 i hi)⟩)
          by_cases ee : i = p
          · subst ee; omega
          · exact absurd hi2 (w2 i (by omega))
        · have b5 := dt_bd hx hy hz (hB b (by omega))
          rw [← w4] at b5
          refine ⟨inI_sm ⟨by omega, by omega⟩, fun z => by omega, fun _ => ⟨inL_sm ⟨by omega, by omega⟩, inL_sm ⟨by omega, by omega⟩, fun z => ?_, fun z => ?_⟩⟩
          · refine ih (p + 1) x4 x5 (by omega) (by omega) (Or.inr ⟨b, w1, by omega, w3, w4, fun i hi hi2 => ?_, w6⟩)
            by_cases ee : i = p
            · subst ee; omega
            · exact w5 i (by omega) hi2
          · refine ih (p + 1) p y8 (by omega) (by omega) (Or.inr ⟨p, rfl, by omega, hc, e8, fun i hi hi2 => ?_, fun i hi hi2 => ?_⟩)
            · by_cases ee : i = p
              · subst ee; omega
              · have := w5 i (by omega) hi2; omega
            · have := w5 i hi hi2; omega
      · refine ⟨⟨by decide, by decide⟩, fun _ => ?_, fun z => absurd rfl z⟩
        refine ih (p + 1) x4 x5 (by clear e3; omega) (by clear e3; omega) ?_
        rcases e3 with ⟨w1, w2⟩ | ⟨b, w1, w2, w3, w4, w5, w6⟩
        · refine Or.inl ⟨w1, fun i hi => ?_⟩
          by_cases ee : i = p
          · subst ee; exact hc
          · exact w2 i (by omega)
        · refine Or.inr ⟨b, w1, by omega, w3, w4, fun i hi hi2 => ?_, w6⟩
          by_cases ee : i = p
          · subst ee; exact absurd hi2 hc
          · exact w5 i (by omega) hi2
  exact ⟨_, lp _ 0 (-1) 0 rfl (by omega) (Or.inl ⟨rfl, fun i hi => absurd hi (Nat.not_lt_zero _)⟩)⟩
/-- where a point lies -/
def SideR (fc : Nat) (nn : Nat → V3) (off : Nat → Int) (x : V3) (r : Int) : Prop := (r = -1 ∧ ∃ j, j < fc ∧ 0 < dt (nn j) x - off j) ∨ ((∀ j, j < fc → dt (nn j) x - off j ≤ 0) ∧ ((r = 0 ∧ ∃ j, j < fc ∧ dt (nn j) x - off j = 0) ∨ (r = 1 ∧ ∀ j, j < fc → dt (nn j) x - off j ≠ 0)))
theorem SideR_uniq {x : V3} {r r' : Int} (h : SideR fc nn off x r) (h' : SideR fc nn off x r') : r = r' := by
  rcases h with ⟨e, j, hj, w⟩ | ⟨a, b⟩
  · rcases h' with ⟨e', _⟩ | ⟨a', _⟩
    · omega
    · have := a' j hj; omega
  · rcases h' with ⟨e', j, hj, w⟩ | ⟨a', b'⟩
    · have := a j hj; omega
    · rcases b with ⟨e, j, hj, w⟩ | ⟨e, w⟩
      · rcases b' with ⟨e', _⟩ | ⟨e', w'⟩
        · omega
        · exact absurd w (w' j hj)
      · rcases b' with ⟨e', j, hj, w'⟩ | ⟨e', _⟩
        · exact absurd w' (w j hj)
        · omega
/-- a map into itself that takes no value twice takes all -/
theorem inj_surj {n : Nat} {p : Nat → Nat} (hp : ∀ k, k < n → p k < n) (hi : ∀ i j, i < j → j < n → p i ≠ p j) {v : Nat} (hv : v < n) : ∃ k, k < n ∧ p k = v := by
  rcases Classical.em (∃ k, k < n ∧ p k = v) with w | w
  · exact w
  · have := pigeon_out n 1 n p (fun _ => v) hp hi (fun _ _ => hv) (fun i j h1 h2 => by omega) (fun i j h1 _ e => w ⟨i, h1, e⟩)
    omega
def odx (σ : Tab) (k : Nat) : Nat := (σ 0 36 0 k).toNat
theorem MSp_od (h : MSp σ N fc sz co nn off m) : (∀ k, k < fc → odx σ k < fc ∧ σ 0 36 0 k = odx σ k) ∧ ∀ i j, i < j → j < fc → odx σ i ≠ odx σ j := by
  obtain ⟨-, -, -, -, -, h6, -, h8, -, -, -, -⟩ := h
  have a : ∀ k, k < fc → odx σ k < fc ∧ σ 0 36 0 k = odx σ k := by
    intro k hk
    obtain ⟨f, f1, f2, _⟩ := h6.2.2 k hk
    unfold odx
    rw [f1, Int.toNat_natCast]
    exact ⟨f2, rfl⟩
  refine ⟨a, fun i j hij hj e => h8 i j hij hj ?_⟩
  rw [(a i (by omega)).2, (a j hj).2, e]
theorem f_side51 {P : Int → Tab → Prop} {x y z : Int} (h : MSp σ N fc sz co nn off m) (hx : wid x) (hy : wid y) (hz : wid z) (hP : ∀ r, SideR fc nn off (x, y, z) r → P r σ) : ∃ k, wlX8_side_51 P k x y z 1 0 σ := by
  obtain ⟨o1, o2⟩ := MSp_od h
  obtain ⟨-, -, -, -, -, ⟨h11, h44, -⟩, h7, -, -, -, -, -⟩ := id h
  obtain ⟨pn, hpn⟩ : ∃ pn : Nat → V3, pn = fun f => nf (σ 0 30 0) (σ 0 31 0) (σ 0 32 0) f := ⟨_, rfl⟩
  have e7 : ∀ k, k < fc → pn (odx σ k) = nn k ∧ σ 0 33 0 (odx σ k) = off k := fun k hk => by rw [hpn]; exact ⟨(h7 k hk).1, (h7 k hk).2.1⟩
  have up : ∀ f, f < fc → ∃ k, k < fc ∧ odx σ k = f := fun f hf => inj_surj (fun k hk => (o1 k hk).1) o2 hf
  have bd : ∀ f, f < fc → -1000000000000 ≤ dt (pn f) (x, y, z) - σ 0 33 0 f ∧ dt (pn f) (x, y, z) - σ 0 33 0 f ≤ 1000000000000 := by
    intro f hf
    obtain ⟨k, hk, e⟩ := up f hf
    have b := h7 k hk
    obtain ⟨-, -, b1, b2, b3, b4⟩ := b
    rw [← (e7 k hk).1, e] at b1 b2 b3
    rw [← (e7 k hk).2, e] at b4
    unfold bN at b1 b2 b3
    unfold bO at b4
    have m1 := mul_bd (a := 2097152) (b := 65536) b1 hx (by decide)
    have m2 := mul_bd (a := 2097152) (b := 65536) b2 hy (by decide)
    have m3 := mul_bd (a := 2097152) (b := 65536) b3 hz (by decide)
    simp only [dt]
    omega
  have iM : inI (fc : Int) := inI_sm ⟨by omega, by omega⟩
  have lp : ∀ (q f : Nat) (r : Int), fc - f = q → f ≤ fc → SideR f pn (σ 0 33 0) (x, y, z) r → wlX8_side_51 P (q + 1) x y z r f σ := by
    intro q
    induction q with
    | zero =>
      intro f r e1 e2 e3
      have : f = fc := by omega
      subst this
      unfold wlX8_side_51
      rw [h11]
      refine ⟨inI_sm ⟨by omega, by omega⟩, iM, fun _ => hP r ?_, fun z => by omega⟩
      rcases e3 with ⟨e, j, hj, w⟩ | ⟨a, b⟩
      · obtain ⟨k, hk, ek⟩ := up j hj
        exact Or.inl ⟨e, k, hk, by rw [← (e7 k hk).1, ← (e7 k hk).2, ek]; exact w⟩
      · refine Or.inr ⟨fun k hk => by rw [← (e7 k hk).1, ← (e7 k hk).2]; exact a _ (o1 k hk).1, ?_⟩
        rcases b with ⟨e, j, hj, w⟩ | ⟨e, w⟩
        · obtain ⟨k, hk, ek⟩ := up j hj
          exact Or.inl ⟨e, k, hk, by rw [← (e7 k hk).1, ← (e7 k hk).2, ek]; exact w⟩
        · exact Or.inr ⟨e, fun k hk => by rw [← (e7 k hk).1, ← (e7 k hk).2]; exact w _ (o1 k hk).1⟩
    | succ q ih =>
      intro f r e1 e2 e3
      have hb := bd f (by omega)
      obtain ⟨ax, ay⟩ := id hx
      obtain ⟨bx, bY⟩ := id hy
      obtain ⟨cx, cy⟩ := id hz
      unfold wlX8_side_51
      rw [h11, ic, Int.toNat_natCast]
      refine ⟨inI_sm ⟨by omega, by omega⟩, iM, fun z => by omega, fun _ => ⟨⟨by omega, by omega⟩, inI_sm ⟨by omega, by omega⟩, inI_sm ⟨by omega, by omega⟩, inI_sm ⟨by omega, by omega⟩, fun y8 e8 => ?_⟩⟩
      have e8 : y8 = dt (pn f) (x, y, z) - σ 0 33 0 f := by rw [hpn]; exact e8
      have low : ∀ {Q : Nat → Prop}, Q f → (∀ j, j < f → Q j) → ∀ j, j < f + 1 → Q j := by
        intro Q h1 h2 j hj
        by_cases ee : j = f
        · subst ee; exact h1
        · exact h2 j (by omega)
      refine ⟨inL_sm ⟨by omega, by omega⟩, fun w => ⟨fun w2 => ?_, fun w2 => ⟨?_, fun w3 => ?_, fun w3 => ?_⟩⟩, fun w => ?_⟩
      · refine ih (f + 1) r (by omega) (by omega) ?_
        rcases e3 with ⟨e, j, hj, v⟩ | ⟨a, b⟩
        · exact Or.inl ⟨e, j, by omega, v⟩
        · refine Or.inr ⟨low (by rw [← e8]; omega) a, ?_⟩
          rcases b with ⟨e, j, hj, v⟩ | ⟨e, v⟩
          · exact Or.inl ⟨e, j, by omega, v⟩
          · exact Or.inr ⟨e, low (by rw [← e8]; exact w2) v⟩
      · rcases e3 with ⟨e, _⟩ | ⟨_, ⟨e, _⟩ | ⟨e, _⟩⟩ <;> exact inI_sm ⟨by omega, by omega⟩
      · refine ih (f + 1) r (by omega) (by omega) ?_
        rcases e3 with ⟨e, j, hj, v⟩ | ⟨a, b⟩
        · exact Or.inl ⟨e, j, by omega, v⟩
        · refine Or.inr ⟨low (by rw [← e8]; omega) a, Or.inl ?_⟩
          rcases b with ⟨e, j, hj, v⟩ | ⟨e, v⟩
          · exact ⟨e, j, by omega, v⟩
          · exact absurd e w3
      · refine ih (f + 1) 0 (by omega) (by omega) ?_
        have w3 := Decidable.of_not_not w3
        rcases e3 with ⟨e, _⟩ | ⟨a, b⟩
        · omega
        · exact Or.inr ⟨low (by rw [← e8]; omega) a, Or.inl ⟨rfl, f, by omega, by rw [← e8]; exact Decidable.of_not_not w2⟩⟩
      · exact ih (f + 1) (-1) (by omega) (by omega) (Or.inl ⟨rfl, f, by omega, by rw [← e8]; omega⟩)
  exact ⟨_, lp _ 0 1 rfl (by omega) (Or.inr ⟨fun j hj => absurd hj (Nat.not_lt_zero _), Or.inr ⟨rfl, fun j hj => absurd hj (Nat.not_lt_zero _)⟩⟩)⟩
end GB

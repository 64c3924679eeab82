/-! THE MODEL: build, from its start -/
section FX
def kn (Q : Nat → V3) (N : Nat) (a b c d : Nat → Int) (m x y z : Nat) : Prop := ∀ n o, prim n → Fac Q (fun q => q < N) n o → dt n (Q x) = o → dt n (Q y) = o → dt n (Q z) = o → cr (sb (Q y) (Q x)) (sb (Q z) (Q x)) ≠ (0, 0, 0) → knw a b c d m n o
def PRC (Q : Nat → V3) (N : Nat) (a b c d : Nat → Int) (m x y z : Nat) : Prop := ∀ x' y' z', x' < y' → y' < z' → z' < N → (x' < x ∨ (x' = x ∧ (y' < y ∨ (y' = y ∧ z' < z)))) → kn Q N a b c d m x' y' z'
theorem kn_mono {Q : Nat → V3} {N : Nat} {a b c d a' b' c' d' : Nat → Int} {m m' x y z : Nat} (h : kn Q N a b c d m x y z) (hm : m ≤ m') (e : ∀ f, f < m → a' f = a f ∧ b' f = b f ∧ c' f = c f ∧ d' f = d f) : kn Q N a' b' c' d' m' x y z := by
  intro n o h1 h2 h3 h4 h5 h6
  obtain ⟨f, hf, w1, w2, w3, w4⟩ := h n o h1 h2 h3 h4 h5 h6
  obtain ⟨q1, q2, q3, q4⟩ := e f hf
  exact ⟨f, by omega, by rw [q1]; exact w1, by rw [q2]; exact w2, by rw [q3]; exact w3, by rw [q4]; exact w4⟩
theorem cr_sw {p q r : V3} (h : cr (sb q p) (sb r p) ≠ (0, 0, 0)) : cr (sb p q) (sb r q) ≠ (0, 0, 0) ∧ cr (sb r p) (sb q p) ≠ (0, 0, 0) := by
  have e1 : cr (sb p q) (sb r q) = sm (-1) (cr (sb q p) (sb r p)) := by
    simp only [cr, sb, sm]
    refine Prod.ext ?_ (Prod.ext ?_ ?_) <;> grind
  have e2 : cr (sb r p) (sb q p) = sm (-1) (cr (sb q p) (sb r p)) := by
    simp only [cr, sb, sm]
    refine Prod.ext ?_ (Prod.ext ?_ ?_) <;> grind
  rw [e1, e2]
  generalize cr (sb q p) (sb r p) = u at h
  have : sm (-1) u ≠ (0, 0, 0) := by
    intro z
    apply h
    unfold sm at z
    simp only [Prod.mk.injEq] at z
    refine Prod.ext ?_ (Prod.ext ?_ ?_)
    · show u.1 = 0; omega
    · show u.2.1 = 0; omega
    · show u.2.2 = 0; omega
  exact ⟨this, this⟩
theorem PRC_all {Q : Nat → V3} {N : Nat} {a b c d : Nat → Int} {m : Nat} (h : PRC Q N a b c d m N 0 0) : ∀ n o, prim n → Fac Q (fun q => q < N) n o → knw a b c d m n o := by
  intro n o hp hF
  obtain ⟨-, -, u, v, w, ⟨u1, u2⟩, ⟨v1, v2⟩, ⟨w1, w2⟩, h3⟩ := id hF
  have u1 : u < N := u1
  have v1 : v < N := v1
  have w1 : w < N := w1
  have s0 : ∀ x y z, x < y → y < z → z < N → dt n (Q x) = o → dt n (Q y) = o → dt n (Q z) = o → cr (sb (Q y) (Q x)) (sb (Q z) (Q x)) ≠ (0, 0, 0) → knw a b c d m n o := fun x y z h1 h2 h3 e1 e2 e3 hc => h x y z h1 h2 h3 (Or.inl (by omega)) n o hp hF e1 e2 e3 hc
  have z1 : ∀ p : V3, cr (sb p p) (sb p p) = (0, 0, 0) := fun p => by simp [cr, sb]
  have s1 : ∀ x y z, x < y → y < N → z < N → dt n (Q x) = o → dt n (Q y) = o → dt n (Q z) = o → cr (sb (Q y) (Q x)) (sb (Q z) (Q x)) ≠ (0, 0, 0) → knw a b c d m n o := by
    intro x y z h1 h2 h3 e1 e2 e3 hc
    rcases Nat.lt_trichotomy z x with q | q | q
    · exact s0 z x y q h1 h2 e3 e1 e2 (cr_sw (cr_sw hc).2).1
    · subst q; exact absurd (by simp [cr, sb]) hc
    · rcases Nat.lt_trichotomy z y with q2 | q2 | q2
      · exact s0 x z y q q2 h2 e1 e3 e2 (cr_sw hc).2
      · subst q2; exact absurd (by simp only [cr, sb]; refine Prod.ext ?_ (Prod.ext ?_ ?_) <;> dsimp only <;> grind) hc
      · exact s0 x y z h1 q2 h3 e1 e2 e3 hc
  rcases Nat.lt_trichotomy u v with q | q | q
  · exact s1 u v w q v1 w1 u2 v2 w2 h3
  · subst q; exact absurd (by simp [cr, sb]) h3
  · exact s1 v u w q u1 w1 v2 u2 w2 (cr_sw h3).1
variable {N : Nat}
theorem f_b84 {P : Int → Tab → Prop} {σ : Tab} {v : V3} {a b c d : Nat → Int} (hN : N ≤ 24) (hheld : σ 0 23 0 7 = N) (hB : ∀ i, i < N → B93 (MP σ i)) (hinj : ∀ i j, i < N → j < N → MP σ i = MP σ j → i = j) (hsol : sol4 (MP σ) N)
    (hP : ∀ (v : V3) (m : Nat) (a b c d : Nat → Int), GM (MP σ) N m a b c d → (∀ n o, prim n → Fac (MP σ) (fun q => q < N) n o → knw a b c d m n o) → ∃ k, wlX8_build_145 P k 0 (MF σ v m a b c d)) : ∃ k, wlX8_build_84 P k 0 (MF σ v 0 a b c d) := by
  have iN : inI (N : Int) := inI_sm ⟨by omega, by omega⟩
  have hsol' : ∃ a b c d, a < N ∧ b < N ∧ c < N ∧ d < N ∧ VV (MP σ) a b c d ≠ 0 := by
    obtain ⟨p, q, r, s, h1, h2, h3, h4, h5⟩ := hsol
    exact ⟨p, q, r, s, by omega, by omega, by omega, h4, h5⟩
  have lp84 : ∀ (q x : Nat) (v : V3) (m : Nat) (a b c d : Nat → Int), N - x = q → x ≤ N → GM (MP σ) N m a b c d → PRC (MP σ) N a b c d m x 0 0 → wlX8_build_84 P (q + 1) x (MF σ v m a b c d) := by
    intro q
    induction q with
    | zero =>
      intro x v m a b c d e1 e2 hG hC
      have : x = N := by omega
      subst this
      unfold wlX8_build_84
      rw [MF_h (by decide), hheld]
      exact ⟨iN, iN, fun _ => hP v m a b c d hG (PRC_all hC), fun z => by omega⟩
    | succ q ih =>
      intro x v m a b c d e1 e2 hG hC
      unfold wlX8_build_84
      rw [MF_h (by decide), hheld, ic]
      refine ⟨inI_sm ⟨by omega, by omega⟩, iN, fun z => by omega, fun _ => ⟨N - (x + 1) + 1, ?_⟩⟩
      have lp96 : ∀ (q' y : Nat) (v : V3) (m : Nat) (a b c d : Nat → Int), N - y = q' → x < y → y ≤ N → GM (MP σ) N m a b c d → PRC (MP σ) N a b c d m x y 0 → wlX8_build_96 P (fun x1 τ => wlX8_build_84 P (q + 1) x1 τ) (q' + 1) x y (MF σ v m a b c d) := by
        intro q'
        induction q' with
        | zero =>
          intro y v m a b c d g1 g2 g3 hG hC
          unfold wlX8_build_96
          rw [MF_h (by decide), hheld, ic]
          refine ⟨inI_sm ⟨by omega, by omega⟩, iN, fun _ => ih (x + 1) v m a b c d (by omega) (by omega) hG (fun x' y' z' h1 h2 h3 h4 => hC x' y' z' h1 h2 h3 (by omega)), fun z => by omega⟩
        | succ q' ih96 =>
          intro y v m a b c d g1 g2 g3 hG hC
          unfold wlX8_build_96
          rw [MF_h (by decide), hheld, ic]
          refine ⟨inI_sm ⟨by omega, by omega⟩, iN, fun z => by omega, fun _ => ⟨N - (y + 1) + 1, ?_⟩⟩
          have lp108 : ∀ (r z : Nat) (v : V3) (m : Nat) (a b c d : Nat → Int), N - z = r → y < z → z ≤ N → GM (MP σ) N m a b c d → PRC (MP σ) N a b c d m x y z → wlX8_build_108 P (fun x1 τ => wlX8_build_84 P (q + 1) x1 τ) (fun x1 x2 τ => wlX8_build_96 P (fun x1 τ => wlX8_build_84 P (q + 1) x1 τ) (q' + 1) x1 x2 τ) (r + 1) x y z (MF σ v m a b c d) := by
            intro r
            induction r with
            | zero =>
              intro z v m a b c d k1 k2 k3 hG hC
              unfold wlX8_build_108
              rw [MF_h (by decide), hheld, ic]
              refine ⟨inI_sm ⟨by omega, by omega⟩, iN, fun _ => ih96 (y + 1) v m a b c d (by omega) (by omega) (by omega) hG (fun x' y' z' h1 h2 h3 h4 => hC x' y' z' h1 h2 h3 (by omega)), fun z => by omega⟩
            | succ r ih108 =>
              intro z v m a b c d k1 k2 k3 hG hC
              unfold wlX8_build_108
              rw [MF_h (by decide), hheld, ic]
              refine ⟨inI_sm ⟨by omega, by omega⟩, iN, fun z => by omega, fun _ => ?_⟩
              refine f_tries hN hheld hB hinj hsol' (by omega) (by omega) (by omega) hG (fun r' v' m' a' b' c' d' hG' hm' he hk => ?_)
              refine ih108 (z + 1) v' m' a' b' c' d' (by omega) (by omega) (by omega) hG' (fun x' y' z' h1 h2 h3 h4 => ?_)
              by_cases ee : x' = x ∧ y' = y ∧ z' = z
              · obtain ⟨rfl, rfl, rfl⟩ := ee
                exact hk
              · exact kn_mono (hC x' y' z' h1 h2 h3 (by omega)) hm' he
          exact lp108 _ (y + 1) v m a b c d rfl (by omega) (by omega) hG (fun x' y' z' h1 h2 h3 h4 => hC x' y' z' h1 h2 h3 (by omega))
      exact lp96 _ (x + 1) v m a b c d rfl (by omega) (by omega) hG (fun x' y' z' h1 h2 h3 h4 => hC x' y' z' h1 h2 h3 (by omega))
  have := lp84 _ 0 v 0 a b c d rfl (by omega) ⟨fun f hf => absurd hf (Nat.not_lt_zero _), fun i j _ hj => absurd hj (Nat.not_lt_zero _)⟩ (fun x' y' z' h1 h2 h3 h4 => by omega)
  exact ⟨_, this⟩
theorem f_build8 {P : Int → Tab → Prop} {σ : Tab} (hN : N ≤ 24) (hpts : σ 0 23 0 1 = N) (hB : ∀ i, i < N → B93 (CP σ i)) (hinj : ∀ i j, i < N → j < N → CP σ i = CP σ j → i = j)
    (h0 : ¬ sol4 (CP σ) N → P 0 (st σ 0 23 0 0 1))
    (h1 : sol4 (CP σ) N → ∀ (τ : Tab) (fc : Nat) (sz : Nat → Nat) (co : Nat → Nat → Nat) (nn : Nat → V3) (off : Nat → Int) (m : Nat), MSp τ N fc sz co nn off m → MFr σ τ → (∀ i, i < N → MP τ i = CP σ i) → τ 0 23 0 0 = 0 → τ 0 23 0 1 = N → τ 0 23 0 5 = 1 → τ 0 23 0 6 = σ 0 23 0 6 + 1 → P fc τ) : wpX8_build σ P := by
  have iN : inI (N : Int) := inI_sm ⟨by omega, by omega⟩
  unfold wpX8_build
  refine f_solid hN hpts hB (fun hs => ?_) (fun hs => ?_)
  · refine f_goes8 (Or.inr rfl) (Or.inr rfl) (fun _ _ => ?_) (fun _ z => by omega) (fun z => by omega)
    refine ⟨⟨by decide, by decide⟩, fun _ => ?_, fun z => absurd (by decide) z⟩
    intro σ5 e5
    rw [st_j (by decide), hpts] at e5
    have k5 : ∀ g k i, ¬ (g = 0 ∧ k = 23 ∧ i = 0) → σ5 g k i = σ g k i := fun g k i hn => by rw [e5, st_ne hn, st_ne hn]
    have k57 : σ5 0 23 0 7 = N := by rw [e5, st_same]
    have k50 : σ5 0 23 0 0 = 0 := by rw [e5, st_j (by decide), st_same]
    have k5j : ∀ j, j ≠ 0 → j ≠ 7 → σ5 0 23 0 j = σ 0 23 0 j := fun j h1 h2 => by rw [e5, st_j h2, st_j h1]
    have eC : CP σ5 = CP σ := by funext i; unfold CP; rw [k5 0 24 0 (fun z => by omega), k5 0 25 0 (fun z => by omega), k5 0 26 0 (fun z => by omega)]
    have lp : ∀ (q x : Nat) (τ : Tab), N - x = q → x ≤ N → (∀ g k i, ¬ (g = 0 ∧ i = 0 ∧ (k = 27 ∨ k = 28 ∨ k = 29)) → τ g k i = σ5 g k i) → (∀ i, i < x → MP τ i = CP σ5 i) → wlX8_build_24 P (q + 1) x τ := by
      intro q
      induction q with
      | zero =>
        intro x τ e1 e2 hτ hM
        have : x = N := by omega
        subst this
        have t23 : τ 0 23 0 = σ5 0 23 0 := hτ 0 23 0 (fun z => by omega)
        unfold wlX8_build_24
        rw [t23, k5j 1 (by decide) (by decide), hpts]
        refine ⟨iN, iN, fun _ => ?_, fun z => by omega⟩
        intro σ4 e4
        have eMF : σ4 = MF τ (τ 0 23 0 23, τ 0 23 0 24, τ 0 23 0 25) 0 (τ 0 30 0) (τ 0 31 0) (τ 0 32 0) (τ 0 33 0) := by
          rw [e4]
          have := MF_stf (σ := τ) (v := (τ 0 23 0 23, τ 0 23 0 24, τ 0 23 0 25)) (fc := τ 0 23 0 11) (a := τ 0 30 0) (b := τ 0 31 0) (c := τ 0 32 0) (d := τ 0 33 0) 0
          rw [← MF_0] at this
          exact this
        rw [eMF]
        have hM' : ∀ i, i < x → MP τ i = CP σ i := fun i hi => by rw [hM i hi, eC]
        have hB' : ∀ i, i < x → B93 (MP τ i) := fun i hi => by rw [hM' i hi]; exact hB i hi
        have hinj' : ∀ i j, i < x → j < x → MP τ i = MP τ j → i = j := fun i j hi hj e => hinj i j hi hj (by rw [← hM' i hi, ← hM' j hj]; exact e)
        have hs' : sol4 (MP τ) x := by
          obtain ⟨p, q, r, s, q1, q2, q3, q4, q5⟩ := hs
          refine ⟨p, q, r, s, q1, q2, q3, q4, ?_⟩
          unfold VV at q5 ⊢
          rw [hM' p (by omega), hM' q (by omega), hM' r (by omega), hM' s q4]
          exact q5
        have h7' : τ 0 23 0 7 = x := by rw [t23]; exact k57
        refine f_b84 hN h7' hB' hinj' hs' (fun v m a b c d hG hC => ?_)
        refine f_b145 hN h7' hB' hinj' hs' hG hC (fun υ fc sz co nn off m2 hS hF hMM f0 f1 f5 f6 => ?_)
        refine h1 hs υ fc sz co nn off m2 hS ?_ (fun i hi => by rw [hMM]; exact hM' i hi) ?_ ?_ f5 ?_
        · refine MFr_tr ?_ hF
          intro g k i hn
          rw [hτ g k i (fun z => hn ⟨z.1, z.2.1, by omega⟩), k5 g k i (fun z => hn ⟨z.1, z.2.2, by omega⟩)]
        · rw [f0, t23, k50]
        · rw [f1, t23, k5j 1 (by decide) (by decide), hpts]
        · rw [f6, t23, k5j 6 (by decide) (by decide)]
      | succ q ih =>
        intro x τ e1 e2 hτ hM
        have t23 : τ 0 23 0 = σ5 0 23 0 := hτ 0 23 0 (fun z => by omega)
        have t24 : τ 0 24 0 = σ5 0 24 0 := hτ 0 24 0 (fun z => by omega)
        have t25 : τ 0 25 0 = σ5 0 25 0 := hτ 0 25 0 (fun z => by omega)
        have t26 : τ 0 26 0 = σ5 0 26 0 := hτ 0 26 0 (fun z => by omega)
        have hb := hB x (by omega)
        rw [← eC] at hb
        obtain ⟨⟨a1, a2⟩, ⟨a3, a4⟩, a5, a6⟩ := hb
        simp only [CP] at a1 a2 a3 a4 a5 a6
        unfold wlX8_build_24
        rw [t23, t24, k5j 1 (by decide) (by decide), hpts, Int.toNat_natCast, ic]
        refine ⟨inI_sm ⟨by omega, by omega⟩, iN, fun z => by omega, fun _ => ⟨⟨by omega, by omega⟩, inI_sm ⟨by omega, by omega⟩, fun σ8 e8 => ?_⟩⟩
        have u25 : σ8 0 25 0 = σ5 0 25 0 := by rw [e8, st_k (by decide)]; exact t25
        rw [u25]
        refine ⟨inI_sm ⟨by omega, by omega⟩, fun σ10 e10 => ?_⟩
        have u26 : σ10 0 26 0 = σ5 0 26 0 := by rw [e10, st_k (by decide), e8, st_k (by decide)]; exact t26
        rw [u26]
        refine ⟨inI_sm ⟨by omega, by omega⟩, fun σ12 e12 => ?_⟩
        refine ih (x + 1) σ12 (by omega) (by omega) (fun g k i hn => ?_) (fun i hi => ?_)
        · rw [e12, st_ne (fun z => hn ⟨z.1, z.2.2, by omega⟩), e10, st_ne (fun z => hn ⟨z.1, z.2.2, by omega⟩), e8, st_ne (fun z => hn ⟨z.1, z.2.2, by omega⟩)]
          exact hτ g k i hn
        · unfold MP CP
          rw [e12, st_self, st_k (by decide), st_k (by decide), e10, st_self, st_k (by decide), st_k (by decide), e8, st_self, st_k (by decide), st_k (by decide)]
          unfold upr
          by_cases ee : i = x
          · rw [if_pos ee, if_pos ee, if_pos ee, ee]
          · rw [if_neg ee, if_neg ee, if_neg ee]
            exact hM i (by omega)
    exact ⟨_, lp _ 0 σ5 rfl (by omega) (fun _ _ _ _ => rfl) (fun i hi => absurd hi (Nat.not_lt_zero _))⟩
  · refine f_goes8 (Or.inl rfl) (Or.inr rfl) (fun z => by omega) (fun z => by omega) (fun _ => ?_)
    exact ⟨⟨by decide, by decide⟩, fun z => absurd rfl z, fun _ => h0 hs⟩
end FX

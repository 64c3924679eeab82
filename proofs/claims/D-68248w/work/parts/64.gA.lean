/-! BOTH HULLS: edges, corners, and that the two tables say the same -/
section GA
variable {P : Nat → V3} {N fc : Nat} {sz : Nat → Nat} {co : Nat → Nat → Nat} {nn : Nat → V3} {off : Nat → Int} {T : Nat → Nat → Nat → Prop}
theorem Fam_inj (h : FamOK P N fc sz co nn off) {i j : Nat} (hi : i < fc) (hj : j < fc) (e1 : nn i = nn j) (e2 : off i = off j) : i = j := by
  have fi := h.1 i hi
  have fj := h.1 j hj
  rw [e1, e2] at fi
  obtain ⟨q1, q2⟩ := FaceIs_uniq fi fj
  have s3 := fi.2.2.1
  have c0 := q2 0 (by omega)
  have c1 := q2 1 (by omega)
  rcases Nat.lt_trichotomy i j with q | q | q
  · have := h.2.2 i j q hj; omega
  · exact q
  · have := h.2.2 j i q hi; omega
theorem dEj_uniq (H : Hul P N (fun q => q < N) T) (hinj : ∀ a b, a < N → b < N → P a = P b → a = b) (h : FamOK P N fc sz co nn off) {a b j j' : Nat} (hj : j < fc) (hj' : j' < fc) (d : dEj sz co a b j) (d' : dEj sz co a b j') : j = j' := by
  obtain ⟨i, hi, e1, e2⟩ := d
  obtain ⟨i', hi', e3, e4⟩ := d'
  obtain ⟨q1, q2⟩ := face_edge H hinj (h.1 j hj) (h.1 j' hj') hi hi' (by rw [e1, e3]) (by rw [e2, e4])
  exact Fam_inj h hj hj' q1 q2
theorem dEj_lt (h : FamOK P N fc sz co nn off) {a b j : Nat} (hj : j < fc) (d : dEj sz co a b j) : a < N ∧ b < N ∧ a ≠ b := by
  obtain ⟨i, hi, e1, e2⟩ := d
  obtain ⟨-, -, a3, a4, a5, -, -, -⟩ := h.1 j hj
  have lt := Nat.mod_lt (i + 1) (show 0 < sz j by omega)
  rw [← e1, ← e2]
  exact ⟨(a4 i hi).1, (a4 _ lt).1, (a5 i hi).1⟩
theorem prim_ex {n : V3} (h : n ≠ (0, 0, 0)) : ∃ (G : Int) (n' : V3), 0 < G ∧ sm G n' = n ∧ prim n' := by
  obtain ⟨x, y, z⟩ := n
  have h0 : Int.gcd (Int.gcd x y : Nat) z ≠ 0 := by
    intro e
    apply h
    have e1 := Int.gcd_eq_zero_iff.mp e
    have e2 := Int.gcd_eq_zero_iff.mp (show Int.gcd x y = 0 by omega)
    rw [e2.1, e2.2, e1.2]
  obtain ⟨q1, q2⟩ := red_ok rfl h0
  exact ⟨_, _, by omega, q1, q2⟩
theorem Fam_dE (h : FamOK P N fc sz co nn off) {a b : Nat} : dE fc sz co a b ↔ Eg P (fun q => q < N) a b := by
  constructor
  · rintro ⟨j, hj, i, hi, e1, e2⟩
    obtain ⟨a1, a2, a3, a4, a5, -, -, -⟩ := h.1 j hj
    have lt := Nat.mod_lt (i + 1) (show 0 < sz j by omega)
    rw [← e1, ← e2]
    exact ⟨nn j, off j, a2, (a4 i hi).1, (a4 _ lt).1, (a4 i hi).2, (a4 _ lt).2, a5 i hi⟩
  · rintro ⟨n, c, hF, ha, hb, ea, eb, hg⟩
    obtain ⟨G, n', hG, en, hp⟩ := prim_ex hF.1
    have sc : ∀ q, dt n (P q) = G * dt n' (P q) := fun q => by rw [← en, sm_dt]
    have ec : c = G * dt n' (P a) := by rw [← ea, sc]
    have canc : ∀ q, dt n (P q) = c ↔ dt n' (P q) = dt n' (P a) := by
      intro q
      rw [sc, ec]
      exact ⟨fun z => Int.eq_of_mul_eq_mul_left (by omega) z, fun z => by rw [z]⟩
    have hF' : Fac P (fun q => q < N) n' (dt n' (P a)) := by
      refine ⟨fun z => hF.1 (by rw [← en, z]; simp [sm]), fun q hq => ?_, ?_⟩
      · have := hF.2.1 q hq
        rw [sc, ec] at this
        exact Int.le_of_mul_le_mul_left this hG
      · obtain ⟨u, v, w, u1, v1, w1, hc⟩ := hF.2.2
        exact ⟨u, v, w, ⟨u1.1, (canc u).mp u1.2⟩, ⟨v1.1, (canc v).mp v1.2⟩, ⟨w1.1, (canc w).mp w1.2⟩, hc⟩
    have hg' : goOn P (fun q => q < N) n' (dt n' (P a)) a b := by
      refine ⟨hg.1, fun q hq e1 e2 e3 => ?_⟩
      have sl : LL P n a b q = G * LL P n' a b q := by unfold LL tp; rw [← en, dt_sm]
      rcases hg.2 q hq ((canc q).mpr e1) e2 e3 with w | ⟨w1, w2⟩
      · rw [sl] at w
        exact Or.inl (pos_of_mul hG w)
      · rw [sl] at w1
        refine Or.inr ⟨?_, w2⟩
        rcases Int.mul_eq_zero.mp w1 with z | z
        · omega
        · exact z
    obtain ⟨j, hj, q1, q2⟩ := h.2.1 n' _ hp hF'
    obtain ⟨a1, a2, a3, a4, a5, -, -, a8⟩ := h.1 j hj
    rw [q1, q2] at a2 a4 a5 a8
    have hb' := (canc b).mp eb
    obtain ⟨i, hi, ei⟩ := a8 a b ha hb rfl hb' hg'
    have lt := Nat.mod_lt (i + 1) (show 0 < sz j by omega)
    have g2 := a5 i hi
    rw [ei] at g2
    exact ⟨j, hj, i, hi, ei, goOn_uniq g2 hg' (a4 _ lt).1 hb (a4 _ lt).2 hb'⟩
/-- corners -/
def icn (fc : Nat) (sz : Nat → Nat) (co : Nat → Nat → Nat) (p : Nat) : Prop := ∃ j i, j < fc ∧ i < sz j ∧ co j i = p
theorem icn_dE (h : FamOK P N fc sz co nn off) {p : Nat} : icn fc sz co p ↔ ∃ q, dE fc sz co p q := by
  constructor
  · rintro ⟨j, i, hj, hi, e⟩
    exact ⟨_, j, hj, i, hi, e, rfl⟩
  · rintro ⟨q, j, hj, i, hi, e, _⟩
    exact ⟨j, i, hj, hi, e⟩
theorem icn_vtx (H : Hul P N (fun q => q < N) T) (hinj : ∀ a b, a < N → b < N → P a = P b → a = b) (h : FamOK P N fc sz co nn off) {p : Nat} : icn fc sz co p ↔ vtx T p := by
  rw [icn_dE h]
  constructor
  · rintro ⟨q, d⟩
    exact (H.Eg_vtx hinj ((Fam_dE h).mp d)).1
  · intro hv
    obtain ⟨b, hb⟩ := H.vtx_Eg hv
    exact ⟨b, (Fam_dE h).mpr hb⟩
theorem dE_sym (H : Hul P N (fun q => q < N) T) (hinj : ∀ a b, a < N → b < N → P a = P b → a = b) (h : FamOK P N fc sz co nn off) {a b : Nat} (d : dE fc sz co a b) : dE fc sz co b a := (Fam_dE h).mpr (H.Eg_sym hinj ((Fam_dE h).mp d))
theorem dE_lt (h : FamOK P N fc sz co nn off) {a b : Nat} (d : dE fc sz co a b) : a < N ∧ b < N ∧ a ≠ b := by
  obtain ⟨j, hj, d⟩ := d
  exact dEj_lt h hj d
theorem fo_eq (H : Hul P N (fun q => q < N) T) (hinj : ∀ a b, a < N → b < N → P a = P b → a = b) (h : FamOK P N fc sz co nn off) {a b : Nat} {z z' : Int} (hz : foR fc sz co a b z) (hz' : foL fc sz co a b z') : z = z' := by
  rcases hz with ⟨j, e, hj, d, _⟩ | ⟨e, hn⟩
  · rcases hz' with ⟨j', e', hj', d'⟩ | ⟨_, hn'⟩
    · rw [e, e', dEj_uniq H hinj h hj hj' d d']
    · exact absurd d (hn' j hj)
  · rcases hz' with ⟨j', e', hj', d'⟩ | ⟨e', _⟩
    · exact absurd d' (hn j' hj')
    · rw [e, e']
theorem foL_bd {a b : Nat} {z : Int} (hf : fc ≤ 44) (h : foL fc sz co a b z) : -1 ≤ z ∧ z < 44 := by
  rcases h with ⟨j, e, hj, _⟩ | ⟨e, _⟩ <;> omega
theorem Hul_of (hinj : ∀ a b, a < N → b < N → P a = P b → a = b) (hs : sol4 P N) : ∃ T, Hul P N (fun q => q < N) T := by
  obtain ⟨p, q, r, s, h1, h2, h3, h4, h5⟩ := hs
  exact Hul_ex hinj (by omega) (by omega) (by omega) h4 h5
/-- the model's tables in the words of another family -/
theorem MSp_fam {τ : Tab} {fc' m : Nat} {sz' : Nat → Nat} {co' : Nat → Nat → Nat} {nn' : Nat → V3} {off' : Nat → Int} (h : MSp τ N fc' sz' co' nn' off' m) (hF : FamOK (MP τ) N fc sz co nn off) : MSp τ N fc sz co nn off m := by
  obtain ⟨h1, h2, h3, h4, h5, h6, h7, h8, h9, h10, h11, h12⟩ := h
  obtain ⟨ef, et⟩ := Fam_uniq hF h9
  subst ef
  have dj : ∀ a b j, j < fc → (dEj sz' co' a b j ↔ dEj sz co a b j) := by
    intro a b j hj
    obtain ⟨-, -, t3, t4⟩ := et j hj
    have s3 := (hF.1 j hj).2.2.1
    unfold dEj
    rw [← t3]
    constructor
    · rintro ⟨i, hi, e1, e2⟩
      have lt := Nat.mod_lt (i + 1) (show 0 < sz j by omega)
      exact ⟨i, hi, by rw [t4 i hi]; exact e1, by rw [t4 _ lt]; exact e2⟩
    · rintro ⟨i, hi, e1, e2⟩
      have lt := Nat.mod_lt (i + 1) (show 0 < sz j by omega)
      exact ⟨i, hi, by rw [← t4 i hi]; exact e1, by rw [← t4 _ lt]; exact e2⟩
  have de : ∀ a b, dE fc sz' co' a b ↔ dE fc sz co a b := fun a b => ⟨fun ⟨j, hj, d⟩ => ⟨j, hj, (dj a b j hj).mp d⟩, fun ⟨j, hj, d⟩ => ⟨j, hj, (dj a b j hj).mpr d⟩⟩
  have fl : ∀ a b z, foL fc sz' co' a b z → foL fc sz co a b z := by
    intro a b z hz
    rcases hz with ⟨j, e, hj, d⟩ | ⟨e, hn⟩
    · exact Or.inl ⟨j, e, hj, (dj a b j hj).mp d⟩
    · exact Or.inr ⟨e, fun j hj d => hn j hj ((dj a b j hj).mpr d)⟩
  refine ⟨h1, h2, h3, h4, h5, ⟨h6.1, h6.2.1, fun k hk => ?_⟩, fun k hk => ?_, h8, hF, h10, h11, ⟨fun e he => ?_, h12.2.1, fun x y q1 q2 q3 q4 => h12.2.2 x y q1 q2 q3 ((de x y).mpr q4)⟩⟩
  · obtain ⟨f, f1, f2, f3, f4, f5, f6⟩ := h6.2.2 k hk
    obtain ⟨-, -, t3, t4⟩ := et k hk
    rw [← t3] at f3 f4 f5 f6
    exact ⟨f, f1, f2, f3, f4, f5, fun i hi => by rw [t4 i hi]; exact f6 i hi⟩
  · obtain ⟨t1, t2, -, -⟩ := et k hk
    rw [t1, t2]
    exact h7 k hk
  · obtain ⟨x, y, q1, q2, q3, q4, q5, q6, q7⟩ := h12.1 e he
    exact ⟨x, y, q1, q2, q3, (de x y).mp q4, q5, fl _ _ _ q6, fl _ _ _ q7⟩
/-- the two tables side by side -/
def Cpl (τ : Tab) (g N fc : Nat) (sz : Nat → Nat) (co : Nat → Nat → Nat) (nn : Nat → V3) (off : Nat → Int) (m : Nat) : Prop :=
  HSp τ g N fc sz co nn off m ∧ MSp τ N fc sz co nn off m ∧ (∀ i, i < N → PD τ g i = MP τ i) ∧ ∀ e, e < m → τ g 19 e 0 = (τ 0 37 0 e).tdiv 32 ∧ τ g 19 e 1 = (τ 0 37 0 e).tmod 32 ∧ τ g 19 e 2 = τ 0 38 0 e ∧ τ g 19 e 3 = τ 0 39 0 e
theorem Cpl_of {τ : Tab} {g fc' m m' : Nat} {sz' : Nat → Nat} {co' : Nat → Nat → Nat} {nn' : Nat → V3} {off' : Nat → Int} (h : HSp τ g N fc sz co nn off m) (h' : MSp τ N fc' sz' co' nn' off' m') (hp : ∀ i, i < N → PD τ g i = MP τ i) : Cpl τ g N fc sz co nn off m := by
  have hF : FamOK (MP τ) N fc sz co nn off := Fam_pts hp h.2.2.2.2.2.1
  have hM := MSp_fam h' hF
  obtain ⟨T, H⟩ := Hul_of hM.2.2.2.1 hM.2.2.2.2.1
  have hinj := hM.2.2.2.1
  have hN := hM.2.1
  obtain ⟨-, -, -, -, -, -, -, h14, -, hE, -⟩ := id h
  obtain ⟨-, -, -, -, -, -, -, -, -, -, hm', hE'⟩ := id hM
  obtain ⟨em, ee⟩ := inc_uniq (m := m) (m' := m') (a := fun e => (32 * τ g 19 e 0 + τ g 19 e 1).toNat) (b := fun e => (τ 0 37 0 e).toNat) (fun i j hij hj => by
      obtain ⟨x, y, q1, q2, q3, q4, q5, q6, _⟩ := hE.1 i (by omega)
      have := hE.2.1 i j hij hj
      omega) (fun i j hij hj => by
      obtain ⟨x, y, q1, q2, q3, q4, q5, _⟩ := hE'.1 i (by omega)
      have := hE'.2.1 i j hij hj
      omega) (fun i hi => by
      obtain ⟨x, y, q1, q2, q3, q4, q5, q6, _⟩ := hE.1 i hi
      obtain ⟨e, he, q⟩ := hE'.2.2 x y q1 (dE_lt hF q4).2.1 (Or.inl (dE_lt hF q4).1) q4
      exact ⟨e, he, by omega⟩) (fun j hj => by
      obtain ⟨x, y, q1, q2, q3, q4, q5, _⟩ := hE'.1 j hj
      obtain ⟨e, he, w1, w2⟩ := hE.2.2 x y q1 (by omega) (by omega) q4
      exact ⟨e, he, by omega⟩)
  subst em
  refine ⟨h, hM, hp, fun e he => ?_⟩
  obtain ⟨x, y, q1, q2, q3, q4, q5, q6, q7, q8⟩ := hE.1 e he
  obtain ⟨x', y', p1, p2, p3, p4, p5, p6, p7⟩ := hE'.1 e he
  have w := ee e he
  have ex : x = x' := by omega
  have ey : y = y' := by omega
  subst ex
  subst ey
  have d1 : (32 * (x : Int) + y).tdiv 32 = x := by rw [Int.tdiv_eq_ediv_of_nonneg (by omega)]; omega
  have d2 : (32 * (x : Int) + y).tmod 32 = y := by rw [Int.tmod_eq_emod_of_nonneg (by omega)]; omega
  rw [p5, d1, d2]
  exact ⟨q5, q6, fo_eq H hinj hF q7 p6, fo_eq H hinj hF q8 p7⟩
end GA

/-! BUILD of the builder's hull -/
section FP5
def HSp (τ : Tab) (g N fc : Nat) (sz : Nat → Nat) (co : Nat → Nat → Nat) (nn : Nat → V3) (off : Nat → Int) (m : Nat) : Prop :=
  τ g 0 0 11 = N ∧ PtsOK τ g N ∧ FTab τ g fc sz co ∧ 1 ≤ fc ∧ (∀ j, j < fc → v3 τ g 17 (fxs τ g j) = nn j ∧ τ g 17 (fxs τ g j) 3 = off j) ∧ FamOK (PD τ g) N fc sz co nn off ∧ m ≤ 66 ∧ τ g 0 0 14 = m ∧ BI fc sz co (τ g 9 0) (τ g 11) fc 0 ∧ EN fc sz co (τ g 19) m 24 25 ∧ τ g 0 0 15 = cnI (τ g 9 0) 24
def BuildFr (σ τ : Tab) (g : Nat) : Prop := ∀ g' k' i', ¬ (g' = g ∧ k' ≤ 19) → τ g' k' i' = σ g' k' i'
variable {σ : Tab} {g N : Nat}
/-- how many edges -/
theorem cap66 {T : Nat → Nat → Nat → Prop} {P : Nat → V3} {fc : Nat} {sz : Nat → Nat} {co : Nat → Nat → Nat} {nn : Nat → V3} {off : Nat → Int} (hN : N ≤ 24) (H : Hul P N (fun q => q < N) T) (hinj : ∀ a b, a < N → b < N → P a = P b → a = b) (hgen : ∀ a b, a < N → b < N → dt gen3 (P a) = dt gen3 (P b) → a = b) (hF : ∀ j, j < fc → FaceIs P N (nn j) (off j) (sz j) (co j)) (K : Nat) (E : Nat → Nat × Nat) (hE : ∀ i, i < K → (E i).1 < (E i).2 ∧ dE fc sz co (E i).1 (E i).2) (hd : ∀ i j, i < j → j < K → E i ≠ E j) : K ≤ 66 := by
  have tr : ∀ a b, dE fc sz co a b → ∃ y, T a b y := by
    rintro a b ⟨j, hj, i, hi, e1, e2⟩
    obtain ⟨a1, a2, a3, a4, a5, -, -, -⟩ := hF j hj
    have lt := Nat.mod_lt (i + 1) (show 0 < sz j by omega)
    obtain ⟨y, t1, _, _⟩ := H.rim_goOn a2 hinj (a4 i hi).1 (a4 _ lt).1 (a4 i hi).2 (a4 _ lt).2 (a5 i hi)
    rw [e1, e2] at t1
    exact ⟨y, t1⟩
  have h := H.countD gen3 hgen (2 * K) (fun i => if i % 2 = 0 then E (i / 2) else ((E (i / 2)).2, (E (i / 2)).1)) (fun i hi => by
    obtain ⟨y, t⟩ := tr _ _ (hE (i / 2) (by omega)).2
    split
    · exact ⟨y, t⟩
    · exact H.twin t) (fun i j hij hj e => by
    have e1 := hE (i / 2) (by omega)
    have e2 := hE (j / 2) (by omega)
    have cs : (i % 2 = 0 ∨ i % 2 = 1) ∧ (j % 2 = 0 ∨ j % 2 = 1) := by omega
    obtain ⟨c1 | c1, c2 | c2⟩ := cs
    · rw [if_pos c1, if_pos c2] at e
      exact hd (i / 2) (j / 2) (by omega) (by omega) e
    · rw [if_pos c1, if_neg (by omega)] at e
      rw [e] at e1
      dsimp only at e1
      omega
    · rw [if_neg (by omega), if_pos c2] at e
      rw [← e] at e2
      dsimp only at e2
      omega
    · rw [if_neg (by omega), if_neg (by omega)] at e
      have a := (Prod.mk.inj e).1
      have b := (Prod.mk.inj e).2
      exact hd (i / 2) (j / 2) (by omega) (by omega) (Prod.ext b a))
  omega
/-- behind the unite loop: order and join -/
theorem f_buildEnd {P : Tab → Prop} {fc : Nat} (hU : US σ g N fc (σ g 0 0 12).toNat) (hmany : σ g 0 0 11 = N)
    (hP : ∀ (τ : Tab) (fc : Nat) (sz : Nat → Nat) (co : Nat → Nat → Nat) (nn : Nat → V3) (off : Nat → Int) (m : Nat), BuildFr σ τ g → HSp τ g N fc sz co nn off m → PD τ g = PD σ g → P τ) : wpX2_order g σ (fun σ4 => wpX2_join g σ4 (fun σ5 => P σ5)) := by
  obtain ⟨hT, hp, hFP, hfc, hfc44, hFT, hW, hD, hSee⟩ := hU
  have hN := hp.1
  have H := hT.2.2.2.2.2
  have hinj := hp.2.2
  -- the faces
  have face : ∀ j, j < fc → FaceIs (PD σ g) N (v3 σ g 17 (fxs σ g j)) (σ g 17 (fxs σ g j) 3) (σ g 16 (fxs σ g j) 2).toNat (fun i => (σ g 18 (fxs σ g j) i).toNat) ∧ σ g 16 (fxs σ g j) 2 = ((σ g 16 (fxs σ g j) 2).toNat : Int) ∧ ∀ i, i < (σ g 16 (fxs σ g j) 2).toNat → σ g 18 (fxs σ g j) i = ((σ g 18 (fxs σ g j) i).toNat : Int) := by
    intro j hj
    obtain ⟨sz, co, a1, a2, a3⟩ := hFT j hj
    have es : (σ g 16 (fxs σ g j) 2).toNat = sz := by rw [a1]; rfl
    rw [es]
    refine ⟨FaceIs_congr a3 (fun i hi => by rw [a2 i hi]; rfl), a1, fun i hi => by rw [a2 i hi]; rfl⟩
  have compl : ∀ n c, prim n → Fac (PD σ g) (fun q => q < N) n c → ∃ j, j < fc ∧ v3 σ g 17 (fxs σ g j) = n ∧ σ g 17 (fxs σ g j) 3 = c := by
    intro n c hpr hF
    obtain ⟨v, a, b, t, hv⟩ := H.top hF
    obtain ⟨x, y, t1, hx, hy, _, _⟩ := H.goOn_first hF t hv
    obtain ⟨k, i, hl, hi, e1, e2, e3⟩ := tri_cv t1
    obtain ⟨f1, f2, f3⟩ := slot_fac hT hl
    have q1 := f3 i
    have q2 := f3 (i + 1)
    have q3 := f3 (i + 2)
    rw [← e1] at q1
    rw [← e2] at q2
    rw [← e3] at q3
    obtain ⟨g1, g2⟩ := H.fac_eq f1 hF f2 hpr t1 q1 q2 q3 hv hx hy
    obtain ⟨j, hj, ps⟩ := (hSee k hl).1 (by have := hl.1; omega)
    obtain ⟨p1, p2⟩ := psame_v3 ps
    exact ⟨j, hj, by rw [← p1]; exact g1, by rw [← p2]; exact g2⟩
  have h1 : 1 ≤ fc := by
    obtain ⟨a, b, c, t⟩ := H.non
    obtain ⟨k, _, hl, _⟩ := tri_cv t
    obtain ⟨j, hj, _⟩ := (hSee k hl).1 (by have := hl.1; omega)
    omega
  have c2 : ∀ j, j < fc → C2 σ g (fxs σ g j) := by
    intro j hj
    obtain ⟨f, e1, e2⟩ := face j hj
    have s3 := f.2.2.1
    have a0 := (f.2.2.2.1 0 (by omega)).1
    have a1 := (f.2.2.2.1 1 (by omega)).1
    dsimp only at a0 a1
    have b0 := e2 0 (by omega)
    have b1 := e2 1 (by omega)
    exact ⟨⟨by omega, by omega⟩, by omega, by omega⟩
  have planes : ∀ i j, i < fc → j < fc → v3 σ g 17 (fxs σ g i) = v3 σ g 17 (fxs σ g j) → σ g 17 (fxs σ g i) 3 = σ g 17 (fxs σ g j) 3 → i = j := by
    intro i j hi hj e1 e2
    unfold v3 at e1
    simp only [Prod.mk.injEq] at e1
    rcases Nat.lt_trichotomy i j with q | q | q
    · exact absurd ⟨e1.1, e1.2.1, e1.2.2, e2⟩ (hD i j q hj)
    · exact q
    · exact absurd ⟨e1.1.symm, e1.2.1.symm, e1.2.2.symm, e2.symm⟩ (hD j i q hi)
  have kyd : ∀ i j, i < j → j < fc → ky σ g (σ g 3 0 i) ≠ ky σ g (σ g 3 0 j) := by
    intro i j hij hj e
    have ci := c2 i (by omega)
    have cj := c2 j hj
    unfold ky at e
    rw [show (σ g 3 0 i).toNat = fxs σ g i from rfl, show (σ g 3 0 j).toNat = fxs σ g j from rfl] at e
    obtain ⟨⟨ci1, ci2⟩, ci3, ci4⟩ := ci
    obtain ⟨⟨cj1, cj2⟩, cj3, cj4⟩ := cj
    obtain ⟨fi, _, _⟩ := face i (by omega)
    obtain ⟨fj, _, _⟩ := face j hj
    have si := fi.2.2.1
    have sj := fj.2.2.1
    obtain ⟨p1, p2⟩ := face_edge H hinj fi fj (i := 0) (i' := 0) (by omega) (by omega) (by omega) (by
      rw [Nat.mod_eq_of_lt (by omega), Nat.mod_eq_of_lt (by omega)]
      show (σ g 18 (fxs σ g i) 1).toNat = (σ g 18 (fxs σ g j) 1).toNat
      omega)
    have := planes i j (by omega) hj p1 p2
    omega
  refine f_order hfc h1 hfc44 hFP c2 kyd (fun r hS => ?_)
  -- the new table
  obtain ⟨τ, hτ⟩ : ∃ τ, τ = strow σ g 3 0 r := ⟨_, rfl⟩
  rw [← hτ]
  have o : ∀ g' k' i', ¬ (g' = g ∧ k' = 3 ∧ i' = 0) → τ g' k' i' = σ g' k' i' := fun g' k' i' hn => by rw [hτ]; exact strow_ne hn
  have r3 : τ g 3 0 = r := by rw [hτ]; exact strow_self _ _ _ _ _
  have pi : ∀ j, j < fc → ∃ i, i < fc ∧ r j = σ g 3 0 i ∧ fxs τ g j = fxs σ g i := by
    intro j hj
    obtain ⟨i, hi, e⟩ := hS.2.1 j hj
    exact ⟨i, hi, e, by unfold fxs; rw [r3, e]⟩
  have o16 : ∀ i, τ g 16 i = σ g 16 i := fun i => o _ _ _ (fun z => by omega)
  have o17 : ∀ i, τ g 17 i = σ g 17 i := fun i => o _ _ _ (fun z => by omega)
  have o18 : ∀ i, τ g 18 i = σ g 18 i := fun i => o _ _ _ (fun z => by omega)
  have o0 : τ g 0 0 = σ g 0 0 := o _ _ _ (fun z => by omega)
  have ePD : PD τ g = PD σ g := by funext i; unfold PD v3; rw [o g 13 i (fun z => by omega)]
  have hFP2 : FP τ g := by
    unfold FP
    rw [r3]
    refine ⟨fun j hj => ?_, fun i j hij hj => ?_⟩
    · by_cases q : j < fc
      · obtain ⟨i, hi, e⟩ := hS.2.1 j q
        rw [e]; exact hFP.1 i (by omega)
      · rw [hS.1 j (by omega)]; exact hFP.1 j hj
    · by_cases qj : j < fc
      · intro e
        have := hS.2.2.2 i j hij qj
        rw [e] at this
        omega
      · rw [hS.1 j (by omega)]
        by_cases qi : i < fc
        · obtain ⟨x, hx, e⟩ := hS.2.1 i qi
          rw [e]
          exact hFP.2 x j (by omega) hj
        · rw [hS.1 i (by omega)]; exact hFP.2 i j hij hj
  obtain ⟨sz, hsz⟩ : ∃ sz : Nat → Nat, sz = fun j => (τ g 16 (fxs τ g j) 2).toNat := ⟨_, rfl⟩
  obtain ⟨co, hco⟩ : ∃ co : Nat → Nat → Nat, co = fun j i => (τ g 18 (fxs τ g j) i).toNat := ⟨_, rfl⟩
  have face2 : ∀ j, j < fc → FaceIs (PD σ g) N (v3 τ g 17 (fxs τ g j)) (τ g 17 (fxs τ g j) 3) (sz j) (co j) ∧ τ g 16 (fxs τ g j) 2 = (sz j : Int) ∧ ∀ i, i < sz j → τ g 18 (fxs τ g j) i = (co j i : Int) := by
    intro j hj
    obtain ⟨i, hi, _, e⟩ := pi j hj
    rw [hsz, hco]
    dsimp only
    unfold v3
    rw [e, o16, o17, o18]
    exact face i hi
  have hFTab : FTab τ g fc sz co := by
    refine ⟨by rw [o0]; exact hfc, hfc44, hFP2, fun j hj => ?_⟩
    obtain ⟨f, e1, e2⟩ := face2 j hj
    have s3 := f.2.2.1
    exact ⟨e1, by omega, by omega, fun i hi => ⟨e2 i hi, by have := (f.2.2.2.1 i hi).1; omega⟩⟩
  have fam : FamOK (PD σ g) N fc sz co (fun j => v3 τ g 17 (fxs τ g j)) (fun j => τ g 17 (fxs τ g j) 3) := by
    refine ⟨fun j hj => (face2 j hj).1, fun n c hpr hF => ?_, fun i j hij hj => ?_⟩
    · obtain ⟨j', hj', e1, e2⟩ := compl n c hpr hF
      obtain ⟨j, hj, e⟩ := hS.2.2.1 j' hj'
      have ef : fxs τ g j = fxs σ g j' := by unfold fxs; rw [r3, e]
      refine ⟨j, hj, ?_, ?_⟩
      · dsimp only; unfold v3; rw [ef, o17]; exact e1
      · dsimp only; rw [ef, o17]; exact e2
    · have k1 := hS.2.2.2 i j hij hj
      obtain ⟨fi, _, ei⟩ := face2 i (by omega)
      obtain ⟨fj, _, ej⟩ := face2 j hj
      have si := fi.2.2.1
      have sj := fj.2.2.1
      have a0 := ei 0 (by omega)
      have a1 := ei 1 (by omega)
      have b0 := ej 0 (by omega)
      have b1 := ej 1 (by omega)
      unfold ky at k1
      rw [← r3, show (τ g 3 0 i).toNat = fxs τ g i from rfl, show (τ g 3 0 j).toNat = fxs τ g j from rfl, ← o18, ← o18, a0, a1, b0, b1] at k1
      omega
  refine f_join hFTab (cap66 hN H hinj (fun a b ha hb e => gen3_inj hp ha hb e) (fun j hj => (face2 j hj).1)) (fun ic jn ed m hm hB hE => ?_)
  refine hP _ fc sz co (fun j => v3 τ g 17 (fxs τ g j)) (fun j => τ g 17 (fxs τ g j) 3) m (fun g' k' i' hn => ?_) ⟨?_, ?_, JT_FTab hFTab, h1, fun j hj => ?_, ?_, hm, JT_14, ?_, ?_, ?_⟩ ?_
  · rw [JT_other (fun z => hn ⟨z.1, by omega⟩), o _ _ _ (fun z => hn ⟨z.1, by omega⟩)]
  · rw [JT_h (by decide), o0]; exact hmany
  · refine PtsOK_PD hp ?_
    funext i; unfold PD v3; rw [JT_other (fun z => by omega), o g 13 i (fun z => by omega)]
  · have e3 : fxs (JT τ g ic jn ed m (cnI ic 24)) g j = fxs τ g j := by unfold fxs; rw [JT_other (fun z => by omega)]
    unfold v3
    rw [e3, JT_other (fun z => by omega)]
    exact ⟨rfl, rfl⟩
  · have e : PD (JT τ g ic jn ed m (cnI ic 24)) g = PD σ g := by funext i; unfold PD v3; rw [JT_other (fun z => by omega), o g 13 i (fun z => by omega)]
    rw [e]; exact fam
  · have a : (JT τ g ic jn ed m (cnI ic 24)) g 9 0 = ic := by funext j; exact JT_9 j
    have b : (JT τ g ic jn ed m (cnI ic 24)) g 11 = jn := by funext i j; exact JT_11 i j
    rw [a, b]; exact hB
  · have a : (JT τ g ic jn ed m (cnI ic 24)) g 19 = ed := by funext i j; exact JT_19 i j
    rw [a]; exact hE
  · have a : (JT τ g ic jn ed m (cnI ic 24)) g 9 0 = ic := by funext j; exact JT_9 j
    rw [a]; exact JT_15
  · funext i; unfold PD v3; rw [JT_other (fun z => by omega), o g 13 i (fun z => by omega)]
end FP5

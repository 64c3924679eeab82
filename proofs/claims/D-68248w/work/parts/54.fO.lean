/-! THE FACES AS A FAMILY: complete, sorted, the only one -/
section FO
def FamOK (P : Nat → V3) (N fc : Nat) (sz : Nat → Nat) (co : Nat → Nat → Nat) (nn : Nat → V3) (off : Nat → Int) : Prop :=
  (∀ j, j < fc → FaceIs P N (nn j) (off j) (sz j) (co j)) ∧ (∀ n c, prim n → Fac P (fun q => q < N) n c → ∃ j, j < fc ∧ nn j = n ∧ off j = c) ∧ ∀ i j, i < j → j < fc → 32 * co i 0 + co i 1 < 32 * co j 0 + co j 1
/-- two rising sequences with the same values -/
theorem inc_uniq {m m' : Nat} {a b : Nat → Nat} (ha : ∀ i j, i < j → j < m → a i < a j) (hb : ∀ i j, i < j → j < m' → b i < b j) (hab : ∀ i, i < m → ∃ j, j < m' ∧ b j = a i) (hba : ∀ j, j < m' → ∃ i, i < m ∧ a i = b j) : m = m' ∧ ∀ i, i < m → a i = b i := by
  have key : ∀ i, (i < m → i < m' ∧ a i = b i) ∧ (i < m' → i < m ∧ a i = b i) := by
    intro i
    induction i using Nat.strongRecOn with
    | ind i ih =>
      constructor
      · intro hi
        obtain ⟨j, hj, ej⟩ := hab i hi
        have h1 : ¬ j < i := fun q => by
          have := ((ih j q).2 hj).2
          have := ha j i q hi
          omega
        have hi' : i < m' := by omega
        refine ⟨hi', ?_⟩
        by_cases e : j = i
        · rw [e] at ej; exact ej.symm
        · obtain ⟨i2, hi2, ei2⟩ := hba i hi'
          have h2 : ¬ i2 < i := fun q => by
            have := ((ih i2 q).1 hi2).2
            have := hb i2 i q hi'
            omega
          have h3 := hb i j (by omega) hj
          by_cases e2 : i2 = i
          · rw [e2] at ei2; exact ei2
          · have := ha i i2 (by omega) hi2
            omega
      · intro hi
        obtain ⟨j, hj, ej⟩ := hba i hi
        have h1 : ¬ j < i := fun q => by
          have := ((ih j q).1 hj).2
          have := hb j i q hi
          omega
        have hi' : i < m := by omega
        refine ⟨hi', ?_⟩
        by_cases e : j = i
        · rw [e] at ej; exact ej
        · obtain ⟨i2, hi2, ei2⟩ := hab i hi'
          have h2 : ¬ i2 < i := fun q => by
            have := ((ih i2 q).2 hi2).2
            have := ha i2 i q hi'
            omega
          have h3 := ha i j (by omega) hj
          by_cases e2 : i2 = i
          · rw [e2] at ei2; exact ei2.symm
          · have := hb i i2 (by omega) hi2
            omega
  refine ⟨?_, fun i hi => ((key i).1 hi).2⟩
  rcases Nat.lt_trichotomy m m' with q | q | q
  · have := ((key m).2 q).1; omega
  · exact q
  · have := ((key m').1 q).1; omega
theorem Fam_uniq {P : Nat → V3} {N fc fc' : Nat} {sz sz' : Nat → Nat} {co co' : Nat → Nat → Nat} {nn nn' : Nat → V3} {off off' : Nat → Int} (h : FamOK P N fc sz co nn off) (h' : FamOK P N fc' sz' co' nn' off') :
    fc = fc' ∧ ∀ j, j < fc → nn j = nn' j ∧ off j = off' j ∧ sz j = sz' j ∧ ∀ i, i < sz j → co j i = co' j i := by
  obtain ⟨f1, c1, s1⟩ := h
  obtain ⟨f2, c2, s2⟩ := h'
  have same : ∀ i j, i < fc → j < fc' → nn i = nn' j → off i = off' j → sz i = sz' j ∧ ∀ x, x < sz i → co i x = co' j x := by
    intro i j hi hj e1 e2
    have a := f1 i hi
    have b := f2 j hj
    rw [e1, e2] at a
    exact FaceIs_uniq a b
  have to : ∀ i, i < fc → ∃ j, j < fc' ∧ nn' j = nn i ∧ off' j = off i := fun i hi => c2 _ _ (f1 i hi).1 (f1 i hi).2.1
  have fro : ∀ j, j < fc' → ∃ i, i < fc ∧ nn i = nn' j ∧ off i = off' j := fun j hj => c1 _ _ (f2 j hj).1 (f2 j hj).2.1
  have k := inc_uniq (a := fun j => 32 * co j 0 + co j 1) (b := fun j => 32 * co' j 0 + co' j 1) s1 s2 (fun i hi => by
    obtain ⟨j, hj, e1, e2⟩ := to i hi
    obtain ⟨e3, e4⟩ := same i j hi hj e1.symm e2.symm
    have := (f1 i hi).2.2.1
    exact ⟨j, hj, by rw [e4 0 (by omega), e4 1 (by omega)]⟩) (fun j hj => by
    obtain ⟨i, hi, e1, e2⟩ := fro j hj
    obtain ⟨e3, e4⟩ := same i j hi hj e1 e2
    have := (f1 i hi).2.2.1
    exact ⟨i, hi, by rw [e4 0 (by omega), e4 1 (by omega)]⟩)
  refine ⟨k.1, fun i hi => ?_⟩
  obtain ⟨j, hj, e1, e2⟩ := to i hi
  obtain ⟨e3, e4⟩ := same i j hi hj e1.symm e2.symm
  have b3 := (f1 i hi).2.2.1
  have ej : j = i := by
    have q := k.2 i hi
    rw [e4 0 (by omega), e4 1 (by omega)] at q
    have hi' : i < fc' := by omega
    rcases Nat.lt_trichotomy i j with w | w | w
    · have := s2 i j w hj; omega
    · exact w.symm
    · have := s2 j i w hi'; omega
  subst ej
  exact ⟨e1.symm, e2.symm, e3, e4⟩
theorem FaceIs_congr {P : Nat → V3} {N : Nat} {nn : V3} {off : Int} {sz : Nat} {co co' : Nat → Nat} (h : FaceIs P N nn off sz co) (e : ∀ i, i < sz → co i = co' i) : FaceIs P N nn off sz co' := by
  obtain ⟨a1, a2, a3, a4, a5, a6, a7, a8⟩ := h
  refine ⟨a1, a2, a3, fun i hi => by rw [← e i hi]; exact a4 i hi, fun i hi => by rw [← e i hi, ← e _ (Nat.mod_lt _ (by omega))]; exact a5 i hi, fun i j hij hj => by rw [← e i (by omega), ← e j hj]; exact a6 i j hij hj, fun i hi => by rw [← e 0 (by omega), ← e i hi]; exact a7 i hi, fun v x h1 h2 h3 h4 h5 => ?_⟩
  obtain ⟨i, hi, q⟩ := a8 v x h1 h2 h3 h4 h5
  exact ⟨i, hi, by rw [← e i hi]; exact q⟩
/-- points that agree -/
theorem Fac_congr {P P' : Nat → V3} {N : Nat} {n : V3} {c : Int} (e : ∀ i, i < N → P i = P' i) (h : Fac P (fun q => q < N) n c) : Fac P' (fun q => q < N) n c := by
  obtain ⟨h1, h2, u, v, w, ⟨u1, u2⟩, ⟨v1, v2⟩, ⟨w1, w2⟩, h3⟩ := h
  have u1 : u < N := u1
  have v1 : v < N := v1
  have w1 : w < N := w1
  refine ⟨h1, fun q hq => by rw [← e q hq]; exact h2 q hq, u, v, w, ⟨u1, by rw [← e u u1]; exact u2⟩, ⟨v1, by rw [← e v v1]; exact v2⟩, ⟨w1, by rw [← e w w1]; exact w2⟩, by rw [← e u u1, ← e v v1, ← e w w1]; exact h3⟩
theorem goOn_congr {P P' : Nat → V3} {N : Nat} {n : V3} {c : Int} {a b : Nat} (e : ∀ i, i < N → P i = P' i) (ha : a < N) (hb : b < N) (h : goOn P (fun q => q < N) n c a b) : goOn P' (fun q => q < N) n c a b := by
  refine ⟨h.1, fun q hq h1 h2 h3 => ?_⟩
  have hq : q < N := hq
  rw [← e q hq] at h1
  have := h.2 q hq h1 h2 h3
  unfold LL bt3 at this ⊢
  rw [← e q hq, ← e a ha, ← e b hb]
  exact this
theorem FaceIs_pts {P P' : Nat → V3} {N : Nat} {nn : V3} {off : Int} {sz : Nat} {co : Nat → Nat} (e : ∀ i, i < N → P i = P' i) (h : FaceIs P N nn off sz co) : FaceIs P' N nn off sz co := by
  obtain ⟨a1, a2, a3, a4, a5, a6, a7, a8⟩ := h
  have lt : ∀ i, i < sz → (i + 1) % sz < sz := fun i _ => Nat.mod_lt _ (by omega)
  refine ⟨a1, Fac_congr e a2, a3, fun i hi => ⟨(a4 i hi).1, by rw [← e _ (a4 i hi).1]; exact (a4 i hi).2⟩, fun i hi => goOn_congr e (a4 i hi).1 (a4 _ (lt i hi)).1 (a5 i hi), a6, a7, fun v x h1 h2 h3 h4 h5 => ?_⟩
  exact a8 v x h1 h2 (by rw [e v h1]; exact h3) (by rw [e x h2]; exact h4) (goOn_congr (fun i hi => (e i hi).symm) h1 h2 h5)
theorem Fam_pts {P P' : Nat → V3} {N fc : Nat} {sz : Nat → Nat} {co : Nat → Nat → Nat} {nn : Nat → V3} {off : Nat → Int} (e : ∀ i, i < N → P i = P' i) (h : FamOK P N fc sz co nn off) : FamOK P' N fc sz co nn off :=
  ⟨fun j hj => FaceIs_pts e (h.1 j hj), fun n c hp hF => h.2.1 n c hp (Fac_congr (fun i hi => (e i hi).symm) hF), h.2.2⟩
/-- a directed edge lies in one face -/
theorem face_edge {P : Nat → V3} {N : Nat} {T : Nat → Nat → Nat → Prop} (H : Hul P N (fun q => q < N) T) (hinj : ∀ a b, a < N → b < N → P a = P b → a = b) {n n' : V3} {c c' : Int} {sz sz' : Nat} {co co' : Nat → Nat} (h : FaceIs P N n c sz co) (h' : FaceIs P N n' c' sz' co') {i i' : Nat} (hi : i < sz) (hi' : i' < sz') (e1 : co i = co' i') (e2 : co ((i + 1) % sz) = co' ((i' + 1) % sz')) : n = n' ∧ c = c' := by
  obtain ⟨a1, a2, a3, a4, a5, -, -, -⟩ := h
  obtain ⟨b1, b2, b3, b4, b5, -, -, -⟩ := h'
  have lt := Nat.mod_lt (i + 1) (show 0 < sz by omega)
  have lt' := Nat.mod_lt (i' + 1) (show 0 < sz' by omega)
  obtain ⟨y, t1, t2, _⟩ := H.rim_goOn a2 hinj (a4 i hi).1 (a4 _ lt).1 (a4 i hi).2 (a4 _ lt).2 (a5 i hi)
  have g5 := b5 i' hi'
  have q1 := (b4 i' hi').2
  have q2 := (b4 _ lt').2
  have q3 := (b4 i' hi').1
  have q4 := (b4 _ lt').1
  obtain ⟨y', t1', t2', _⟩ := H.rim_goOn b2 hinj q3 q4 q1 q2 g5
  rw [← e1, ← e2] at t1'
  rw [← e1] at q1
  rw [← e2] at q2
  have ey := H.uniq t1 t1'
  subst ey
  exact H.fac_eq a2 b2 a1 b1 t1 (a4 i hi).2 (a4 _ lt).2 t2 q1 q2 t2'
end FO

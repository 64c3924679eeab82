/-! JOIN: corners, neighbours, edges -/
section FM
/-- the tables that join writes -/
def JT (σ : Tab) (g : Nat) (ic : Nat → Int) (jn ed : Nat → Nat → Int) (ec cn : Int) : Tab := fun g' k' i' j' =>
  if g' = g ∧ k' = 9 ∧ i' = 0 then ic j' else if g' = g ∧ k' = 11 then jn i' j' else if g' = g ∧ k' = 19 then ed i' j' else if g' = g ∧ k' = 0 ∧ i' = 0 ∧ j' = 14 then ec else if g' = g ∧ k' = 0 ∧ i' = 0 ∧ j' = 15 then cn else σ g' k' i' j'
variable {σ : Tab} {g : Nat} {ic : Nat → Int} {jn ed : Nat → Nat → Int} {ec cn : Int}
theorem JT_0 (σ : Tab) (g : Nat) : σ = JT σ g (σ g 9 0) (σ g 11) (σ g 19) (σ g 0 0 14) (σ g 0 0 15) := by
  funext g' k' i' j'
  unfold JT
  split
  · rename_i h; obtain ⟨rfl, rfl, rfl⟩ := h; rfl
  · split
    · rename_i h; obtain ⟨rfl, rfl⟩ := h; rfl
    · split
      · rename_i h; obtain ⟨rfl, rfl⟩ := h; rfl
      · split
        · rename_i h; obtain ⟨rfl, rfl, rfl, rfl⟩ := h; rfl
        · split
          · rename_i h; obtain ⟨rfl, rfl, rfl, rfl⟩ := h; rfl
          · rfl
def up2 (f : Nat → Nat → Int) (i j : Nat) (v : Int) : Nat → Nat → Int := fun x y => if x = i ∧ y = j then v else f x y
theorem JT_st9 (j : Nat) (v : Int) : st (JT σ g ic jn ed ec cn) g 9 0 j v = JT σ g (upr ic j v) jn ed ec cn := by
  funext g' k' i' j'
  rw [st_app]
  unfold JT upr
  by_cases h : g' = g ∧ k' = 9 ∧ i' = 0
  · obtain ⟨rfl, rfl, rfl⟩ := h
    by_cases e : j' = j <;> simp [e]
  · rw [if_neg (fun z => h ⟨z.1, z.2.1, z.2.2.1⟩), if_neg h, if_neg h]
theorem JT_st11 (i j : Nat) (v : Int) : st (JT σ g ic jn ed ec cn) g 11 i j v = JT σ g ic (up2 jn i j v) ed ec cn := by
  funext g' k' i' j'
  rw [st_app]
  unfold JT up2
  by_cases h : g' = g ∧ k' = 11
  · obtain ⟨rfl, rfl⟩ := h
    by_cases e : i' = i ∧ j' = j
    · simp [e]
    · simp [e]
  · rw [if_neg (fun z => h ⟨z.1, z.2.1⟩), if_neg h, if_neg h]
theorem JT_st19 (i j : Nat) (v : Int) : st (JT σ g ic jn ed ec cn) g 19 i j v = JT σ g ic jn (up2 ed i j v) ec cn := by
  funext g' k' i' j'
  rw [st_app]
  unfold JT up2
  by_cases h : g' = g ∧ k' = 19
  · obtain ⟨rfl, rfl⟩ := h
    by_cases e : i' = i ∧ j' = j
    · simp [e]
    · simp [e]
  · rw [if_neg (fun z => h ⟨z.1, z.2.1⟩), if_neg h, if_neg h]
theorem JT_st14 (v : Int) : st (JT σ g ic jn ed ec cn) g 0 0 14 v = JT σ g ic jn ed v cn := by
  funext g' k' i' j'
  rw [st_app]
  unfold JT
  by_cases h : g' = g ∧ k' = 0 ∧ i' = 0 ∧ j' = 14
  · obtain ⟨rfl, rfl, rfl, rfl⟩ := h; simp
  · rw [if_neg h, if_neg h, if_neg h]
theorem JT_st15 (v : Int) : st (JT σ g ic jn ed ec cn) g 0 0 15 v = JT σ g ic jn ed ec v := by
  funext g' k' i' j'
  rw [st_app]
  unfold JT
  by_cases h : g' = g ∧ k' = 0 ∧ i' = 0 ∧ j' = 15
  · obtain ⟨rfl, rfl, rfl, rfl⟩ := h; simp
  · rw [if_neg h, if_neg h, if_neg h]
theorem JT_9 (j : Nat) : JT σ g ic jn ed ec cn g 9 0 j = ic j := by simp [JT]
theorem JT_11 (i j : Nat) : JT σ g ic jn ed ec cn g 11 i j = jn i j := by simp [JT]
theorem JT_19 (i j : Nat) : JT σ g ic jn ed ec cn g 19 i j = ed i j := by simp [JT]
theorem JT_14 : JT σ g ic jn ed ec cn g 0 0 14 = ec := by simp [JT]
theorem JT_15 : JT σ g ic jn ed ec cn g 0 0 15 = cn := by simp [JT]
theorem JT_h {j : Nat} (h : j ≠ 14 ∧ j ≠ 15) : JT σ g ic jn ed ec cn g 0 0 j = σ g 0 0 j := by simp [JT, h]
theorem JT_other {g' k' i' : Nat} (h : ¬ (g' = g ∧ ((k' = 9 ∧ i' = 0) ∨ k' = 11 ∨ k' = 19 ∨ (k' = 0 ∧ i' = 0)))) : JT σ g ic jn ed ec cn g' k' i' = σ g' k' i' := by
  funext j'
  unfold JT
  rw [if_neg (fun z => h ⟨z.1, by omega⟩), if_neg (fun z => h ⟨z.1, by omega⟩), if_neg (fun z => h ⟨z.1, by omega⟩), if_neg (fun z => h ⟨z.1, by omega⟩), if_neg (fun z => h ⟨z.1, by omega⟩)]
/-- the faces as numbers: sizes and corners -/
def FTab (σ : Tab) (g fc : Nat) (sz : Nat → Nat) (co : Nat → Nat → Nat) : Prop := σ g 0 0 13 = fc ∧ fc ≤ 44 ∧ FP σ g ∧ ∀ j, j < fc → σ g 16 (fxs σ g j) 2 = sz j ∧ 1 ≤ sz j ∧ sz j ≤ 24 ∧ ∀ i, i < sz j → σ g 18 (fxs σ g j) i = co j i ∧ co j i < 24
theorem JT_FTab {fc : Nat} {sz : Nat → Nat} {co : Nat → Nat → Nat} (h : FTab σ g fc sz co) : FTab (JT σ g ic jn ed ec cn) g fc sz co := by
  have r3 : JT σ g ic jn ed ec cn g 3 0 = σ g 3 0 := JT_other (fun z => by omega)
  have r16 : ∀ i, JT σ g ic jn ed ec cn g 16 i = σ g 16 i := fun i => JT_other (fun z => by omega)
  have r18 : ∀ i, JT σ g ic jn ed ec cn g 18 i = σ g 18 i := fun i => JT_other (fun z => by omega)
  obtain ⟨h1, h2, h3, h4⟩ := h
  refine ⟨by rw [JT_h (by decide)]; exact h1, h2, by unfold FP; rw [r3]; exact h3, fun j hj => ?_⟩
  unfold fxs
  rw [r3, r16, r18]
  exact h4 j hj
def dEj (sz : Nat → Nat) (co : Nat → Nat → Nat) (a b j : Nat) : Prop := ∃ i, i < sz j ∧ co j i = a ∧ co j ((i + 1) % sz j) = b
def dE (fc : Nat) (sz : Nat → Nat) (co : Nat → Nat → Nat) (a b : Nat) : Prop := ∃ j, j < fc ∧ dEj sz co a b j
def foR (fc : Nat) (sz : Nat → Nat) (co : Nat → Nat → Nat) (a b : Nat) (z : Int) : Prop := (∃ j : Nat, z = j ∧ j < fc ∧ dEj sz co a b j ∧ ∀ j', j' < j → ¬ dEj sz co a b j') ∨ (z = -1 ∧ ∀ j, j < fc → ¬ dEj sz co a b j)
variable {fc : Nat} {sz : Nat → Nat} {co : Nat → Nat → Nat}
theorem f_next (h : FTab σ g fc sz co) {j i : Nat} (hj : j < fc) (hi : i < sz j) {P : Int → Tab → Prop} (hP : P (co j ((i + 1) % sz j)) σ) : wpX6_next g (fxs σ g j) i σ P := by
  obtain ⟨-, -, -, h4⟩ := h
  obtain ⟨e1, e2, e3, e4⟩ := h4 j hj
  unfold wpX6_next
  rw [e1, ic]
  refine ⟨inI_sm ⟨by omega, by omega⟩, inI_sm ⟨by omega, by omega⟩, fun z => ?_, fun z => ?_⟩
  · have hlt : i + 1 < sz j := by omega
    rw [Nat.mod_eq_of_lt hlt] at hP
    refine ⟨⟨by omega, by omega⟩, ?_⟩
    rw [Int.toNat_natCast, (e4 _ hlt).1]
    exact hP
  · have he : i + 1 = sz j := by have := Decidable.of_not_not z; omega
    rw [he, Nat.mod_self] at hP
    rw [(e4 0 (by omega)).1]
    exact hP
theorem f_faceOf (h : FTab σ g fc sz co) {a b : Nat} (ha : a < 24) (hb : b < 24) {P : Int → Tab → Prop} (hP : ∀ z, foR fc sz co a b z → P z σ) : wpX2_faceOf g a b σ P := by
  obtain ⟨h1, h2, h3, h4⟩ := id h
  have iF : inI (fc : Int) := inI_sm ⟨by omega, by omega⟩
  have lp : ∀ (d j : Nat), fc - j = d → j ≤ fc → (∀ j', j' < j → ¬ dEj sz co a b j') → wlX2_faceOf_2 g P (d + 1) a b j σ := by
    intro d
    induction d with
    | zero =>
      intro j e1 e2 e3
      unfold wlX2_faceOf_2
      rw [h1]
      exact ⟨inI_sm ⟨by omega, by omega⟩, iF, fun _ => hP _ (Or.inr ⟨rfl, fun j' hj' => e3 j' (by omega)⟩), fun z => by omega⟩
    | succ d ih =>
      intro j e1 e2 e3
      obtain ⟨s1, s2, s3, s4⟩ := h4 j (by omega)
      unfold wlX2_faceOf_2
      rw [h1]
      refine ⟨inI_sm ⟨by omega, by omega⟩, iF, fun z => by omega, fun _ => ⟨sz j + 1, ?_⟩⟩
      have inner : ∀ (e i : Nat), sz j - i = e → i ≤ sz j → (∀ i', i' < i → ¬ (co j i' = a ∧ co j ((i' + 1) % sz j) = b)) → wlX2_faceOf_13 g P (fun x1 x2 x3 τ => wlX2_faceOf_2 g P (d + 1) x1 x2 x3 τ) (e + 1) a b j i σ := by
        intro e
        induction e with
        | zero =>
          intro i q1 q2 q3
          unfold wlX2_faceOf_13
          rw [Int.toNat_natCast, show (σ g 3 0 j).toNat = fxs σ g j from rfl, s1]
          refine ⟨⟨by omega, by omega⟩, h3.1 j (by omega), inI_sm ⟨by omega, by omega⟩, inI_sm ⟨by omega, by omega⟩, fun _ => ?_, fun z => by omega⟩
          rw [ic]
          refine ih (j + 1) (by omega) (by omega) (fun j' hj' => ?_)
          by_cases q : j' = j
          · subst q
            rintro ⟨i', hi', q4⟩
            exact q3 i' (by omega) q4
          · exact e3 j' (by omega)
        | succ e ihe =>
          intro i q1 q2 q3
          have ci := s4 i (by omega)
          unfold wlX2_faceOf_13
          rw [Int.toNat_natCast, Int.toNat_natCast, show (σ g 3 0 j).toNat = fxs σ g j from rfl, s1, ci.1, ic, ic]
          have nx : ¬ (co j i = a ∧ co j ((i + 1) % sz j) = b) → wlX2_faceOf_13 g P (fun x1 x2 x3 τ => wlX2_faceOf_2 g P (d + 1) x1 x2 x3 τ) (e + 1) a b j ((i + 1 : Nat) : Int) σ := by
            intro hq
            refine ihe (i + 1) (by omega) (by omega) (fun i' hi' => ?_)
            by_cases q : i' = i
            · subst q; exact hq
            · exact q3 i' (by omega)
          refine ⟨⟨by omega, by omega⟩, h3.1 j (by omega), inI_sm ⟨by omega, by omega⟩, inI_sm ⟨by omega, by omega⟩, fun z => by omega, fun _ => ⟨⟨by omega, by omega⟩, inI_sm ⟨by omega, by omega⟩, inI_sm ⟨by omega, by omega⟩, fun z => nx (fun q => z (by rw [q.1])), fun z => ?_⟩⟩
          have e5 : co j i = a := by have := Decidable.of_not_not z; omega
          refine f_next h (by omega) (by omega) ?_
          have lt := Nat.mod_lt (i + 1) (show 0 < sz j by omega)
          have c2 := (s4 _ lt).2
          refine ⟨inI_sm ⟨by omega, by omega⟩, inI_sm ⟨by omega, by omega⟩, fun w => nx (fun q => w (by rw [q.2])), fun w => ?_⟩
          have e6 : co j ((i + 1) % sz j) = b := by have := Decidable.of_not_not w; omega
          exact hP _ (Or.inl ⟨j, rfl, by omega, ⟨i, by omega, e5, e6⟩, e3⟩)
      exact inner _ 0 rfl (by omega) (fun i' hi' => absurd hi' (Nat.not_lt_zero _))
  exact ⟨_, lp _ 0 rfl (by omega) (fun j' hj' => absurd hj' (Nat.not_lt_zero _))⟩
end FM

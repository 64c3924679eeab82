/-! JOIN: its loops -/
section FN
theorem icT (k : Nat) : (k : Int) + 1 = ((k + 1 : Nat) : Int) := rfl
variable {σ : Tab} {g fc : Nat} {sz : Nat → Nat} {co : Nat → Nat → Nat}
def doneC (fc : Nat) (sz : Nat → Nat) (co : Nat → Nat → Nat) (j i a : Nat) : Prop := ∃ j' i', (j' < j ∨ (j' = j ∧ i' < i)) ∧ j' < fc ∧ i' < sz j' ∧ co j' i' = a
def doneE (fc : Nat) (sz : Nat → Nat) (co : Nat → Nat → Nat) (j i a b : Nat) : Prop := ∃ j' i', (j' < j ∨ (j' = j ∧ i' < i)) ∧ j' < fc ∧ i' < sz j' ∧ co j' i' = a ∧ co j' ((i' + 1) % sz j') = b
def BI (fc : Nat) (sz : Nat → Nat) (co : Nat → Nat → Nat) (ic : Nat → Int) (jn : Nat → Nat → Int) (j i : Nat) : Prop :=
  (∀ a, a < 24 → (ic a = 0 ∨ ic a = 1) ∧ (ic a = 1 ↔ doneC fc sz co j i a)) ∧ ∀ a b, a < 24 → b < 24 → (jn a b = 0 ∨ jn a b = 1) ∧ (jn a b = 1 ↔ doneE fc sz co j i a b)
theorem BI_row {ic : Nat → Int} {jn : Nat → Nat → Int} {j : Nat} (h : BI fc sz co ic jn j (sz j)) : BI fc sz co ic jn (j + 1) 0 := by
  have e1 : ∀ a, doneC fc sz co j (sz j) a ↔ doneC fc sz co (j + 1) 0 a := by
    intro a
    constructor
    · rintro ⟨j', i', q1, q⟩; exact ⟨j', i', by omega, q⟩
    · rintro ⟨j', i', q1, q⟩
      refine ⟨j', i', ?_, q⟩
      by_cases e : j' = j
      · subst e; exact Or.inr ⟨rfl, q.2.1⟩
      · omega
  have e2 : ∀ a b, doneE fc sz co j (sz j) a b ↔ doneE fc sz co (j + 1) 0 a b := by
    intro a b
    constructor
    · rintro ⟨j', i', q1, q⟩; exact ⟨j', i', by omega, q⟩
    · rintro ⟨j', i', q1, q⟩
      refine ⟨j', i', ?_, q⟩
      by_cases e : j' = j
      · subst e; exact Or.inr ⟨rfl, q.2.1⟩
      · omega
  exact ⟨fun a ha => by rw [← e1]; exact h.1 a ha, fun a b ha hb => by rw [← e2]; exact h.2 a b ha hb⟩
theorem BI_step {ic : Nat → Int} {jn : Nat → Nat → Int} {j i : Nat} (h : BI fc sz co ic jn j i) (hj : j < fc) (hi : i < sz j) : BI fc sz co (upr ic (co j i) 1) (up2 jn (co j i) (co j ((i + 1) % sz j)) 1) j (i + 1) := by
  refine ⟨fun a ha => ?_, fun a b ha hb => ?_⟩
  · unfold upr
    by_cases e : a = co j i
    · rw [if_pos e]
      exact ⟨Or.inr rfl, fun _ => ⟨j, i, by omega, hj, hi, e.symm⟩, fun _ => rfl⟩
    · rw [if_neg e]
      refine ⟨(h.1 a ha).1, ?_⟩
      rw [(h.1 a ha).2]
      constructor
      · rintro ⟨j', i', q1, q⟩; exact ⟨j', i', by omega, q⟩
      · rintro ⟨j', i', q1, q⟩
        refine ⟨j', i', ?_, q⟩
        by_cases z : j' = j ∧ i' = i
        · obtain ⟨rfl, rfl⟩ := z
          exact absurd q.2.2.symm e
        · omega
  · unfold up2
    by_cases e : a = co j i ∧ b = co j ((i + 1) % sz j)
    · rw [if_pos e]
      exact ⟨Or.inr rfl, fun _ => ⟨j, i, by omega, hj, hi, e.1.symm, e.2.symm⟩, fun _ => rfl⟩
    · rw [if_neg e]
      refine ⟨(h.2 a b ha hb).1, ?_⟩
      rw [(h.2 a b ha hb).2]
      constructor
      · rintro ⟨j', i', q1, q⟩; exact ⟨j', i', by omega, q⟩
      · rintro ⟨j', i', q1, q⟩
        refine ⟨j', i', ?_, q⟩
        by_cases z : j' = j ∧ i' = i
        · obtain ⟨rfl, rfl⟩ := z
          exact absurd ⟨q.2.2.1.symm, q.2.2.2.symm⟩ e
        · omega
theorem BI_dE {ic : Nat → Int} {jn : Nat → Nat → Int} (h : BI fc sz co ic jn fc 0) {a b : Nat} (ha : a < 24) (hb : b < 24) : jn a b = 1 ↔ dE fc sz co a b := by
  rw [(h.2 a b ha hb).2]
  constructor
  · rintro ⟨j', i', q1, q2, q3, q4⟩; exact ⟨j', q2, i', q3, q4⟩
  · rintro ⟨j, hj, i, hi, q⟩; exact ⟨j, i, by omega, hj, hi, q⟩
/-- edges so far -/
def EN (fc : Nat) (sz : Nat → Nat) (co : Nat → Nat → Nat) (ed : Nat → Nat → Int) (m a b : Nat) : Prop :=
  (∀ e, e < m → ∃ x y : Nat, x < y ∧ y < 24 ∧ (x < a ∨ (x = a ∧ y < b)) ∧ dE fc sz co x y ∧ ed e 0 = x ∧ ed e 1 = y ∧ foR fc sz co x y (ed e 2) ∧ foR fc sz co y x (ed e 3)) ∧
  (∀ e e', e < e' → e' < m → 32 * ed e 0 + ed e 1 < 32 * ed e' 0 + ed e' 1) ∧
  (∀ x y : Nat, x < y → y < 24 → (x < a ∨ (x = a ∧ y < b)) → dE fc sz co x y → ∃ e, e < m ∧ ed e 0 = x ∧ ed e 1 = y)
theorem EN_no {ed : Nat → Nat → Int} {m a b : Nat} (h : EN fc sz co ed m a b) (hn : ¬ dE fc sz co a b) : EN fc sz co ed m a (b + 1) := by
  refine ⟨fun e he => ?_, h.2.1, fun x y h1 h2 h3 h4 => ?_⟩
  · obtain ⟨x, y, q1, q2, q3, q⟩ := h.1 e he
    exact ⟨x, y, q1, q2, by omega, q⟩
  · by_cases z : x = a ∧ y = b
    · obtain ⟨rfl, rfl⟩ := z; exact absurd h4 hn
    · exact h.2.2 x y h1 h2 (by omega) h4
theorem EN_row {ed : Nat → Nat → Int} {m a : Nat} (h : EN fc sz co ed m a 24) : EN fc sz co ed m (a + 1) (a + 1 + 1) := by
  refine ⟨fun e he => ?_, h.2.1, fun x y h1 h2 h3 h4 => h.2.2 x y h1 h2 (by omega) h4⟩
  obtain ⟨x, y, q1, q2, q3, q⟩ := h.1 e he
  exact ⟨x, y, q1, q2, by omega, q⟩
theorem EN_new {ed ed' : Nat → Nat → Int} {m a b : Nat} (h : EN fc sz co ed m a b) (hab : a < b) (hb : b < 24) (hd : dE fc sz co a b) (h0 : ∀ e j, e ≠ m → ed' e j = ed e j) (e0 : ed' m 0 = a) (e1 : ed' m 1 = b) (e2 : foR fc sz co a b (ed' m 2)) (e3 : foR fc sz co b a (ed' m 3)) : EN fc sz co ed' (m + 1) a (b + 1) := by
  refine ⟨fun e he => ?_, fun e e' h1 h2 => ?_, fun x y h1 h2 h3 h4 => ?_⟩
  · by_cases z : e = m
    · subst z; exact ⟨a, b, hab, hb, by omega, hd, e0, e1, e2, e3⟩
    · obtain ⟨x, y, q1, q2, q3, q4, q5, q6, q7, q8⟩ := h.1 e (by omega)
      exact ⟨x, y, q1, q2, by omega, q4, by rw [h0 e 0 z]; exact q5, by rw [h0 e 1 z]; exact q6, by rw [h0 e 2 z]; exact q7, by rw [h0 e 3 z]; exact q8⟩
  · have z : e ≠ m := by omega
    rw [h0 e 0 z, h0 e 1 z]
    by_cases z' : e' = m
    · obtain ⟨x, y, q1, q2, q3, q4, q5, q6, _⟩ := h.1 e (by omega)
      rw [z', e0, e1, q5, q6]
      omega
    · rw [h0 e' 0 z', h0 e' 1 z']; exact h.2.1 e e' h1 (by omega)
  · by_cases z : x = a ∧ y = b
    · obtain ⟨rfl, rfl⟩ := z; exact ⟨m, by omega, e0, e1⟩
    · obtain ⟨e, he, q1, q2⟩ := h.2.2 x y h1 h2 (by omega) h4
      exact ⟨e, by omega, by rw [h0 e 0 (by omega)]; exact q1, by rw [h0 e 1 (by omega)]; exact q2⟩
theorem EN_cap {ed : Nat → Nat → Int} {m a b : Nat} (h : EN fc sz co ed m a b) (hab : a < b) (hd : dE fc sz co a b)
    (hcap : ∀ (K : Nat) (E : Nat → Nat × Nat), (∀ i, i < K → (E i).1 < (E i).2 ∧ dE fc sz co (E i).1 (E i).2) → (∀ i j, i < j → j < K → E i ≠ E j) → K ≤ 66) : m < 66 := by
  have := hcap (m + 1) (fun e => if e < m then ((ed e 0).toNat, (ed e 1).toNat) else (a, b)) (fun i hi => by
    by_cases q : i < m
    · rw [if_pos q]
      obtain ⟨x, y, q1, q2, q3, q4, q5, q6, _⟩ := h.1 i q
      rw [q5, q6]
      exact ⟨q1, q4⟩
    · rw [if_neg q]; exact ⟨hab, hd⟩) (fun i j hij hj e => by
    have qi : i < m := by omega
    rw [if_pos qi] at e
    obtain ⟨x, y, q1, q2, q3, q4, q5, q6, _⟩ := h.1 i qi
    by_cases q : j < m
    · rw [if_pos q] at e
      obtain ⟨x', y', p1, p2, p3, p4, p5, p6, _⟩ := h.1 j q
      have lt := h.2.1 i j hij q
      rw [q5, q6, p5, p6] at e lt
      have e1 := (Prod.mk.inj e).1
      have e2 := (Prod.mk.inj e).2
      omega
    · rw [if_neg q, q5, q6] at e
      have e1 := (Prod.mk.inj e).1
      have e2 := (Prod.mk.inj e).2
      omega)
  omega
def cnI (ic : Nat → Int) : Nat → Int
  | 0 => 0
  | a + 1 => cnI ic a + if ic a = 0 then 0 else 1
theorem cnI_bd (ic : Nat → Int) (a : Nat) : 0 ≤ cnI ic a ∧ cnI ic a ≤ a := by
  induction a with
  | zero => exact ⟨Int.le_refl _, Int.le_refl _⟩
  | succ a ih => unfold cnI; split <;> omega
theorem f_join {P : Tab → Prop} (h : FTab σ g fc sz co) (hcap : ∀ (K : Nat) (E : Nat → Nat × Nat), (∀ i, i < K → (E i).1 < (E i).2 ∧ dE fc sz co (E i).1 (E i).2) → (∀ i j, i < j → j < K → E i ≠ E j) → K ≤ 66)
    (hP : ∀ (ic : Nat → Int) (jn ed : Nat → Nat → Int) (m : Nat), m ≤ 66 → BI fc sz co ic jn fc 0 → EN fc sz co ed m 24 25 → P (JT σ g ic jn ed m (cnI ic 24))) : wpX2_join g σ P := by
  obtain ⟨h1, h2, h3, h4⟩ := id h
  have iF : inI (fc : Int) := inI_sm ⟨by omega, by omega⟩
  -- the last loop
  have lpC : ∀ (ic : Nat → Int) (jn : Nat → Nat → Int), BI fc sz co ic jn fc 0 → ∀ (d a m : Nat) (ed : Nat → Nat → Int), 24 - a = d → a ≤ 24 → m ≤ 66 → EN fc sz co ed m a (a + 1) → wlX2_join_138 g P (d + 1) a (JT σ g ic jn ed m (cnI ic a)) := by
    intro ic jn hB d
    induction d with
    | zero =>
      intro a m ed e1 e2 e3 e4
      have : a = 24 := by omega
      subst this
      unfold wlX2_join_138
      exact ⟨⟨by decide, by decide⟩, fun _ => hP ic jn ed m e3 hB e4, fun z => absurd (by decide) z⟩
    | succ d ih =>
      intro a m ed e1 e2 e3 e4
      have hia := hB.1 a (by omega)
      have inner : ∀ (e b m : Nat) (ed : Nat → Nat → Int), 24 - b = e → a < b → b ≤ 24 → m ≤ 66 → EN fc sz co ed m a b → wlX2_join_167 g P (fun x1 τ => wlX2_join_138 g P (d + 1) x1 τ) (e + 1) a b (JT σ g ic jn ed m (cnI ic (a + 1))) := by
        intro e
        induction e with
        | zero =>
          intro b m ed q1 q2 q3 q4 q5
          have : b = 24 := by omega
          subst this
          unfold wlX2_join_167
          refine ⟨⟨by decide, by decide⟩, fun _ => ?_, fun z => absurd (by decide) z⟩
          rw [icT]
          exact ih (a + 1) m ed (by omega) (by omega) q4 (EN_row q5)
        | succ e ihe =>
          intro b m ed q1 q2 q3 q4 q5
          have hj := hB.2 a b (by omega) (by omega)
          have hde := BI_dE hB (show a < 24 by omega) (show b < 24 by omega)
          unfold wlX2_join_167
          rw [Int.toNat_natCast, Int.toNat_natCast, JT_11, JT_14, Int.toNat_natCast, icT]
          refine ⟨inI_sm ⟨by omega, by omega⟩, fun z => by omega, fun _ => ⟨⟨by omega, by omega⟩, ⟨by omega, by omega⟩, inI_f hj.1, fun z => ?_, fun z => ihe (b + 1) m ed (by omega) (by omega) (by omega) q4 (EN_no q5 (fun y => by have := hde.mpr y; omega))⟩⟩
          have hd : dE fc sz co a b := hde.mp (by omega)
          have hm := EN_cap q5 q2 hd hcap
          refine ⟨⟨by omega, by omega⟩, fun σ8 e8 σ9 e9 => ?_⟩
          rw [e9, e8, JT_st19, JT_st19]
          refine f_faceOf (JT_FTab h) (by omega) (by omega) (fun z10 hz10 σ11 e11 => ?_)
          rw [e11, JT_st19]
          refine f_faceOf (JT_FTab h) (by omega) (by omega) (fun z12 hz12 σ13 e13 σ14 e14 => ?_)
          rw [e14, e13, JT_st19, JT_14, JT_st14, icT]
          refine ihe (b + 1) (m + 1) _ (by omega) (by omega) (by omega) (by omega) (EN_new q5 q2 (by omega) hd (fun e j hne => ?_) ?_ ?_ ?_ ?_)
          · simp [up2, hne]
          · simp [up2]
          · simp [up2]
          · simpa [up2] using hz10
          · simpa [up2] using hz12
      unfold wlX2_join_138
      rw [Int.toNat_natCast, JT_9]
      refine ⟨inI_sm ⟨by omega, by omega⟩, fun z => by omega, fun _ => ⟨⟨by omega, by omega⟩, inI_f hia.1, fun z => ⟨24 - (a + 1) + 1, ?_⟩, fun z σ7 e7 => ⟨24 - (a + 1) + 1, ?_⟩⟩⟩
      · have ec : cnI ic a = cnI ic (a + 1) := by show cnI ic a = cnI ic a + _; rw [if_pos z, Int.add_zero]
        rw [ec, icT]
        exact inner _ (a + 1) m ed rfl (by omega) (by omega) e3 e4
      · have ec : cnI ic a + 1 = cnI ic (a + 1) := by show cnI ic a + 1 = cnI ic a + _; rw [if_neg z]
        rw [e7, JT_15, JT_st15, ec, icT]
        exact inner _ (a + 1) m ed rfl (by omega) (by omega) e3 e4
  have lpB : ∀ (d j : Nat) (ic : Nat → Int) (jn ed : Nat → Nat → Int) (ec cn : Int), fc - j = d → j ≤ fc → BI fc sz co ic jn j 0 → wlX2_join_46 g P (d + 1) j (JT σ g ic jn ed ec cn) := by
    intro d
    induction d with
    | zero =>
      intro j ic jn ed ec cn e1 e2 e3
      have : j = fc := by omega
      subst this
      unfold wlX2_join_46
      rw [JT_h (by decide), h1]
      refine ⟨iF, iF, fun _ σ4 e4 σ5 e5 => ⟨24 - 0 + 1, ?_⟩, fun z => by omega⟩
      rw [e5, e4, JT_st14, JT_st15]
      exact lpC ic jn e3 _ 0 0 ed rfl (by omega) (by omega) ⟨fun e he => absurd he (Nat.not_lt_zero _), fun e e' _ he => absurd he (Nat.not_lt_zero _), fun x y _ _ q _ => by omega⟩
    | succ d ih =>
      intro j ic jn ed ec cn e1 e2 e3
      obtain ⟨s1, s2, s3, s4⟩ := h4 j (by omega)
      have r3 : ∀ (ic : Nat → Int) (jn : Nat → Nat → Int), JT σ g ic jn ed ec cn g 3 0 = σ g 3 0 := fun _ _ => JT_other (fun z => by omega)
      have r16 : ∀ (ic : Nat → Int) (jn : Nat → Nat → Int) i, JT σ g ic jn ed ec cn g 16 i = σ g 16 i := fun _ _ i => JT_other (fun z => by omega)
      have r18 : ∀ (ic : Nat → Int) (jn : Nat → Nat → Int) i, JT σ g ic jn ed ec cn g 18 i = σ g 18 i := fun _ _ i => JT_other (fun z => by omega)
      have inner : ∀ (e i : Nat) (ic : Nat → Int) (jn : Nat → Nat → Int), sz j - i = e → i ≤ sz j → BI fc sz co ic jn j i → wlX2_join_56 g P (fun x1 τ => wlX2_join_46 g P (d + 1) x1 τ) (e + 1) j i (JT σ g ic jn ed ec cn) := by
        intro e
        induction e with
        | zero =>
          intro i ic' jn' q1 q2 q3
          have : i = sz j := by omega
          subst this
          unfold wlX2_join_56
          rw [Int.toNat_natCast, r3, show (σ g 3 0 j).toNat = fxs σ g j from rfl, r16, s1]
          refine ⟨⟨by omega, by omega⟩, h3.1 j (by omega), inI_sm ⟨by omega, by omega⟩, inI_sm ⟨by omega, by omega⟩, fun _ => ?_, fun z => by omega⟩
          rw [icT]
          exact ih (j + 1) ic' jn' ed ec cn (by omega) (by omega) (BI_row q3)
        | succ e ihe =>
          intro i ic' jn' q1 q2 q3
          have ci := s4 i (by omega)
          unfold wlX2_join_56
          rw [Int.toNat_natCast, Int.toNat_natCast, r3, show (σ g 3 0 j).toNat = fxs σ g j from rfl, r16, s1, r18, ci.1, Int.toNat_natCast]
          refine ⟨⟨by omega, by omega⟩, h3.1 j (by omega), inI_sm ⟨by omega, by omega⟩, inI_sm ⟨by omega, by omega⟩, fun z => by omega, fun _ => ⟨⟨by omega, by omega⟩, ⟨by omega, by omega⟩, fun σ8 e8 => ?_⟩⟩
          rw [e8, JT_st9, r3, show (σ g 3 0 j).toNat = fxs σ g j from rfl, r18, ci.1, Int.toNat_natCast]
          refine ⟨h3.1 j (by omega), ⟨by omega, by omega⟩, ?_⟩
          have efx : fxs (JT σ g (upr ic' (co j i) 1) jn' ed ec cn) g j = fxs σ g j := by unfold fxs; rw [r3]
          have fn := fun P' hP' => f_next (P := P') (JT_FTab (ic := upr ic' (co j i) 1) (jn := jn') (ed := ed) (ec := ec) (cn := cn) h) (show j < fc by omega) (show i < sz j by omega) hP'
          rw [efx] at fn
          apply fn
          have lt := Nat.mod_lt (i + 1) (show 0 < sz j by omega)
          have c2 := (s4 _ lt).2
          refine ⟨⟨by omega, by omega⟩, fun σ13 e13 => ?_⟩
          rw [e13, JT_st11, Int.toNat_natCast, icT]
          exact ihe (i + 1) _ _ (by omega) (by omega) (BI_step q3 (by omega) (by omega))
      unfold wlX2_join_46
      rw [JT_h (by decide), h1]
      exact ⟨inI_sm ⟨by omega, by omega⟩, iF, fun z => by omega, fun _ => ⟨_, inner _ 0 ic jn rfl (by omega) e3⟩⟩
  have lpA : ∀ (d a : Nat) (ic : Nat → Int) (jn ed : Nat → Nat → Int) (ec cn : Int), 24 - a = d → a ≤ 24 → (∀ x, x < a → ic x = 0) → (∀ x y, x < a → y < 24 → jn x y = 0) → wlX2_join_2 g P (d + 1) a (JT σ g ic jn ed ec cn) := by
    intro d
    induction d with
    | zero =>
      intro a ic jn ed ec cn e1 e2 e3 e4
      have : a = 24 := by omega
      subst this
      unfold wlX2_join_2
      refine ⟨⟨by decide, by decide⟩, fun _ => ⟨_, lpB _ 0 ic jn ed ec cn rfl (by omega) ⟨fun x hx => ?_, fun x y hx hy => ?_⟩⟩, fun z => absurd (by decide) z⟩
      · rw [e3 x hx]
        exact ⟨Or.inl rfl, fun z => by omega, fun ⟨j', i', q, _⟩ => by omega⟩
      · rw [e4 x y hx hy]
        exact ⟨Or.inl rfl, fun z => by omega, fun ⟨j', i', q, _⟩ => by omega⟩
    | succ d ih =>
      intro a ic jn ed ec cn e1 e2 e3 e4
      have inner : ∀ (e b : Nat) (ic : Nat → Int) (jn : Nat → Nat → Int), 24 - b = e → b ≤ 24 → (∀ x, x < a + 1 → ic x = 0) → (∀ x y, x < a → y < 24 → jn x y = 0) → (∀ y, y < b → jn a y = 0) → wlX2_join_17 g P (fun x1 τ => wlX2_join_2 g P (d + 1) x1 τ) (e + 1) a b (JT σ g ic jn ed ec cn) := by
        intro e
        induction e with
        | zero =>
          intro b ic' jn' q1 q2 q3 q4 q5
          have : b = 24 := by omega
          subst this
          unfold wlX2_join_17
          refine ⟨⟨by decide, by decide⟩, fun _ => ?_, fun z => absurd (by decide) z⟩
          rw [icT]
          refine ih (a + 1) ic' jn' ed ec cn (by omega) (by omega) q3 (fun x y hx hy => ?_)
          by_cases z : x = a
          · subst z; exact q5 y hy
          · exact q4 x y (by omega) hy
        | succ e ihe =>
          intro b ic' jn' q1 q2 q3 q4 q5
          unfold wlX2_join_17
          rw [Int.toNat_natCast, Int.toNat_natCast]
          refine ⟨inI_sm ⟨by omega, by omega⟩, fun z => by omega, fun _ => ⟨⟨by omega, by omega⟩, ⟨by omega, by omega⟩, fun σ5 e5 => ?_⟩⟩
          rw [e5, JT_st11, icT]
          refine ihe (b + 1) _ _ (by omega) (by omega) q3 (fun x y hx hy => ?_) (fun y hy => ?_)
          · unfold up2; rw [if_neg (fun z => by omega)]; exact q4 x y hx hy
          · unfold up2
            by_cases z : y = b
            · rw [if_pos ⟨rfl, z⟩]
            · rw [if_neg (fun w => z w.2)]; exact q5 y (by omega)
      unfold wlX2_join_2
      rw [Int.toNat_natCast]
      refine ⟨inI_sm ⟨by omega, by omega⟩, fun z => by omega, fun _ => ⟨⟨by omega, by omega⟩, fun σ5 e5 => ⟨24 - 0 + 1, ?_⟩⟩⟩
      rw [e5, JT_st9]
      refine inner _ 0 _ jn rfl (by omega) (fun x hx => ?_) e4 (fun y hy => absurd hy (Nat.not_lt_zero _))
      unfold upr
      by_cases z : x = a
      · rw [if_pos z]
      · rw [if_neg z]; exact e3 x (by omega)
  have := lpA _ 0 (σ g 9 0) (σ g 11) (σ g 19) (σ g 0 0 14) (σ g 0 0 15) rfl (by omega) (fun x hx => absurd hx (Nat.not_lt_zero _)) (fun x y hx => absurd hx (Nat.not_lt_zero _))
  rw [← JT_0] at this
  exact ⟨_, this⟩
end FN

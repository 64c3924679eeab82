/-! THE MODEL: the order of the faces, the face of an edge, the edges -/
section FU
def MTab (τ : Tab) (m : Nat) (sz : Nat → Nat) (co : Nat → Nat → Nat) : Prop := τ 0 23 0 11 = m ∧ m ≤ 44 ∧ ∀ f, f < m → τ 0 34 0 f = sz f ∧ 2 ≤ sz f ∧ sz f ≤ 24 ∧ ∀ i, i < sz f → τ 0 35 0 (24 * f + i) = co f i ∧ co f i < 24
def kM (co : Nat → Nat → Nat) (z : Int) : Int := 32 * co z.toNat 0 + co z.toNat 1
variable {σ : Tab} {m : Nat} {sz : Nat → Nat} {co : Nat → Nat → Nat}
theorem f_earlier {P : Int → Tab → Prop} {f f' : Nat} (h : MTab σ m sz co) (hf : f < m) (hf' : f' < m) (h1 : kM co f < kM co f' → P 1 σ) (h0 : ¬ kM co f < kM co f' → P 0 σ) : wpX8_earlier f f' σ P := by
  obtain ⟨-, h44, ht⟩ := h
  obtain ⟨-, s2, -, c⟩ := ht f hf
  obtain ⟨-, s2', -, c'⟩ := ht f' hf'
  have c0 := c 0 (by omega)
  have c1 := c 1 (by omega)
  have d0 := c' 0 (by omega)
  have d1 := c' 1 (by omega)
  unfold wpX8_earlier
  have e0 : (24 * (f : Int)).toNat = 24 * f + 0 := by omega
  have e1 : (24 * (f : Int) + 1).toNat = 24 * f + 1 := by omega
  have g0 : (24 * (f' : Int)).toNat = 24 * f' + 0 := by omega
  have g1 : (24 * (f' : Int) + 1).toNat = 24 * f' + 1 := by omega
  rw [e0, e1, g0, g1, c0.1, c1.1, d0.1, d1.1]
  unfold kM at h1 h0
  rw [Int.toNat_natCast, Int.toNat_natCast] at h1 h0
  refine ⟨⟨by omega, by omega⟩, ⟨by omega, by omega⟩, fun y3 e3 => ⟨⟨by omega, by omega⟩, ⟨by omega, by omega⟩, fun y6 e6 => ⟨inI_sm ⟨by omega, by omega⟩, inI_sm ⟨by omega, by omega⟩, fun z => h0 (by omega), fun z => h1 (by omega)⟩⟩⟩
theorem MTab_36 {r : Nat → Int} (h : MTab σ m sz co) : MTab (strow σ 0 36 0 r) m sz co := by
  obtain ⟨h1, h2, h3⟩ := h
  refine ⟨by rw [strow_ne (fun z => by omega)]; exact h1, h2, fun f hf => ?_⟩
  rw [strow_ne (fun z => by omega), strow_ne (fun z => by omega)]
  exact h3 f hf
def vir (k : Nat) (A : Nat → Int) : Nat → Int := fun j => if k < j then (j : Int) else A j
theorem vir_le {k : Nat} {A : Nat → Int} {j : Nat} (h : j ≤ k) : vir k A j = A j := if_neg (by omega)
theorem vir_gt {k : Nat} {A : Nat → Int} {j : Nat} (h : k < j) : vir k A j = j := if_pos h
theorem f_orderFaces {P : Tab → Prop} (h : MTab σ m sz co) (hdis : ∀ i j : Nat, i < j → j < m → kM co i ≠ kM co j) (hP : ∀ A r : Nat → Int, Srt (kM co) (fun j => (j : Int)) r m → (∀ j, j < m → A j = r j) → P (strow σ 0 36 0 A)) : wpX8_orderFaces σ P := by
  obtain ⟨h1, h44, ht⟩ := id h
  have iM : inI (m : Int) := inI_sm ⟨by omega, by omega⟩
  have o23 : ∀ r, strow σ 0 36 0 r 0 23 0 = σ 0 23 0 := fun r => strow_ne (fun z => by omega)
  have lp : ∀ (q k : Nat) (A r : Nat → Int), m - k = q → k ≤ m → Srt (kM co) (fun j => (j : Int)) r k → (∀ j, j < k → A j = r j) → wlX8_orderFaces_2 P (q + 1) k (strow σ 0 36 0 A) := by
    intro q
    induction q with
    | zero =>
      intro k A r e1 e2 hS hA
      have : k = m := by omega
      subst this
      unfold wlX8_orderFaces_2
      rw [o23, h1]
      exact ⟨iM, iM, fun _ => hP A r hS hA, fun z => by omega⟩
    | succ q ih =>
      intro k A r e1 e2 hS hA
      unfold wlX8_orderFaces_2
      rw [o23, h1]
      refine ⟨inI_sm ⟨by omega, by omega⟩, iM, fun z => by omega, fun _ => ⟨k + 1, ?_⟩⟩
      have rng : ∀ j, j < k → ∃ i : Nat, i < k ∧ r j = (i : Int) := fun j hj => hS.2.1 j hj
      have fin : ∀ (at' : Nat) (A' : Nat → Int), Ins (kM co) (fun j => (j : Int)) r (vir k A') k at' → (0 < at' → ¬ kM co k < kM co (A' (at' - 1))) → wlX8_orderFaces_52 P (fun x1 τ => wlX8_orderFaces_2 P (q + 1) x1 τ) k at' (strow σ 0 36 0 A') := by
        intro at' A' hI hb
        unfold wlX8_orderFaces_52
        have hle := hI.1
        refine ⟨⟨by omega, by omega⟩, fun σ2 e2' => ?_⟩
        rw [e2', Int.toNat_natCast, strow_st, ic]
        refine ih (k + 1) _ _ (by omega) (by omega) (Ins_end hI (fun i hi => hdis i k hi (by omega)) (fun hp => ?_)) (fun j hj => ?_)
        · rw [vir_le (by omega)]; exact hb hp
        · unfold upr
          by_cases e : j = at'
          · rw [if_pos e, if_pos e]
          · rw [if_neg e, if_neg e, vir_le (by omega)]
      have inner : ∀ (at' : Nat) (A' : Nat → Int), Ins (kM co) (fun j => (j : Int)) r (vir k A') k at' → wlX8_orderFaces_12 P (fun x1 τ => wlX8_orderFaces_2 P (q + 1) x1 τ) (at' + 1) k at' (strow σ 0 36 0 A') := by
        intro at'
        induction at' with
        | zero =>
          intro A' hI
          unfold wlX8_orderFaces_12
          exact ⟨⟨by decide, by decide⟩, fun _ => fin 0 A' hI (fun z => absurd z (Nat.lt_irrefl _)), fun z => absurd (by decide) z⟩
        | succ at' iha =>
          intro A' hI
          have hle := hI.1
          have ra : A' at' = r at' := by
            have := hI.2.2.1 at' (by omega)
            rw [vir_le (by omega)] at this
            exact this
          obtain ⟨i, hi, ei⟩ := rng at' (by omega)
          unfold wlX8_orderFaces_12
          have ea : ((at' + 1 : Nat) : Int) - 1 = (at' : Int) := by omega
          have ea2 : ((at' + 1 : Nat) : Int) + (-1) = (at' : Int) := by omega
          rw [ea, ea2, Int.toNat_natCast, Int.toNat_natCast, strow_self, ra, ei]
          refine ⟨inI_sm ⟨by omega, by omega⟩, fun z => by omega, fun _ => ⟨⟨by omega, by omega⟩, ?_⟩⟩
          refine f_earlier (MTab_36 h) (by omega) (by omega) (fun hlt => ?_) (fun hnl => ?_)
          · refine ⟨⟨by decide, by decide⟩, fun z => absurd z (by decide), fun _ => ⟨⟨by omega, by omega⟩, ⟨by omega, by omega⟩, fun σ9 e9 => ?_⟩⟩
            rw [e9, strow_self, strow_st]
            refine iha _ ?_
            have st := Ins_step hI (by rw [vir_le (by omega), ra, ei]; exact hlt)
            have ee : (upr (vir k A') (at' + 1) (vir k A' at')) = vir k (upr A' (at' + 1) (A' at')) := by
              funext j
              rw [vir_le (show at' ≤ k by omega)]
              by_cases e : j = at' + 1
              · rw [vir_le (by omega)]
                unfold upr
                rw [if_pos e, if_pos e]
              · unfold upr
                rw [if_neg e]
                unfold vir
                simp only [if_neg e]
            rw [ee] at st
            exact st
          · refine ⟨⟨by decide, by decide⟩, fun _ => fin (at' + 1) A' hI (fun _ => ?_), fun z => absurd rfl z⟩
            show ¬ kM co k < kM co (A' at')
            rw [ra, ei]
            exact hnl
      refine inner k A ⟨Nat.le_refl _, hS, fun j hj => by rw [vir_le (by omega)]; exact hA j hj, fun j h1 h2 => by omega, fun j hj => vir_gt hj, fun j h1 h2 => by omega⟩
  have := lp _ 0 (σ 0 36 0) (fun j => (j : Int)) rfl (by omega) (Srt_0 _ _) (fun j hj => absurd hj (Nat.not_lt_zero _))
  rw [strow_id] at this
  exact ⟨_, this⟩
/-- the model's faces by their order -/
def OTab (τ : Tab) (m : Nat) (sz : Nat → Nat) (co : Nat → Nat → Nat) : Prop := τ 0 23 0 11 = m ∧ m ≤ 44 ∧ ∀ k, k < m → ∃ f : Nat, τ 0 36 0 k = f ∧ f < m ∧ τ 0 34 0 f = sz k ∧ 2 ≤ sz k ∧ sz k ≤ 24 ∧ ∀ i, i < sz k → τ 0 35 0 (24 * f + i) = co k i ∧ co k i < 24
def fnd (fc : Nat) (sz : Nat → Nat) (co : Nat → Nat → Nat) (a b : Nat) (z : Int) : Prop := ∃ j : Nat, z = j ∧ j < fc ∧ dEj sz co a b j
def foL (fc : Nat) (sz : Nat → Nat) (co : Nat → Nat → Nat) (a b : Nat) (z : Int) : Prop := (∃ j : Nat, z = j ∧ j < fc ∧ dEj sz co a b j) ∨ (z = -1 ∧ ∀ j, j < fc → ¬ dEj sz co a b j)
theorem f_faceFrom {P : Int → Tab → Prop} {a b : Nat} (h : OTab σ m sz co) (ha : a < 24) (hb : b < 24) (hP : ∀ z, foL m sz co a b z → P z σ) : wpX8_faceFrom a b σ P := by
  obtain ⟨h1, h44, ht⟩ := h
  have iM : inI (m : Int) := inI_sm ⟨by omega, by omega⟩
  have lp : ∀ (q k : Nat) (x3 : Int), m - k = q → k ≤ m → (fnd m sz co a b x3 ∨ (x3 = -1 ∧ ∀ j, j < k → ¬ dEj sz co a b j)) → wlX8_faceFrom_5 P (q + 1) a b x3 k σ := by
    intro q
    induction q with
    | zero =>
      intro k x3 e1 e2 e3
      unfold wlX8_faceFrom_5
      rw [h1]
      refine ⟨inI_sm ⟨by omega, by omega⟩, iM, fun _ => hP x3 ?_, fun z => by omega⟩
      rcases e3 with e | ⟨e, w⟩
      · exact Or.inl e
      · exact Or.inr ⟨e, fun j hj => w j (by omega)⟩
    | succ q ih =>
      intro k x3 e1 e2 e3
      obtain ⟨f, f1, f2, f3, f4, f5, f6⟩ := ht k (by omega)
      unfold wlX8_faceFrom_5
      rw [h1, Int.toNat_natCast]
      refine ⟨inI_sm ⟨by omega, by omega⟩, iM, fun z => by omega, fun _ => ⟨⟨by omega, by omega⟩, fun y5 e5 => ⟨sz k + 1, ?_⟩⟩⟩
      rw [e5, f1]
      have inner : ∀ (e i : Nat) (x3 : Int), sz k - i = e → i ≤ sz k → (fnd m sz co a b x3 ∨ (x3 = -1 ∧ (∀ j, j < k → ¬ dEj sz co a b j) ∧ ∀ i', i' < i → ¬ (co k i' = a ∧ co k ((i' + 1) % sz k) = b))) → wlX8_faceFrom_26 P (fun x1 x2 x3 x4 τ => wlX8_faceFrom_5 P (q + 1) x1 x2 x3 x4 τ) (e + 1) a b x3 k f i σ := by
        intro e
        induction e with
        | zero =>
          intro i x3 q1 q2 q3
          have ei : i = sz k := by omega
          unfold wlX8_faceFrom_26
          rw [Int.toNat_natCast, f3]
          refine ⟨⟨by omega, by omega⟩, inI_sm ⟨by omega, by omega⟩, inI_sm ⟨by omega, by omega⟩, fun _ => ?_, fun z => by omega⟩
          rw [ic]
          refine ih (k + 1) x3 (by omega) (by omega) ?_
          rcases q3 with w | ⟨w1, w2, w3⟩
          · exact Or.inl w
          · refine Or.inr ⟨w1, fun j hj => ?_⟩
            by_cases z : j = k
            · subst z
              rintro ⟨i', hi', w⟩
              exact w3 i' (by omega) w
            · exact w2 j (by omega)
        | succ e ihe =>
          intro i x3 q1 q2 q3
          have ci := f6 i (by omega)
          have lt := Nat.mod_lt (i + 1) (show 0 < sz k by omega)
          have cn := f6 _ lt
          have eix : (24 * (f : Int) + (i : Int)).toNat = 24 * f + i := by omega
          have etm : (((i : Int) + 1).tmod ((sz k : Nat) : Int)) = (((i + 1) % sz k : Nat) : Int) := by
            rw [Int.tmod_eq_emod_of_nonneg (by omega), ic, ← Int.natCast_emod]
          have ein : (24 * (f : Int) + (((i + 1) % sz k : Nat) : Int)).toNat = 24 * f + (i + 1) % sz k := by omega
          unfold wlX8_faceFrom_26
          rw [Int.toNat_natCast, f3, eix, ci.1, etm, ein, cn.1]
          have k87 : ∀ y0 : Int, ((y0 = 1 ∧ co k i = a ∧ co k ((i + 1) % sz k) = b) ∨ (y0 = 0 ∧ ¬ (co k i = a ∧ co k ((i + 1) % sz k) = b))) → wlX8_faceFrom_87 P (fun x1 x2 x3 x4 τ => wlX8_faceFrom_5 P (q + 1) x1 x2 x3 x4 τ) (fun x1 x2 x3 x4 x5 x6 τ => wlX8_faceFrom_26 P (fun x1 x2 x3 x4 τ => wlX8_faceFrom_5 P (q + 1) x1 x2 x3 x4 τ) (e + 1) x1 x2 x3 x4 x5 x6 τ) a b x3 k f i y0 σ := by
            intro y0 hy
            unfold wlX8_faceFrom_87
            rw [ic]
            have hy0 : y0 = 0 ∨ y0 = 1 := by
              rcases hy with ⟨z, _⟩ | ⟨z, _⟩
              · exact Or.inr z
              · exact Or.inl z
            refine ⟨inI_f hy0, fun z => ihe (i + 1) x3 (by omega) (by omega) ?_, fun z => ihe (i + 1) k (by omega) (by omega) (Or.inl ⟨k, rfl, by omega, ?_⟩)⟩
            · rcases q3 with w | ⟨w1, w2, w3⟩
              · exact Or.inl w
              · refine Or.inr ⟨w1, w2, fun i' hi' => ?_⟩
                by_cases ee : i' = i
                · subst ee
                  rcases hy with ⟨y1, _⟩ | ⟨_, y2⟩
                  · omega
                  · exact y2
                · exact w3 i' (by omega)
            · rcases hy with ⟨_, y2⟩ | ⟨y1, _⟩
              · exact ⟨i, by omega, y2⟩
              · exact absurd y1 z
          refine ⟨⟨by omega, by omega⟩, inI_sm ⟨by omega, by omega⟩, inI_sm ⟨by omega, by omega⟩, fun z => by omega, fun _ => ⟨⟨by omega, by omega⟩, inI_sm ⟨by omega, by omega⟩, inI_sm ⟨by omega, by omega⟩, fun z => k87 0 (Or.inr ⟨rfl, fun w => z (by rw [w.1])⟩), fun z => ⟨inI_sm ⟨by omega, by omega⟩, by omega, ⟨by omega, by omega⟩, inI_sm ⟨by omega, by omega⟩, inI_sm ⟨by omega, by omega⟩, fun z2 => k87 0 (Or.inr ⟨rfl, fun w => z2 (by rw [w.2])⟩), fun z2 => k87 1 (Or.inl ⟨rfl, ?_, ?_⟩)⟩⟩⟩
          · have := Decidable.of_not_not z; omega
          · have := Decidable.of_not_not z2; omega
      refine inner _ 0 x3 rfl (by omega) ?_
      rcases e3 with w | ⟨w1, w2⟩
      · exact Or.inl w
      · exact Or.inr ⟨w1, w2, fun i' hi' => absurd hi' (Nat.not_lt_zero _)⟩
  exact ⟨_, lp _ 0 (-1) rfl (by omega) (Or.inr ⟨rfl, fun j hj => absurd hj (Nat.not_lt_zero _)⟩)⟩
/-- the tables that findEdges writes -/
def ME (σ : Tab) (ec : Int) (en le ri : Nat → Int) : Tab := fun g' k' i' j' =>
  if g' = 0 ∧ k' = 23 ∧ i' = 0 ∧ j' = 19 then ec else if g' = 0 ∧ k' = 37 ∧ i' = 0 then en j' else if g' = 0 ∧ k' = 38 ∧ i' = 0 then le j' else if g' = 0 ∧ k' = 39 ∧ i' = 0 then ri j' else σ g' k' i' j'
variable {ec : Int} {en le ri : Nat → Int}
theorem ME_0 (σ : Tab) : σ = ME σ (σ 0 23 0 19) (σ 0 37 0) (σ 0 38 0) (σ 0 39 0) := by
  funext g' k' i' j'
  unfold ME
  split
  · rename_i h; obtain ⟨rfl, rfl, rfl, rfl⟩ := h; rfl
  · split
    · rename_i h; obtain ⟨rfl, rfl, rfl⟩ := h; rfl
    · split
      · rename_i h; obtain ⟨rfl, rfl, rfl⟩ := h; rfl
      · split
        · rename_i h; obtain ⟨rfl, rfl, rfl⟩ := h; rfl
        · rfl
theorem ME_ec : ME σ ec en le ri 0 23 0 19 = ec := by simp [ME]
theorem ME_h {j : Nat} (h : j ≠ 19) : ME σ ec en le ri 0 23 0 j = σ 0 23 0 j := by simp [ME, h]
theorem ME_o {k : Nat} (h : k ≠ 23 ∧ k ≠ 37 ∧ k ≠ 38 ∧ k ≠ 39) (g' i' : Nat) : ME σ ec en le ri g' k i' = σ g' k i' := by funext j'; simp [ME, h]
theorem ME_g {g' : Nat} (h : g' ≠ 0) (k' i' : Nat) : ME σ ec en le ri g' k' i' = σ g' k' i' := by funext j'; simp [ME, h]
theorem ME_37 : ME σ ec en le ri 0 37 0 = en := by funext j; simp [ME]
theorem ME_38 : ME σ ec en le ri 0 38 0 = le := by funext j; simp [ME]
theorem ME_39 : ME σ ec en le ri 0 39 0 = ri := by funext j; simp [ME]
theorem ME_sec (x : Int) : st (ME σ ec en le ri) 0 23 0 19 x = ME σ x en le ri := by
  funext g' k' i' j'
  rw [st_app]
  unfold ME
  by_cases h : g' = 0 ∧ k' = 23 ∧ i' = 0 ∧ j' = 19
  · rw [if_pos h, if_pos h]
  · rw [if_neg h, if_neg h, if_neg h]
theorem ME_s37 (j : Nat) (x : Int) : st (ME σ ec en le ri) 0 37 0 j x = ME σ ec (upr en j x) le ri := by
  funext g' k' i' j'
  rw [st_app]
  unfold ME upr
  by_cases h : g' = 0 ∧ k' = 37 ∧ i' = 0
  · obtain ⟨rfl, rfl, rfl⟩ := h
    by_cases e : j' = j <;> simp [e]
  · rw [if_neg (fun z => h ⟨z.1, z.2.1, z.2.2.1⟩), if_neg h, if_neg h]
theorem ME_s38 (j : Nat) (x : Int) : st (ME σ ec en le ri) 0 38 0 j x = ME σ ec en (upr le j x) ri := by
  funext g' k' i' j'
  rw [st_app]
  unfold ME upr
  by_cases h : g' = 0 ∧ k' = 38 ∧ i' = 0
  · obtain ⟨rfl, rfl, rfl⟩ := h
    by_cases e : j' = j <;> simp [e]
  · rw [if_neg (fun z => h ⟨z.1, z.2.1, z.2.2.1⟩), if_neg h, if_neg h]
theorem ME_s39 (j : Nat) (x : Int) : st (ME σ ec en le ri) 0 39 0 j x = ME σ ec en le (upr ri j x) := by
  funext g' k' i' j'
  rw [st_app]
  unfold ME upr
  by_cases h : g' = 0 ∧ k' = 39 ∧ i' = 0
  · obtain ⟨rfl, rfl, rfl⟩ := h
    by_cases e : j' = j <;> simp [e]
  · rw [if_neg (fun z => h ⟨z.1, z.2.1, z.2.2.1⟩), if_neg h, if_neg h]
theorem ME_OTab (h : OTab σ m sz co) : OTab (ME σ ec en le ri) m sz co := by
  obtain ⟨h1, h2, h3⟩ := h
  refine ⟨by rw [ME_h (by decide)]; exact h1, h2, fun k hk => ?_⟩
  rw [ME_o (by decide), ME_o (by decide), ME_o (by decide)]
  exact h3 k hk
/-- the model's edges so far -/
def EM (fc : Nat) (sz : Nat → Nat) (co : Nat → Nat → Nat) (N : Nat) (en le ri : Nat → Int) (m a b : Nat) : Prop :=
  (∀ e, e < m → ∃ x y : Nat, x < y ∧ y < N ∧ (x < a ∨ (x = a ∧ y < b)) ∧ dE fc sz co x y ∧ en e = 32 * x + y ∧ foL fc sz co x y (le e) ∧ foL fc sz co y x (ri e)) ∧
  (∀ e e', e < e' → e' < m → en e < en e') ∧
  (∀ x y : Nat, x < y → y < N → (x < a ∨ (x = a ∧ y < b)) → dE fc sz co x y → ∃ e, e < m ∧ en e = 32 * x + y)
theorem f_findEdges {P : Tab → Prop} {N : Nat} (hN : N ≤ 24) (hheld : σ 0 23 0 7 = N) (h : OTab σ m sz co)
    (hcap : ∀ (K : Nat) (E : Nat → Nat × Nat), (∀ i, i < K → (E i).1 < (E i).2 ∧ dE m sz co (E i).1 (E i).2) → (∀ i j, i < j → j < K → E i ≠ E j) → K ≤ 66)
    (hP : ∀ (k : Nat) (en le ri : Nat → Int), k ≤ 66 → EM m sz co N en le ri k N (N + 1) → P (ME σ k en le ri)) : wpX8_findEdges σ P := by
  have iN : inI (N : Int) := inI_sm ⟨by omega, by omega⟩
  unfold wpX8_findEdges
  intro σ1 e1
  have cap : ∀ (k a b : Nat) (en le ri : Nat → Int), a < b → b < N → dE m sz co a b → EM m sz co N en le ri k a b → k < 66 := by
    intro k a b en le ri hab hbN hd hE
    have := hcap (k + 1) (fun e => if e < k then ((en e).toNat / 32, (en e).toNat % 32) else (a, b)) (fun i hi => by
      by_cases q : i < k
      · rw [if_pos q]
        obtain ⟨x, y, q1, q2, q3, q4, q5, _⟩ := hE.1 i q
        have w1 : (en i).toNat / 32 = x := by omega
        have w2 : (en i).toNat % 32 = y := by omega
        rw [w1, w2]
        exact ⟨q1, q4⟩
      · rw [if_neg q]; exact ⟨hab, hd⟩) (fun i j hij hj e => by
      have qi : i < k := by omega
      rw [if_pos qi] at e
      obtain ⟨x, y, q1, q2, q3, q4, q5, _⟩ := hE.1 i qi
      have w1 : (en i).toNat / 32 = x := by omega
      have w2 : (en i).toNat % 32 = y := by omega
      rw [w1, w2] at e
      by_cases q : j < k
      · rw [if_pos q] at e
        obtain ⟨x', y', p1, p2, p3, p4, p5, _⟩ := hE.1 j q
        have w3 : (en j).toNat / 32 = x' := by omega
        have w4 : (en j).toNat % 32 = y' := by omega
        rw [w3, w4] at e
        have lt := hE.2.1 i j hij q
        have z1 := (Prod.mk.inj e).1
        have z2 := (Prod.mk.inj e).2
        omega
      · rw [if_neg q] at e
        have z1 := (Prod.mk.inj e).1
        have z2 := (Prod.mk.inj e).2
        omega)
    omega
  have lp : ∀ (q a k : Nat) (en le ri : Nat → Int), N - a = q → a ≤ N → k ≤ 66 → EM m sz co N en le ri k a (a + 1) → wlX8_findEdges_7 P (q + 1) a (ME σ k en le ri) := by
    intro q
    induction q with
    | zero =>
      intro a k en le ri e1 e2 e3 e4
      have : a = N := by omega
      subst this
      unfold wlX8_findEdges_7
      rw [ME_h (by decide), hheld]
      exact ⟨iN, iN, fun _ => hP k en le ri e3 e4, fun z => by omega⟩
    | succ q ih =>
      intro a k en le ri e1 e2 e3 e4
      unfold wlX8_findEdges_7
      rw [ME_h (by decide), hheld, ic]
      refine ⟨inI_sm ⟨by omega, by omega⟩, iN, fun z => by omega, fun _ => ⟨N - (a + 1) + 1, ?_⟩⟩
      have inner : ∀ (e b k : Nat) (en le ri : Nat → Int), N - b = e → a < b → b ≤ N → k ≤ 66 → EM m sz co N en le ri k a b → wlX8_findEdges_19 P (fun x1 τ => wlX8_findEdges_7 P (q + 1) x1 τ) (e + 1) a b (ME σ k en le ri) := by
        intro e
        induction e with
        | zero =>
          intro b k en le ri q1 q2 q3 q4 q5
          unfold wlX8_findEdges_19
          rw [ME_h (by decide), hheld]
          refine ⟨inI_sm ⟨by omega, by omega⟩, iN, fun _ => ?_, fun z => by omega⟩
          rw [ic]
          refine ih (a + 1) k en le ri (by omega) (by omega) q4 ⟨fun e he => ?_, q5.2.1, fun x y h1 h2 h3 h4 => q5.2.2 x y h1 h2 (by omega) h4⟩
          obtain ⟨x, y, w1, w2, w3, w⟩ := q5.1 e he
          exact ⟨x, y, w1, w2, by omega, w⟩
        | succ e ihe =>
          intro b k en le ri q1 q2 q3 q4 q5
          unfold wlX8_findEdges_19
          rw [ME_h (by decide), hheld]
          refine ⟨inI_sm ⟨by omega, by omega⟩, iN, fun z => by omega, fun _ => ?_⟩
          refine f_faceFrom (ME_OTab h) (by omega) (by omega) (fun z4 hz4 => ?_)
          rw [ic]
          have iz : inI z4 := by
            rcases hz4 with ⟨j, e, hj, _⟩ | ⟨e, _⟩
            · have := h.2.1; exact inI_sm ⟨by omega, by omega⟩
            · exact inI_sm ⟨by omega, by omega⟩
          refine ⟨iz, fun z => ?_, fun z => ?_⟩
          · have hn : ¬ dE m sz co a b := by
              rcases hz4 with ⟨j, e, hj, _⟩ | ⟨_, w⟩
              · omega
              · rintro ⟨j, hj, w'⟩; exact w j hj w'
            refine ihe (b + 1) k en le ri (by omega) (by omega) (by omega) q4 ⟨fun e he => ?_, q5.2.1, fun x y h1 h2 h3 h4 => ?_⟩
            · obtain ⟨x, y, w1, w2, w3, w⟩ := q5.1 e he
              exact ⟨x, y, w1, w2, by omega, w⟩
            · by_cases ee : x = a ∧ y = b
              · obtain ⟨rfl, rfl⟩ := ee; exact absurd h4 hn
              · exact q5.2.2 x y h1 h2 (by omega) h4
          · have hd : dE m sz co a b := by
              rcases hz4 with ⟨j, e, hj, w⟩ | ⟨e, _⟩
              · exact ⟨j, hj, w⟩
              · omega
            have hk := cap k a b en le ri q2 (by omega) hd q5
            rw [ME_ec, Int.toNat_natCast]
            refine ⟨⟨by omega, by omega⟩, fun σ8 e8 => ?_⟩
            rw [e8, ME_s37, ME_ec, Int.toNat_natCast]
            refine ⟨⟨by omega, by omega⟩, fun σ10 e10 => ?_⟩
            rw [e10, ME_s38]
            refine f_faceFrom (ME_OTab h) (by omega) (by omega) (fun z11 hz11 => ?_)
            rw [ME_ec, Int.toNat_natCast]
            refine ⟨⟨by omega, by omega⟩, fun σ13 e13 σ14 e14 => ?_⟩
            rw [e14, e13, ME_s39, ME_ec, ME_sec, ic]
            refine ihe (b + 1) (k + 1) _ _ _ (by omega) (by omega) (by omega) (by omega) ⟨fun e he => ?_, fun e e' h1 h2 => ?_, fun x y h1 h2 h3 h4 => ?_⟩
            · unfold upr
              by_cases ee : e = k
              · rw [if_pos ee, if_pos ee, if_pos ee]
                exact ⟨a, b, q2, by omega, by omega, hd, rfl, hz4, hz11⟩
              · rw [if_neg ee, if_neg ee, if_neg ee]
                obtain ⟨x, y, w1, w2, w3, w⟩ := q5.1 e (by omega)
                exact ⟨x, y, w1, w2, by omega, w⟩
            · unfold upr
              rw [if_neg (show e ≠ k by omega)]
              by_cases ee : e' = k
              · rw [if_pos ee]
                obtain ⟨x, y, w1, w2, w3, w4, w5, _⟩ := q5.1 e (by omega)
                omega
              · rw [if_neg ee]; exact q5.2.1 e e' h1 (by omega)
            · by_cases ee : x = a ∧ y = b
              · obtain ⟨rfl, rfl⟩ := ee
                exact ⟨k, by omega, by unfold upr; rw [if_pos rfl]⟩
              · obtain ⟨e, he, w⟩ := q5.2.2 x y h1 h2 (by omega) h4
                exact ⟨e, by omega, by unfold upr; rw [if_neg (by omega)]; exact w⟩
      exact inner _ (a + 1) k en le ri rfl (by omega) (by omega) e3 e4
  have := lp _ 0 0 (σ 0 37 0) (σ 0 38 0) (σ 0 39 0) rfl (by omega) (by omega) ⟨fun e he => absurd he (Nat.not_lt_zero _), fun e e' _ he => absurd he (Nat.not_lt_zero _), fun x y h1 h2 h3 _ => by omega⟩
  have es : σ1 = ME σ ((0 : Nat) : Int) (σ 0 37 0) (σ 0 38 0) (σ 0 39 0) := by
    rw [e1]
    have := ME_sec (σ := σ) (ec := σ 0 23 0 19) (en := σ 0 37 0) (le := σ 0 38 0) (ri := σ 0 39 0) 0
    rw [← ME_0] at this
    exact this
  rw [es]
  exact ⟨_, this⟩
end FU

/-! TRIANGLES: the state of a hull in the making; a triangle laid; does an edge stay -/
section FB
def PD (σ : Tab) (g : Nat) : Nat → V3 := fun i => v3 σ g 13 i
def PtsOK (σ : Tab) (g n : Nat) : Prop := n ≤ 24 ∧ (∀ i, i < n → B93 (PD σ g i)) ∧ ∀ i j, i < n → j < n → PD σ g i = PD σ g j → i = j
def tv (σ : Tab) (g k : Nat) : Nat × Nat × Nat := ((σ g 14 k 1).toNat, (σ g 14 k 2).toNat, (σ g 14 k 3).toNat)
def live (σ : Tab) (g k : Nat) : Prop := (k : Int) < σ g 0 0 12 ∧ σ g 14 k 4 = 1
def triT (σ : Tab) (g a b c : Nat) : Prop := ∃ k, live σ g k ∧ rotq (tv σ g k).1 (tv σ g k).2.1 (tv σ g k).2.2 a b c
def corOK (σ : Tab) (g n k : Nat) : Prop := (0 ≤ σ g 14 k 1 ∧ σ g 14 k 1 < n) ∧ (0 ≤ σ g 14 k 2 ∧ σ g 14 k 2 < n) ∧ (0 ≤ σ g 14 k 3 ∧ σ g 14 k 3 < n)
def plOK (σ : Tab) (g k : Nat) (a b c : V3) : Prop := ∃ G : Int, 0 < G ∧ sm G (v3 σ g 15 k) = cr (sb b a) (sb c a) ∧ prim (v3 σ g 15 k) ∧ σ g 15 k 3 = dt (v3 σ g 15 k) a
def slotOK (σ : Tab) (g n k : Nat) : Prop := corOK σ g n k ∧ plOK σ g k (PD σ g (tv σ g k).1) (PD σ g (tv σ g k).2.1) (PD σ g (tv σ g k).2.2)
def flags (σ : Tab) (g : Nat) : Prop := ∀ k : Nat, (k : Int) < σ g 0 0 12 → (σ g 14 k 4 = 0 ∨ σ g 14 k 4 = 1)
def seens (σ : Tab) (g : Nat) : Prop := ∀ k : Nat, (k : Int) < σ g 0 0 12 → (σ g 14 k 5 = 0 ∨ σ g 14 k 5 = 1)
def Tadd (σ τ : Tab) (g k a b c : Nat) : Prop :=
  (τ g 14 k 1 = a ∧ τ g 14 k 2 = b ∧ τ g 14 k 3 = c ∧ τ g 14 k 4 = 1 ∧ τ g 14 k 5 = 0) ∧
  τ g 0 0 12 = (if (k : Int) = σ g 0 0 12 then σ g 0 0 12 + 1 else σ g 0 0 12) ∧ (∀ j, j ≠ 12 → τ g 0 0 j = σ g 0 0 j) ∧
  (∀ g' k' i', ¬ (g' = g ∧ ((k' = 0 ∧ i' = 0) ∨ (k' = 14 ∧ i' = k) ∨ (k' = 15 ∧ i' = k))) → τ g' k' i' = σ g' k' i') ∧ plOK τ g k (PD σ g a) (PD σ g b) (PD σ g c)
theorem inI_f {x : Int} (h : x = 0 ∨ x = 1) : inI x := by rcases h with rfl | rfl <;> exact ⟨by decide, by decide⟩
theorem ic (k : Nat) : (k : Int) + 1 = ((k + 1 : Nat) : Int) := rfl
theorem f_triangle {σ : Tab} {g n a b c : Nat} {P : Tab → Prop} (hp : PtsOK σ g n) (ha : a < n) (hb : b < n) (hc : c < n) (hcr : cr (sb (PD σ g b) (PD σ g a)) (sb (PD σ g c) (PD σ g a)) ≠ (0, 0, 0)) (hm : 0 ≤ σ g 0 0 12 ∧ σ g 0 0 12 ≤ 127) (hf : flags σ g)
    (hP : ∀ (τ : Tab) (k : Nat), (k : Int) ≤ σ g 0 0 12 → (∀ k', k' < k → σ g 14 k' 4 = 1) → ((k : Int) < σ g 0 0 12 → σ g 14 k 4 = 0) → Tadd σ τ g k a b c → P τ) : wpX2_triangle g a b c σ P := by
  obtain ⟨hn, hB, -⟩ := hp
  have iM : inI (σ g 0 0 12) := inI_sm ⟨by omega, by omega⟩
  -- the slot's own writes
  have k50 : ∀ (k : Nat) (σ' : Tab), (k : Int) ≤ 127 → (∀ g' k' i', ¬ (g' = g ∧ k' = 0 ∧ i' = 0) → σ' g' k' i' = σ g' k' i') →
      (∀ τ : Tab, ((τ g 14 k 1 = a ∧ τ g 14 k 2 = b ∧ τ g 14 k 3 = c ∧ τ g 14 k 4 = 1 ∧ τ g 14 k 5 = 0) ∧ (∀ g' k' i', ¬ (g' = g ∧ ((k' = 14 ∧ i' = k) ∨ (k' = 15 ∧ i' = k))) → τ g' k' i' = σ' g' k' i') ∧ plOK τ g k (PD σ g a) (PD σ g b) (PD σ g c)) → P τ) → wlX2_triangle_50 g P a b c k σ' := by
    intro k σ' hk hfr hQ
    unfold wlX2_triangle_50
    refine ⟨⟨by omega, by omega⟩, fun σ2 e2 σ3 e3 σ4 e4 σ5 e5 σ6 e6 => ⟨⟨by omega, by omega⟩, ⟨by omega, by omega⟩, ⟨by omega, by omega⟩, ?_⟩⟩
    rw [Int.toNat_natCast] at e2 e3 e4 e5 e6
    rw [Int.toNat_natCast, Int.toNat_natCast, Int.toNat_natCast, Int.toNat_natCast]
    have fr6 : ∀ g' k' i', ¬ (g' = g ∧ k' = 14 ∧ i' = k) → σ6 g' k' i' = σ' g' k' i' := by
      intro g' k' i' h
      rw [e6, st_ne h, e5, st_ne h, e4, st_ne h, e3, st_ne h, e2, st_ne h]
    have p13 : ∀ i, v3 σ6 g 13 i = PD σ g i := by
      intro i
      unfold v3 PD v3
      rw [fr6 _ _ _ (fun z => by omega), hfr _ _ _ (fun z => by omega)]
    refine f_through (by decide) (by rw [p13]; exact hB _ ha) (by rw [p13]; exact hB _ hb) (by rw [p13]; exact hB _ hc) (fun z => ?_) (fun _ τ kp G hG s1 s2 s3 => ?_)
    · rw [p13, p13, p13] at z
      exact absurd z hcr
    · rw [p13, p13, p13] at s1
      rw [p13] at s3
      apply hQ
      have t14 : τ g 14 k = σ6 g 14 k := kp _ _ _ (fun z => by omega)
      refine ⟨?_, ?_, G, hG, s1, s2, s3⟩
      · rw [t14, e6, e5, e4, e3, e2]
        refine ⟨?_, ?_, ?_, ?_, ?_⟩ <;> simp [st_app]
      · intro g' k' i' h
        rw [kp _ _ _ (fun z => h ⟨z.1, Or.inr z.2⟩), fr6 _ _ _ (fun z => h ⟨z.1, Or.inl z.2⟩)]
  have k31 : ∀ k : Nat, (k : Int) ≤ σ g 0 0 12 → (∀ k', k' < k → σ g 14 k' 4 = 1) → ((k : Int) < σ g 0 0 12 → σ g 14 k 4 = 0) → wlX2_triangle_31 g P a b c k σ := by
    intro k hk h1 h2
    unfold wlX2_triangle_31
    refine ⟨inI_sm ⟨by omega, by omega⟩, iM, fun h => ?_, fun h σ4 e4 => ?_⟩
    · refine k50 k σ (by omega) (fun _ _ _ _ => rfl) (fun τ hτ => hP τ k hk h1 h2 ⟨hτ.1, ?_, ?_, ?_, hτ.2.2⟩)
      · rw [if_neg h, hτ.2.1 _ _ _ (fun z => by omega)]
      · intro j _
        rw [hτ.2.1 _ _ _ (fun z => by omega)]
      · intro g' k' i' hn'
        exact hτ.2.1 _ _ _ (fun z => hn' ⟨z.1, Or.inr z.2⟩)
    · have h : (k : Int) = σ g 0 0 12 := Decidable.of_not_not h
      have fr : ∀ g' k' i', ¬ (g' = g ∧ k' = 0 ∧ i' = 0) → σ4 g' k' i' = σ g' k' i' := fun g' k' i' hn' => by rw [e4, st_ne hn']
      refine k50 k σ4 (by omega) fr (fun τ hτ => hP τ k hk h1 h2 ⟨hτ.1, ?_, ?_, ?_, hτ.2.2⟩)
      · rw [if_pos h, hτ.2.1 _ _ _ (fun z => by omega), e4, st_same]
      · intro j hj
        rw [hτ.2.1 _ _ _ (fun z => by omega), e4, st_j hj]
      · intro g' k' i' hn'
        rw [hτ.2.1 _ _ _ (fun z => hn' ⟨z.1, Or.inr z.2⟩), fr _ _ _ (fun z => hn' ⟨z.1, Or.inl z.2⟩)]
  have lp : ∀ (m k : Nat), (σ g 0 0 12).toNat - k = m → (k : Int) ≤ σ g 0 0 12 → (∀ k', k' < k → σ g 14 k' 4 = 1) → wlX2_triangle_3 g P (m + 1) a b c k σ := by
    intro m
    induction m with
    | zero =>
      intro k h1 h2 h3
      unfold wlX2_triangle_3
      exact ⟨inI_sm ⟨by omega, by omega⟩, iM, fun h => k31 k h2 h3 (fun z => by omega), fun h => by omega⟩
    | succ m ih =>
      intro k h1 h2 h3
      unfold wlX2_triangle_3
      refine ⟨inI_sm ⟨by omega, by omega⟩, iM, fun h => k31 k h2 h3 (fun z => by omega), fun h => ?_⟩
      rw [Int.toNat_natCast]
      have hfk := hf k (by omega)
      refine ⟨⟨by omega, by omega⟩, inI_f hfk, fun z => k31 k h2 h3 (fun _ => z), fun z => ?_⟩
      rw [ic]
      refine ih (k + 1) (by omega) (by omega) (fun k' hk' => ?_)
      by_cases e : k' = k
      · subst e
        rcases hfk with q | q
        · exact absurd q z
        · exact q
      · exact h3 k' (by omega)
  exact ⟨_, lp _ 0 rfl (by omega) (fun k' h => absurd h (Nat.not_lt_zero _))⟩
def staysE (σ : Tab) (g : Nat) (x y : Int) : Prop := ∃ k, live σ g k ∧ σ g 14 k 5 = 0 ∧ tgo σ g k x y
theorem corOK_in {σ : Tab} {g n k : Nat} (hn : n ≤ 24) (h : corOK σ g n k) : inI (σ g 14 k 1) ∧ inI (σ g 14 k 2) ∧ inI (σ g 14 k 3) := by
  obtain ⟨h1, h2, h3⟩ := h
  exact ⟨inI_sm ⟨by omega, by omega⟩, inI_sm ⟨by omega, by omega⟩, inI_sm ⟨by omega, by omega⟩⟩
theorem f_stays {σ : Tab} {g n : Nat} {x y : Int} {P : Int → Tab → Prop} (hn : n ≤ 24) (hm : 0 ≤ σ g 0 0 12 ∧ σ g 0 0 12 ≤ 128) (hf : flags σ g) (hs : seens σ g) (hc : ∀ k, live σ g k → corOK σ g n k) (rx : inI x) (ry : inI y) (h1 : staysE σ g x y → P 1 σ) (h0 : ¬ staysE σ g x y → P 0 σ) : wpX2_stays g x y σ P := by
  have iM : inI (σ g 0 0 12) := inI_sm ⟨by omega, by omega⟩
  have lp : ∀ (m k : Nat), (σ g 0 0 12).toNat - k = m → (∀ k', k' < k → ¬ (live σ g k' ∧ σ g 14 k' 5 = 0 ∧ tgo σ g k' x y)) → (k : Int) ≤ σ g 0 0 12 → wlX2_stays_2 g P (m + 1) x y k σ := by
    intro m
    induction m with
    | zero =>
      intro k h2 h3 h4
      unfold wlX2_stays_2
      refine ⟨inI_sm ⟨by omega, by omega⟩, iM, fun h => h0 ?_, fun h => by omega⟩
      rintro ⟨k', q⟩
      exact h3 k' (by have := q.1.1; omega) q
    | succ m ih =>
      intro k h2 h3 h4
      unfold wlX2_stays_2
      refine ⟨inI_sm ⟨by omega, by omega⟩, iM, fun h => by omega, fun h => ?_⟩
      rw [Int.toNat_natCast, ic]
      have nx : ∀ τ, ¬ (live σ g k ∧ σ g 14 k 5 = 0 ∧ tgo σ g k x y) → τ = σ → wlX2_stays_2 g P (m + 1) x y ((k + 1 : Nat) : Int) τ := by
        intro τ hq e
        rw [e]
        refine ih (k + 1) (by omega) (fun k' hk' => ?_) (by omega)
        by_cases e : k' = k
        · subst e; exact hq
        · exact h3 k' (by omega)
      have hfk := hf k (by omega)
      have hsk := hs k (by omega)
      refine ⟨⟨by omega, by omega⟩, inI_f hfk, fun z => nx _ (fun q => by have := q.1.2; omega) rfl, fun z => ⟨inI_f hsk, fun w => nx _ (fun q => w q.2.1) rfl, fun w => ?_⟩⟩
      have hl : live σ g k := ⟨by omega, by omega⟩
      obtain ⟨i1, i2, i3⟩ := corOK_in hn (hc k hl)
      refine f_goes i1 i2 i3 rx ry (fun q => ?_) (fun q => ?_)
      · refine ⟨⟨by decide, by decide⟩, fun e => by omega, fun _ => h1 ⟨k, hl, Decidable.of_not_not w, q⟩⟩
      · exact ⟨⟨by decide, by decide⟩, fun _ => nx _ (fun z => q z.2.2) rfl, fun e => absurd rfl e⟩
  exact ⟨_, lp _ 0 rfl (fun k' h => absurd h (Nat.not_lt_zero _)) (by omega)⟩
end FB

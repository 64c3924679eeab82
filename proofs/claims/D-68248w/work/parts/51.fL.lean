/-! ORDER: insertion by keys -/
section FL
/-- sorted so far: the first k places -/
def Srt (K : Int → Int) (r0 r : Nat → Int) (k : Nat) : Prop := (∀ j, k ≤ j → r j = r0 j) ∧ (∀ j, j < k → ∃ i, i < k ∧ r j = r0 i) ∧ (∀ i, i < k → ∃ j, j < k ∧ r j = r0 i) ∧ ∀ i j, i < j → j < k → K (r i) < K (r j)
/-- in the midst of an insertion -/
def Ins (K : Int → Int) (r0 q r : Nat → Int) (k at' : Nat) : Prop := at' ≤ k ∧ Srt K r0 q k ∧ (∀ j, j < at' → r j = q j) ∧ (∀ j, at' < j → j ≤ k → r j = q (j - 1)) ∧ (∀ j, k < j → r j = r0 j) ∧ ∀ j, at' ≤ j → j < k → K (r0 k) < K (q j)
theorem Ins_0 {K : Int → Int} {r0 q : Nat → Int} {k : Nat} (h : Srt K r0 q k) : Ins K r0 q q k k := ⟨Nat.le_refl _, h, fun _ _ => rfl, fun j h1 h2 => by omega, fun j hj => h.1 j (by omega), fun j h1 h2 => by omega⟩
theorem Ins_step {K : Int → Int} {r0 q r : Nat → Int} {k at' : Nat} (h : Ins K r0 q r k (at' + 1)) (hb : K (r0 k) < K (r at')) : Ins K r0 q (upr r (at' + 1) (r at')) k at' := by
  obtain ⟨h1, h2, h3, h4, h5, h6⟩ := h
  refine ⟨by omega, h2, fun j hj => ?_, fun j hj hk => ?_, fun j hj => ?_, fun j hj hk => ?_⟩
  · unfold upr; rw [if_neg (by omega)]; exact h3 j (by omega)
  · unfold upr
    by_cases e : j = at' + 1
    · rw [if_pos e, h3 at' (by omega), e]; rfl
    · rw [if_neg e]; exact h4 j (by omega) hk
  · unfold upr; rw [if_neg (by omega)]; exact h5 j hj
  · by_cases e : j = at'
    · rw [e, ← h3 at' (by omega)]; exact hb
    · exact h6 j (by omega) hk
theorem Ins_end {K : Int → Int} {r0 q r : Nat → Int} {k at' : Nat} (h : Ins K r0 q r k at') (hdis : ∀ i, i < k → K (r0 i) ≠ K (r0 k)) (hb : 0 < at' → ¬ K (r0 k) < K (r (at' - 1))) : Srt K r0 (upr r at' (r0 k)) (k + 1) := by
  obtain ⟨h1, ⟨q1, q2, q3, q4⟩, h3, h4, h5, h6⟩ := h
  have val : ∀ j, j ≤ k → upr r at' (r0 k) j = if j < at' then q j else if j = at' then r0 k else q (j - 1) := by
    intro j hj
    unfold upr
    by_cases e : j = at'
    · rw [if_pos e, if_neg (by omega), if_pos e]
    · rw [if_neg e]
      by_cases e2 : j < at'
      · rw [if_pos e2]; exact h3 j e2
      · rw [if_neg e2, if_neg e]; exact h4 j (by omega) hj
  have low : ∀ i, i < at' → K (q i) < K (r0 k) := by
    intro i hi
    have a := hb (by omega)
    rw [h3 (at' - 1) (by omega)] at a
    obtain ⟨x, hx, ex⟩ := q2 (at' - 1) (by omega)
    have ne := hdis x hx
    rw [← ex] at ne
    have b : K (q (at' - 1)) < K (r0 k) := by omega
    by_cases e : i = at' - 1
    · rw [e]; exact b
    · have := q4 i (at' - 1) (by omega) (by omega); omega
  refine ⟨fun j hj => ?_, fun j hj => ?_, fun i hi => ?_, fun i j hij hj => ?_⟩
  · unfold upr
    rw [if_neg (by omega)]
    exact h5 j (by omega)
  · rw [val j (by omega)]
    by_cases e : j < at'
    · rw [if_pos e]
      obtain ⟨x, hx, ex⟩ := q2 j (by omega)
      exact ⟨x, by omega, ex⟩
    · rw [if_neg e]
      by_cases e2 : j = at'
      · rw [if_pos e2]; exact ⟨k, by omega, rfl⟩
      · rw [if_neg e2]
        obtain ⟨x, hx, ex⟩ := q2 (j - 1) (by omega)
        exact ⟨x, by omega, ex⟩
  · by_cases e : i = k
    · subst e
      exact ⟨at', by omega, by rw [val at' h1, if_neg (by omega), if_pos rfl]⟩
    · obtain ⟨j, hj, ej⟩ := q3 i (by omega)
      by_cases e2 : j < at'
      · exact ⟨j, by omega, by rw [val j (by omega), if_pos e2]; exact ej⟩
      · exact ⟨j + 1, by omega, by rw [val (j + 1) (by omega), if_neg (by omega), if_neg (by omega)]; exact ej⟩
  · rw [val i (by omega), val j (by omega)]
    by_cases a : i < at'
    · rw [if_pos a]
      by_cases b : j < at'
      · rw [if_pos b]; exact q4 i j hij (by omega)
      · rw [if_neg b]
        by_cases c : j = at'
        · rw [if_pos c]; exact low i a
        · rw [if_neg c]
          have l1 := low i a
          have l2 := h6 (j - 1) (by omega) (by omega)
          omega
    · rw [if_neg a]
      have b : ¬ j < at' := by omega
      have c : j ≠ at' := by omega
      rw [if_neg b, if_neg c]
      by_cases d : i = at'
      · rw [if_pos d]; exact h6 (j - 1) (by omega) (by omega)
      · rw [if_neg d]; exact q4 (i - 1) (j - 1) (by omega) (by omega)
theorem Srt_1 (K : Int → Int) (r0 : Nat → Int) : Srt K r0 r0 1 := ⟨fun _ _ => rfl, fun j hj => ⟨0, by decide, by rw [show j = 0 by omega]⟩, fun i hi => ⟨0, by decide, by rw [show i = 0 by omega]⟩, fun i j h1 h2 => by omega⟩
theorem Srt_0 (K : Int → Int) (r0 : Nat → Int) : Srt K r0 r0 0 := ⟨fun _ _ => rfl, fun j hj => absurd hj (Nat.not_lt_zero _), fun i hi => absurd hi (Nat.not_lt_zero _), fun i j h1 h2 => by omega⟩
def ky (σ : Tab) (g : Nat) (z : Int) : Int := 32 * σ g 18 z.toNat 0 + σ g 18 z.toNat 1
def C2 (σ : Tab) (g fx : Nat) : Prop := (0 ≤ σ g 18 fx 0 ∧ σ g 18 fx 0 < 24) ∧ (0 ≤ σ g 18 fx 1 ∧ σ g 18 fx 1 < 24)
theorem f_before {σ : Tab} {g a b : Nat} {P : Int → Tab → Prop} (ha : C2 σ g a) (hb : C2 σ g b) (h1 : ky σ g a < ky σ g b → P 1 σ) (h0 : ¬ ky σ g a < ky σ g b → P 0 σ) : wpX6_before g a b σ P := by
  obtain ⟨⟨a1, a2⟩, a3, a4⟩ := ha
  obtain ⟨⟨b1, b2⟩, b3, b4⟩ := hb
  unfold ky at h1 h0
  rw [Int.toNat_natCast, Int.toNat_natCast] at h1 h0
  refine ⟨inI_sm ⟨by omega, by omega⟩, inI_sm ⟨by omega, by omega⟩, fun h => h1 (by omega), fun h => ⟨fun h2 => h0 (by omega), fun h2 => ⟨inI_sm ⟨by omega, by omega⟩, inI_sm ⟨by omega, by omega⟩, fun h3 => h0 ?_, fun h3 => h1 ?_⟩⟩⟩
  · have := Decidable.of_not_not h2; omega
  · have := Decidable.of_not_not h2; omega
theorem strow_st {σ : Tab} {g k i j : Nat} {r : Nat → Int} {v : Int} : st (strow σ g k i r) g k i j v = strow σ g k i (upr r j v) := by
  funext g' k' i' j'
  rw [st_app]
  unfold strow upr
  by_cases q : g' = g ∧ k' = k ∧ i' = i
  · obtain ⟨rfl, rfl, rfl⟩ := q
    by_cases q2 : j' = j <;> simp [q2]
  · rw [if_neg (fun z => q ⟨z.1, z.2.1, z.2.2.1⟩), if_neg q, if_neg q]
theorem strow_id (σ : Tab) (g k i : Nat) : strow σ g k i (σ g k i) = σ := by
  funext g' k' i'
  unfold strow
  split
  · rename_i h; obtain ⟨rfl, rfl, rfl⟩ := h; rfl
  · rfl
theorem f_order {σ : Tab} {g fc : Nat} {P : Tab → Prop} (hfc : σ g 0 0 13 = fc) (h1 : 1 ≤ fc) (h44 : fc ≤ 44) (hFP : FP σ g) (hC : ∀ j, j < fc → C2 σ g (fxs σ g j)) (hdis : ∀ i j, i < j → j < fc → ky σ g (σ g 3 0 i) ≠ ky σ g (σ g 3 0 j))
    (hP : ∀ r, Srt (ky σ g) (σ g 3 0) r fc → P (strow σ g 3 0 r)) : wpX2_order g σ P := by
  have iF : inI (fc : Int) := inI_sm ⟨by omega, by omega⟩
  have o0 : ∀ r, strow σ g 3 0 r g 0 0 = σ g 0 0 := fun r => strow_ne (fun z => by omega)
  have o18 : ∀ r i, strow σ g 3 0 r g 18 i = σ g 18 i := fun r i => strow_ne (fun z => by omega)
  have kyo : ∀ r z, ky (strow σ g 3 0 r) g z = ky σ g z := fun r z => by unfold ky; rw [o18]
  have rng : ∀ r k, k ≤ fc → Srt (ky σ g) (σ g 3 0) r k → ∀ j, j < 44 → 0 ≤ r j ∧ r j < 44 := by
    intro r k hk h j hj
    by_cases e : j < k
    · obtain ⟨i, hi, ei⟩ := h.2.1 j e
      rw [ei]; exact hFP.1 i (by omega)
    · rw [h.1 j (by omega)]; exact hFP.1 j hj
  have lp : ∀ (d k : Nat) (r : Nat → Int), fc - k = d → 1 ≤ k → k ≤ fc → Srt (ky σ g) (σ g 3 0) r k → wlX2_order_2 g P (d + 1) k (strow σ g 3 0 r) := by
    intro d
    induction d with
    | zero =>
      intro k r e1 e2 e3 hS
      have : k = fc := by omega
      subst this
      unfold wlX2_order_2
      rw [o0, hfc]
      exact ⟨iF, iF, fun _ => hP r hS, fun z => by omega⟩
    | succ d ih =>
      intro k r e1 e2 e3 hS
      unfold wlX2_order_2
      rw [o0, hfc, Int.toNat_natCast, strow_self]
      have rk : r k = σ g 3 0 k := hS.1 k (Nat.le_refl _)
      have bk := hFP.1 k (by omega)
      refine ⟨inI_sm ⟨by omega, by omega⟩, iF, fun z => by omega, fun _ => ⟨⟨by omega, by omega⟩, by rw [rk]; exact bk, k + 1, ?_⟩⟩
      rw [rk]
      have efx : ((fxs σ g k : Nat) : Int) = σ g 3 0 k := by unfold fxs; omega
      -- ends of the inner loop
      have fin : ∀ (at' : Nat) (r' : Nat → Int), Ins (ky σ g) (σ g 3 0) r r' k at' → (0 < at' → ¬ ky σ g (σ g 3 0 k) < ky σ g (r' (at' - 1))) → wlX2_order_58 g P (fun x1 τ => wlX2_order_2 g P (d + 1) x1 τ) k (σ g 3 0 k).toNat at' (strow σ g 3 0 r') := by
        intro at' r' hI hb
        unfold wlX2_order_58
        have := hI.1
        refine ⟨⟨by omega, by omega⟩, fun σ2 e2' => ?_⟩
        rw [e2', Int.toNat_natCast, strow_st, ic]
        have e : (((σ g 3 0 k).toNat : Nat) : Int) = σ g 3 0 k := by omega
        rw [e]
        exact ih (k + 1) _ (by omega) (by omega) (by omega) (Ins_end hI (fun i hi => hdis i k hi (by omega)) hb)
      have inner : ∀ (at' : Nat) (r' : Nat → Int), Ins (ky σ g) (σ g 3 0) r r' k at' → wlX2_order_19 g P (fun x1 τ => wlX2_order_2 g P (d + 1) x1 τ) (at' + 1) k (σ g 3 0 k).toNat at' (strow σ g 3 0 r') := by
        intro at'
        induction at' with
        | zero =>
          intro r' hI
          unfold wlX2_order_19
          exact ⟨⟨by decide, by decide⟩, fun _ => fin 0 r' hI (fun z => absurd z (Nat.lt_irrefl _)), fun z => absurd (by decide) z⟩
        | succ at' iha =>
          intro r' hI
          have hle := hI.1
          unfold wlX2_order_19
          have ea : ((at' + 1 : Nat) : Int) - 1 = (at' : Int) := by omega
          have ea2 : ((at' + 1 : Nat) : Int) + (-1) = (at' : Int) := by omega
          rw [ea, ea2, Int.toNat_natCast, Int.toNat_natCast, strow_self]
          have ra : r' at' = r at' := hI.2.2.1 at' (by omega)
          have ba := rng r k (by omega) hS at' (by omega)
          obtain ⟨x, hx, ex⟩ := hS.2.1 at' (by omega)
          have eR : ((r' at').toNat : Int) = r' at' := by rw [ra]; omega
          have CR : C2 (strow σ g 3 0 r') g (r' at').toNat := by
            unfold C2; rw [o18, ra, ex]; exact hC x (by omega)
          have CK : C2 (strow σ g 3 0 r') g (σ g 3 0 k).toNat := by
            unfold C2; rw [o18]; exact hC k (by omega)
          refine ⟨inI_sm ⟨by omega, by omega⟩, fun z => by omega, fun _ => ⟨⟨by omega, by omega⟩, by rw [ra]; exact ba, ?_⟩⟩
          refine f_before CK CR (fun hlt => ?_) (fun hnl => ?_)
          · refine ⟨⟨by decide, by decide⟩, fun z => absurd z (by decide), fun _ => ⟨⟨by omega, by omega⟩, by rw [strow_self, ra]; exact ba, ⟨by omega, by omega⟩, fun σ11 e11 => ?_⟩⟩
            rw [e11, strow_self, strow_st]
            refine iha _ (Ins_step hI ?_)
            rw [kyo, kyo] at hlt
            rw [show (((σ g 3 0 k).toNat : Nat) : Int) = σ g 3 0 k by omega, eR] at hlt
            exact hlt
          · refine ⟨⟨by decide, by decide⟩, fun _ => fin (at' + 1) r' hI (fun _ => ?_), fun z => absurd rfl z⟩
            rw [kyo, kyo] at hnl
            rw [show (((σ g 3 0 k).toNat : Nat) : Int) = σ g 3 0 k by omega, eR] at hnl
            exact hnl
      exact inner k r (Ins_0 hS)
  have := lp _ 1 (σ g 3 0) rfl (by decide) h1 (Srt_1 _ _)
  rw [strow_id] at this
  exact ⟨_, this⟩
end FL

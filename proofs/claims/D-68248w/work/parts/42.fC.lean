/-! ADD: the state, and lemmas of it -/
section FC
def TI (σ : Tab) (g n : Nat) (S : Nat → Prop) : Prop := (0 ≤ σ g 0 0 12 ∧ σ g 0 0 12 ≤ 44) ∧ flags σ g ∧ seens σ g ∧ (∀ k, live σ g k → slotOK σ g n k) ∧ (∀ k k', live σ g k → live σ g k' → k ≠ k' → ¬ rot3 (tv σ g k) (tv σ g k')) ∧ Hul (PD σ g) n S (triT σ g)
/-- a table with the flags of the triangles, next and spare exchanged -/
def ADD (σ : Tab) (g : Nat) (l s nx sp : Nat → Int) : Tab := fun g' k' i' j' =>
  if g' = g ∧ k' = 14 ∧ j' = 4 then l i' else if g' = g ∧ k' = 14 ∧ j' = 5 then s i' else if g' = g ∧ k' = 5 ∧ i' = 0 then nx j' else if g' = g ∧ k' = 6 ∧ i' = 0 then sp j' else σ g' k' i' j'
theorem ADD_0 (σ : Tab) (g : Nat) : σ = ADD σ g (fun i => σ g 14 i 4) (fun i => σ g 14 i 5) (σ g 5 0) (σ g 6 0) := by
  funext g' k' i' j'
  unfold ADD
  split
  · rename_i h; obtain ⟨rfl, rfl, rfl⟩ := h; rfl
  · split
    · rename_i h; obtain ⟨rfl, rfl, rfl⟩ := h; rfl
    · split
      · rename_i h; obtain ⟨rfl, rfl, rfl⟩ := h; rfl
      · split
        · rename_i h; obtain ⟨rfl, rfl, rfl⟩ := h; rfl
        · rfl
variable {σ : Tab} {g : Nat} {l s nx sp : Nat → Int}
theorem ADD_st4 (i : Nat) (v : Int) : st (ADD σ g l s nx sp) g 14 i 4 v = ADD σ g (upr l i v) s nx sp := by
  funext g' k' i' j'
  rw [st_app]
  unfold ADD upr
  by_cases h : g' = g ∧ k' = 14 ∧ j' = 4
  · obtain ⟨rfl, rfl, rfl⟩ := h
    by_cases e : i' = i <;> simp [e]
  · rw [if_neg (fun z => h ⟨z.1, z.2.1, z.2.2.2⟩), if_neg h, if_neg h]
theorem ADD_st5 (i : Nat) (v : Int) : st (ADD σ g l s nx sp) g 14 i 5 v = ADD σ g l (upr s i v) nx sp := by
  funext g' k' i' j'
  rw [st_app]
  unfold ADD upr
  by_cases h : g' = g ∧ k' = 14 ∧ j' = 5
  · obtain ⟨rfl, rfl, rfl⟩ := h
    by_cases e : i' = i <;> simp [e]
  · rw [if_neg (fun z => h ⟨z.1, z.2.1, z.2.2.2⟩), if_neg h, if_neg h]
theorem ADD_stn (j : Nat) (v : Int) : st (ADD σ g l s nx sp) g 5 0 j v = ADD σ g l s (upr nx j v) sp := by
  funext g' k' i' j'
  rw [st_app]
  unfold ADD upr
  by_cases h : g' = g ∧ k' = 5 ∧ i' = 0
  · obtain ⟨rfl, rfl, rfl⟩ := h
    by_cases e : j' = j <;> simp [e]
  · rw [if_neg (fun z => h ⟨z.1, z.2.1, z.2.2.1⟩), if_neg h, if_neg h]
theorem ADD_sts (j : Nat) (v : Int) : st (ADD σ g l s nx sp) g 6 0 j v = ADD σ g l s nx (upr sp j v) := by
  funext g' k' i' j'
  rw [st_app]
  unfold ADD upr
  by_cases h : g' = g ∧ k' = 6 ∧ i' = 0
  · obtain ⟨rfl, rfl, rfl⟩ := h
    by_cases e : j' = j <;> simp [e]
  · rw [if_neg (fun z => h ⟨z.1, z.2.1, z.2.2.1⟩), if_neg h, if_neg h]
theorem ADD_l (i : Nat) : ADD σ g l s nx sp g 14 i 4 = l i := by simp [ADD]
theorem ADD_s (i : Nat) : ADD σ g l s nx sp g 14 i 5 = s i := by simp [ADD]
theorem ADD_n (j : Nat) : ADD σ g l s nx sp g 5 0 j = nx j := by simp [ADD]
theorem ADD_p (j : Nat) : ADD σ g l s nx sp g 6 0 j = sp j := by simp [ADD]
theorem ADD_h (j : Nat) : ADD σ g l s nx sp g 0 0 j = σ g 0 0 j := by simp [ADD]
theorem ADD_c (i : Nat) {j : Nat} (h : j ≠ 4 ∧ j ≠ 5) : ADD σ g l s nx sp g 14 i j = σ g 14 i j := by simp [ADD, h]
theorem ADD_15 (i j : Nat) : ADD σ g l s nx sp g 15 i j = σ g 15 i j := by simp [ADD]
theorem ADD_13 (i j : Nat) : ADD σ g l s nx sp g 13 i j = σ g 13 i j := by simp [ADD]
theorem ADD_PD : PD (ADD σ g l s nx sp) g = PD σ g := by funext i; simp [PD, v3, ADD]
theorem ADD_tv (k : Nat) : tv (ADD σ g l s nx sp) g k = tv σ g k := by simp [tv, ADD]
theorem ADD_v15 (k : Nat) : v3 (ADD σ g l s nx sp) g 15 k = v3 σ g 15 k := by simp [v3, ADD]
theorem ADD_cor (n k : Nat) : corOK (ADD σ g l s nx sp) g n k ↔ corOK σ g n k := by simp [corOK, ADD]
theorem ADD_slot (n k : Nat) : slotOK (ADD σ g l s nx sp) g n k ↔ slotOK σ g n k := by
  unfold slotOK plOK
  rw [ADD_cor, ADD_PD, ADD_tv, ADD_v15, ADD_15]
theorem ADD_live (k : Nat) : live (ADD σ g l s nx sp) g k ↔ (k : Int) < σ g 0 0 12 ∧ l k = 1 := by
  unfold live
  rw [ADD_h, ADD_l]
theorem ADD_other {g' k' i' : Nat} (h : ¬ (g' = g ∧ (k' = 14 ∨ (k' = 5 ∧ i' = 0) ∨ (k' = 6 ∧ i' = 0)))) : ADD σ g l s nx sp g' k' i' = σ g' k' i' := by
  funext j'
  unfold ADD
  rw [if_neg (fun z => h ⟨z.1, Or.inl z.2.1⟩), if_neg (fun z => h ⟨z.1, Or.inl z.2.1⟩), if_neg (fun z => h ⟨z.1, Or.inr (Or.inl z.2)⟩), if_neg (fun z => h ⟨z.1, Or.inr (Or.inr z.2)⟩)]
/-- corners of a triangle by number -/
def cv (σ : Tab) (g k i : Nat) : Nat := (σ g 14 k (1 + i % 3)).toNat
theorem cv_tri {k : Nat} (h : live σ g k) (i : Nat) : triT σ g (cv σ g k i) (cv σ g k (i + 1)) (cv σ g k (i + 2)) := by
  have e : i % 3 = 0 ∨ i % 3 = 1 ∨ i % 3 = 2 := by omega
  unfold cv
  refine ⟨k, h, ?_⟩
  rcases e with e | e | e
  · rw [e, show (i + 1) % 3 = 1 by omega, show (i + 2) % 3 = 2 by omega]
    exact Or.inl ⟨rfl, rfl, rfl⟩
  · rw [e, show (i + 1) % 3 = 2 by omega, show (i + 2) % 3 = 0 by omega]
    exact Or.inr (Or.inl ⟨rfl, rfl, rfl⟩)
  · rw [e, show (i + 1) % 3 = 0 by omega, show (i + 2) % 3 = 1 by omega]
    exact Or.inr (Or.inr ⟨rfl, rfl, rfl⟩)
theorem tri_cv {a b c : Nat} (h : triT σ g a b c) : ∃ k i, live σ g k ∧ i < 3 ∧ a = cv σ g k i ∧ b = cv σ g k (i + 1) ∧ c = cv σ g k (i + 2) := by
  obtain ⟨k, hl, hr⟩ := h
  rcases hr with ⟨h1, h2, h3⟩ | ⟨h1, h2, h3⟩ | ⟨h1, h2, h3⟩
  · exact ⟨k, 0, hl, by decide, h1.symm, h2.symm, h3.symm⟩
  · exact ⟨k, 1, hl, by decide, h1.symm, h2.symm, h3.symm⟩
  · exact ⟨k, 2, hl, by decide, h1.symm, h2.symm, h3.symm⟩
theorem cv_VV (P : Nat → V3) (k i q : Nat) : VV P (cv σ g k i) (cv σ g k (i + 1)) (cv σ g k (i + 2)) q = VV P (tv σ g k).1 (tv σ g k).2.1 (tv σ g k).2.2 q := by
  have e : i % 3 = 0 ∨ i % 3 = 1 ∨ i % 3 = 2 := by omega
  unfold cv
  rcases e with e | e | e
  · rw [e, show (i + 1) % 3 = 1 by omega, show (i + 2) % 3 = 2 by omega]; rfl
  · rw [e, show (i + 1) % 3 = 2 by omega, show (i + 2) % 3 = 0 by omega]; exact VV_rot _ _ _ _ _
  · rw [e, show (i + 1) % 3 = 0 by omega, show (i + 2) % 3 = 1 by omega]; exact (VV_rot _ _ _ _ _).symm
/-- a directed edge names its place -/
theorem TI.edge {n : Nat} {S : Nat → Prop} (h : TI σ g n S) {k k' i i' : Nat} (hk : live σ g k) (hk' : live σ g k') (hi : i < 3) (hi' : i' < 3) (e1 : cv σ g k i = cv σ g k' i') (e2 : cv σ g k (i + 1) = cv σ g k' (i' + 1)) : k = k' ∧ i = i' := by
  obtain ⟨-, -, -, -, hd, H⟩ := h
  have t1 := cv_tri hk i
  have t2 := cv_tri hk' i'
  rw [← e1, ← e2] at t2
  have e3 := H.uniq t1 t2
  have ek : k = k' := by
    by_cases q : k = k'
    · exact q
    · exfalso
      refine hd k k' hk hk' q ?_
      have c1 : i = 0 ∨ i = 1 ∨ i = 2 := by omega
      have c2 : i' = 0 ∨ i' = 1 ∨ i' = 2 := by omega
      unfold rot3 tv
      simp only [Prod.mk.injEq]
      unfold cv at e1 e2 e3
      rcases c1 with rfl | rfl | rfl <;> rcases c2 with rfl | rfl | rfl <;> simp at e1 e2 e3 <;> omega
  refine ⟨ek, ?_⟩
  subst ek
  by_cases q : i = i'
  · exact q
  · exfalso
    have n1 := H.ne (cv_tri hk 0)
    have n2 := H.ne (cv_tri hk 1)
    have n3 := H.ne (cv_tri hk 2)
    have c1 : i = 0 ∨ i = 1 ∨ i = 2 := by omega
    have c2 : i' = 0 ∨ i' = 1 ∨ i' = 2 := by omega
    unfold cv at e1 n1 n2 n3
    rcases c1 with rfl | rfl | rfl <;> rcases c2 with rfl | rfl | rfl <;> simp at e1 n1 n2 n3 q <;> omega
/-- above a triangle's plane, as the volume says -/
theorem plOK_sign {k : Nat} {a b c : Nat} {P : Nat → V3} (h : plOK σ g k (P a) (P b) (P c)) (q : Nat) : (0 ≤ dt (v3 σ g 15 k) (P q) - σ g 15 k 3 ↔ 0 ≤ VV P a b c q) ∧ (0 < dt (v3 σ g 15 k) (P q) - σ g 15 k 3 ↔ 0 < VV P a b c q) := by
  obtain ⟨G, hG, h1, -, h3⟩ := h
  have e : VV P a b c q = G * (dt (v3 σ g 15 k) (P q) - σ g 15 k 3) := by
    rw [h3, ← dt_sb, ← sm_dt, h1]
    rfl
  rw [e]
  refine ⟨⟨fun z => Int.mul_nonneg (Int.le_of_lt hG) z, fun z => nonneg_of_mul hG z⟩, ⟨fun z => Int.mul_pos hG z, fun z => pos_of_mul hG z⟩⟩
theorem plOK_bd {k : Nat} {a b c : V3} (ha : B93 a) (hb : B93 b) (hc : B93 c) (h : plOK σ g k a b c) : (-2097152 ≤ σ g 15 k 0 ∧ σ g 15 k 0 ≤ 2097152) ∧ (-2097152 ≤ σ g 15 k 1 ∧ σ g 15 k 1 ≤ 2097152) ∧ (-2097152 ≤ σ g 15 k 2 ∧ σ g 15 k 2 ≤ 2097152) ∧ (-3221225472 ≤ σ g 15 k 3 ∧ σ g 15 k 3 ≤ 3221225472) := by
  obtain ⟨G, hG, h1, -, h3⟩ := h
  obtain ⟨⟨a1, a2⟩, ⟨a3, a4⟩, a5, a6⟩ := ha
  obtain ⟨⟨b1, b2⟩, ⟨b3, b4⟩, b5, b6⟩ := hb
  obtain ⟨⟨c1, c2⟩, ⟨c3, c4⟩, c5, c6⟩ := hc
  simp only [sm, cr, sb, v3, Prod.mk.injEq] at h1
  obtain ⟨e1, e2, e3⟩ := h1
  have key : ∀ x m : Int, G * x = m → -2097152 ≤ m ∧ m ≤ 2097152 → -2097152 ≤ x ∧ x ≤ 2097152 := by
    intro x m e hm
    constructor
    · rcases Int.lt_or_le x (-2097152) with q | q
      · have : G * x ≤ 1 * x := Int.mul_le_mul_of_nonpos_right (by omega) (by omega)
        omega
      · exact q
    · rcases Int.lt_or_le 2097152 x with q | q
      · have : 1 * x ≤ G * x := Int.mul_le_mul_of_nonneg_right (by omega) (by omega)
        omega
      · exact q
  have m1 := mul_bd (a := 1024) (b := 1024) (x := b.2.1 - a.2.1) (y := c.2.2 - a.2.2) (by omega) (by omega) (by decide)
  have m2 := mul_bd (a := 1024) (b := 1024) (x := b.2.2 - a.2.2) (y := c.2.1 - a.2.1) (by omega) (by omega) (by decide)
  have m3 := mul_bd (a := 1024) (b := 1024) (x := b.2.2 - a.2.2) (y := c.1 - a.1) (by omega) (by omega) (by decide)
  have m4 := mul_bd (a := 1024) (b := 1024) (x := b.1 - a.1) (y := c.2.2 - a.2.2) (by omega) (by omega) (by decide)
  have m5 := mul_bd (a := 1024) (b := 1024) (x := b.1 - a.1) (y := c.2.1 - a.2.1) (by omega) (by omega) (by decide)
  have m6 := mul_bd (a := 1024) (b := 1024) (x := b.2.1 - a.2.1) (y := c.1 - a.1) (by omega) (by omega) (by decide)
  have x1 := key _ _ e1 (by omega)
  have x2 := key _ _ e2 (by omega)
  have x3 := key _ _ e3 (by omega)
  refine ⟨x1, x2, x3, ?_⟩
  rw [h3]
  simp only [dt, v3]
  have t1 := mul_bd (a := 2097152) (b := 512) x1 (y := a.1) (by omega) (by decide)
  have t2 := mul_bd (a := 2097152) (b := 512) x2 (y := a.2.1) (by omega) (by decide)
  have t3 := mul_bd (a := 2097152) (b := 512) x3 (y := a.2.2) (by omega) (by decide)
  omega
end FC

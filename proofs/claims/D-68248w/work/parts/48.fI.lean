/-! UNITE: planes of triangles, the rim of a face -/
section FI
variable {σ : Tab} {g n : Nat} {S : Nat → Prop}
theorem slot_fac (hT : TI σ g n S) {k : Nat} (hl : live σ g k) : Fac (PD σ g) S (v3 σ g 15 k) (σ g 15 k 3) ∧ prim (v3 σ g 15 k) ∧ ∀ i, dt (v3 σ g 15 k) (PD σ g (cv σ g k i)) = σ g 15 k 3 := by
  obtain ⟨-, -, -, hs, -, H⟩ := hT
  obtain ⟨-, G, g1, g2, g3, g4⟩ := hs k hl
  obtain ⟨f1, f2, f3⟩ := H.fac_tri (tv_live hl) g1 g2
  rw [← g4] at f1 f2 f3
  refine ⟨f1, g3, fun i => ?_⟩
  have e : i % 3 = 0 ∨ i % 3 = 1 ∨ i % 3 = 2 := by omega
  unfold cv
  rcases e with e | e | e <;> rw [e]
  · exact g4.symm
  · exact f2
  · exact f3
theorem slot_same (hT : TI σ g n S) {k k' : Nat} (hl : live σ g k) (hl' : live σ g k') (h : ∀ i, i < 3 → dt (v3 σ g 15 k) (PD σ g (cv σ g k' i)) = σ g 15 k 3) : psame σ g 15 k' g 15 k := by
  obtain ⟨f1, f2, f3⟩ := slot_fac hT hl
  obtain ⟨f1', f2', f3'⟩ := slot_fac hT hl'
  have H := hT.2.2.2.2.2
  obtain ⟨e1, e2⟩ := H.fac_eq f1' f1 f2' f2 (cv_tri hl' 0) (f3' 0) (f3' 1) (f3' 2) (h 0 (by decide)) (h 1 (by decide)) (h 2 (by decide))
  unfold v3 at e1
  simp only [Prod.mk.injEq] at e1
  exact ⟨e1.1, e1.2.1, e1.2.2, e2⟩
theorem psame_v3 {τ : Tab} {g k i g' k' i' : Nat} (h : psame τ g k i g' k' i') : v3 τ g k i = v3 τ g' k' i' ∧ τ g k i 3 = τ g' k' i' 3 := by
  obtain ⟨h1, h2, h3, h4⟩ := h
  refine ⟨?_, h4⟩
  unfold v3
  rw [h1, h2, h3]
/-- what the unite loop has found: tails of rim edges, with their heads in nx -/
def Ru (σ : Tab) (g n k0 : Nat) (nx : Nat → Int) (gs : Nat → Nat) (m k i : Nat) : Prop :=
  (∀ j, j < m → ∃ k1 i1, (k1 < k ∨ (k1 = k ∧ i1 < i)) ∧ i1 < 3 ∧ live σ g k1 ∧ psame σ g 15 k1 g 15 k0 ∧ gs j = cv σ g k1 i1 ∧ nx (cv σ g k1 i1) = (cv σ g k1 (i1 + 1) : Int) ∧ goOn (PD σ g) (fun q => q < n) (v3 σ g 15 k0) (σ g 15 k0 3) (cv σ g k1 i1) (cv σ g k1 (i1 + 1))) ∧
  (∀ j j', j < j' → j' < m → gs j ≠ gs j') ∧
  (∀ k1 i1, (k1 < k ∨ (k1 = k ∧ i1 < i)) → k0 ≤ k1 → i1 < 3 → live σ g k1 → psame σ g 15 k1 g 15 k0 → ¬ (∃ k2, live σ g k2 ∧ psame σ g 15 k2 g 15 k0 ∧ tgo σ g k2 (cv σ g k1 (i1 + 1) : Int) (cv σ g k1 i1 : Int)) → ∃ j, j < m ∧ gs j = cv σ g k1 i1)
theorem Ru_0 (σ : Tab) (g n k0 : Nat) (nx : Nat → Int) (gs : Nat → Nat) : Ru σ g n k0 nx gs 0 k0 0 :=
  ⟨fun j h => absurd h (Nat.not_lt_zero _), fun j j' _ h => absurd h (Nat.not_lt_zero _), fun k1 i1 h h2 _ _ _ => by omega⟩
theorem Ru_row {k0 m k : Nat} {nx : Nat → Int} {gs : Nat → Nat} (h : Ru σ g n k0 nx gs m k 3) : Ru σ g n k0 nx gs m (k + 1) 0 := by
  refine ⟨fun j hj => ?_, h.2.1, fun k1 i1 hb h0 hi hl hp hr => h.2.2 k1 i1 (by omega) h0 hi hl hp hr⟩
  obtain ⟨k', i', hb, q⟩ := h.1 j hj
  exact ⟨k', i', by omega, q⟩
theorem Ru_no {k0 m k i : Nat} {nx : Nat → Int} {gs : Nat → Nat} (h : Ru σ g n k0 nx gs m k i) (hr : live σ g k → i < 3 → psame σ g 15 k g 15 k0 → ∃ k2, live σ g k2 ∧ psame σ g 15 k2 g 15 k0 ∧ tgo σ g k2 (cv σ g k (i + 1) : Int) (cv σ g k i : Int)) : Ru σ g n k0 nx gs m k (i + 1) := by
  refine ⟨fun j hj => ?_, h.2.1, fun k' i' hb h0 hi hl hp hq => ?_⟩
  · obtain ⟨k', i', hb, q⟩ := h.1 j hj
    exact ⟨k', i', by omega, q⟩
  · by_cases e : k' = k ∧ i' = i
    · obtain ⟨rfl, rfl⟩ := e
      exact absurd (hr hl hi hp) hq
    · exact h.2.2 k' i' (by omega) h0 hi hl hp hq
theorem Ru_skip {k0 m k i : Nat} {nx : Nat → Int} {gs : Nat → Nat} (h : Ru σ g n k0 nx gs m k i) (hi : i ≤ 3) (hr : live σ g k → ¬ psame σ g 15 k g 15 k0) : Ru σ g n k0 nx gs m (k + 1) 0 := by
  have key : ∀ d i, 3 - i = d → i ≤ 3 → Ru σ g n k0 nx gs m k i → Ru σ g n k0 nx gs m (k + 1) 0 := by
    intro d
    induction d with
    | zero =>
      intro i h1 h2 h3
      have : i = 3 := by omega
      subst this
      exact Ru_row h3
    | succ d ih =>
      intro i h1 h2 h3
      exact ih (i + 1) (by omega) (by omega) (Ru_no h3 (fun hl _ hp => absurd hp (hr hl)))
  exact key _ i rfl hi h
theorem Ru_new (hT : TI σ g n (fun q => q < n)) (hn : n ≤ 24) {k0 m k i : Nat} {nx : Nat → Int} {gs : Nat → Nat} (h : Ru σ g n k0 nx gs m k i) (hl0 : live σ g k0) (hl : live σ g k) (hi : i < 3) (hp : psame σ g 15 k g 15 k0) (hr : ¬ ∃ k2, live σ g k2 ∧ psame σ g 15 k2 g 15 k0 ∧ tgo σ g k2 (cv σ g k (i + 1) : Int) (cv σ g k i : Int)) :
    Ru σ g n k0 (upr nx (cv σ g k i) (cv σ g k (i + 1))) (fun j => if j = m then cv σ g k i else gs j) (m + 1) k (i + 1) := by
  have hs := hT.2.2.2.1
  have H := hT.2.2.2.2.2
  obtain ⟨f1, f2, f3⟩ := slot_fac hT hl0
  obtain ⟨e1, e2⟩ := psame_v3 hp
  have fk := (slot_fac hT hl).2.2
  rw [e1, e2] at fk
  -- it is a rim edge
  have hg : goOn (PD σ g) (fun q => q < n) (v3 σ g 15 k0) (σ g 15 k0 3) (cv σ g k i) (cv σ g k (i + 1)) := by
    obtain ⟨z, tz⟩ := H.twin (cv_tri hl i)
    refine H.goOn_rim f1 (cv_tri hl i) (fk i) (fk (i + 1)) tz (fun ez => hr ?_)
    obtain ⟨k2, i2, hl2, hi2, a1, a2, a3⟩ := tri_cv tz
    refine ⟨k2, hl2, slot_same hT hl0 hl2 (fun x hx => ?_), (tgo_cv hn (hs k2 hl2).1 _ _).mpr ⟨i2, hi2, a1.symm, a2.symm⟩⟩
    have q1 := fk (i + 1)
    rw [a1] at q1
    have q2 := fk i
    rw [a2] at q2
    rw [a3] at ez
    have cs : x = i2 % 3 ∨ x = (i2 + 1) % 3 ∨ x = (i2 + 2) % 3 := by omega
    have cvm : ∀ y, cv σ g k2 (y % 3) = cv σ g k2 y := fun y => by unfold cv; rw [Nat.mod_mod]
    rcases cs with rfl | rfl | rfl
    · rw [cvm]; exact q1
    · rw [cvm]; exact q2
    · rw [cvm]; exact ez
  have tn : ∀ j, j < m → gs j ≠ cv σ g k i := by
    intro j hj e
    obtain ⟨k1, i1, hb, hi1, hl1, _, e3, e4, g4⟩ := h.1 j hj
    have e5 : cv σ g k1 i1 = cv σ g k i := e3.symm.trans e
    have g5 := g4
    rw [e5] at g5
    have lt1 := (cv_lt hn (hs k1 hl1).1 (i1 + 1)).1
    have lt2 := (cv_lt hn (hs k hl).1 (i + 1)).1
    have i1p : dt (v3 σ g 15 k0) (PD σ g (cv σ g k1 (i1 + 1))) = σ g 15 k0 3 := by
      obtain ⟨q1, q2⟩ := psame_v3 (by assumption : psame σ g 15 k1 g 15 k0)
      have := (slot_fac hT hl1).2.2 (i1 + 1)
      rw [q1, q2] at this
      exact this
    have e6 := goOn_uniq g5 hg lt1 lt2 i1p (fk (i + 1))
    have := hT.edge hl1 hl hi1 hi e5 e6
    omega
  refine ⟨fun j hj => ?_, fun j j' h1 h2 => ?_, fun k' i' hb h0 hi' hl' hp' hr' => ?_⟩
  · by_cases e : j = m
    · subst e
      exact ⟨k, i, by omega, hi, hl, hp, if_pos rfl, by unfold upr; rw [if_pos rfl], hg⟩
    · obtain ⟨k', i', hb, hi', hl', hp', a1, a2, a3⟩ := h.1 j (by omega)
      refine ⟨k', i', by omega, hi', hl', hp', (if_neg e).trans a1, ?_, a3⟩
      unfold upr
      rw [if_neg]
      · exact a2
      · intro q
        exact tn j (by omega) (by rw [a1, q])
  · have a : j ≠ m := by omega
    dsimp only
    rw [if_neg a]
    by_cases e : j' = m
    · rw [if_pos e]; exact tn j (by omega)
    · rw [if_neg e]; exact h.2.1 j j' h1 (by omega)
  · by_cases e : k' = k ∧ i' = i
    · obtain ⟨rfl, rfl⟩ := e
      exact ⟨m, Nat.lt_succ_self _, by dsimp only; rw [if_pos rfl]⟩
    · obtain ⟨j, hj, e1⟩ := h.2.2 k' i' (by omega) h0 hi' hl' hp' hr'
      exact ⟨j, by omega, by dsimp only; rw [if_neg (by omega)]; exact e1⟩
/-- the whole rim found: following nx goes once around -/
theorem Ru_cycle (hT : TI σ g n (fun q => q < n)) (hp : PtsOK σ g n) {k0 m : Nat} {nx : Nat → Int} {gs : Nat → Nat} (hl0 : live σ g k0) (hlow : ∀ k1, live σ g k1 → k1 < k0 → ¬ psame σ g 15 k1 g 15 k0) (h : Ru σ g n k0 nx gs m (σ g 0 0 12).toNat 0) :
    3 ≤ m ∧ m ≤ n ∧ (∀ i, itf (fun v => (nx v).toNat) i (gs (m - 1)) < n ∧ dt (v3 σ g 15 k0) (PD σ g (itf (fun v => (nx v).toNat) i (gs (m - 1)))) = σ g 15 k0 3 ∧ nx (itf (fun v => (nx v).toNat) i (gs (m - 1))) = (itf (fun v => (nx v).toNat) (i + 1) (gs (m - 1)) : Int) ∧ goOn (PD σ g) (fun q => q < n) (v3 σ g 15 k0) (σ g 15 k0 3) (itf (fun v => (nx v).toNat) i (gs (m - 1))) (itf (fun v => (nx v).toNat) (i + 1) (gs (m - 1)))) ∧
    itf (fun v => (nx v).toNat) m (gs (m - 1)) = gs (m - 1) ∧ (∀ i j, i < j → j < m → itf (fun v => (nx v).toNat) i (gs (m - 1)) ≠ itf (fun v => (nx v).toNat) j (gs (m - 1))) ∧
    ∀ v x, v < n → x < n → dt (v3 σ g 15 k0) (PD σ g v) = σ g 15 k0 3 → dt (v3 σ g 15 k0) (PD σ g x) = σ g 15 k0 3 → goOn (PD σ g) (fun q => q < n) (v3 σ g 15 k0) (σ g 15 k0 3) v x → ∃ i, i < m ∧ itf (fun v => (nx v).toNat) i (gs (m - 1)) = v := by
  have hn := hp.1
  have hs := hT.2.2.2.1
  have H := hT.2.2.2.2.2
  obtain ⟨f1, f2, f3⟩ := slot_fac hT hl0
  have hinj : ∀ a b, a < n → b < n → PD σ g a = PD σ g b → a = b := hp.2.2
  -- each tail is a corner with its head behind it
  have tail : ∀ j, j < m → crn (PD σ g) (triT σ g) (v3 σ g 15 k0) (σ g 15 k0 3) (gs j) ∧ ∃ x : Nat, nx (gs j) = x ∧ crn (PD σ g) (triT σ g) (v3 σ g 15 k0) (σ g 15 k0 3) x ∧ goOn (PD σ g) (fun q => q < n) (v3 σ g 15 k0) (σ g 15 k0 3) (gs j) x := by
    intro j hj
    obtain ⟨k1, i1, hb, hi1, hl1, hp1, e3, e4, g4⟩ := h.1 j hj
    obtain ⟨q1, q2⟩ := psame_v3 hp1
    have fk := (slot_fac hT hl1).2.2
    rw [q1, q2] at fk
    rw [e3]
    exact ⟨⟨⟨_, _, cv_tri hl1 i1⟩, fk i1⟩, _, e4, ⟨⟨_, _, H.rot (cv_tri hl1 i1)⟩, fk (i1 + 1)⟩, g4⟩
  -- each corner is a tail
  have isTail : ∀ v x, v < n → x < n → dt (v3 σ g 15 k0) (PD σ g v) = σ g 15 k0 3 → dt (v3 σ g 15 k0) (PD σ g x) = σ g 15 k0 3 → goOn (PD σ g) (fun q => q < n) (v3 σ g 15 k0) (σ g 15 k0 3) v x → ∃ j, j < m ∧ gs j = v := by
    intro v x hv hx hvp hxp hg
    obtain ⟨y, t1, t2, t3⟩ := H.rim_goOn f1 hinj hv hx hvp hxp hg
    obtain ⟨k1, i1, hl1, hi1, a1, a2, a3⟩ := tri_cv t1
    have hp1 : psame σ g 15 k1 g 15 k0 := by
      refine slot_same hT hl0 hl1 (fun z hz => ?_)
      have cs : z = i1 % 3 ∨ z = (i1 + 1) % 3 ∨ z = (i1 + 2) % 3 := by omega
      have cvm : ∀ y, cv σ g k1 (y % 3) = cv σ g k1 y := fun y => by unfold cv; rw [Nat.mod_mod]
      rcases cs with rfl | rfl | rfl
      · rw [cvm, ← a1]; exact hvp
      · rw [cvm, ← a2]; exact hxp
      · rw [cvm, ← a3]; exact t2
    obtain ⟨j, hj, ej⟩ := h.2.2 k1 i1 (by have := hl1.1; omega) (by
      rcases Nat.lt_or_ge k1 k0 with q | q
      · exact absurd hp1 (hlow k1 hl1 q)
      · exact q) hi1 hl1 hp1 (by
      rintro ⟨k2, hl2, hp2, hg2⟩
      obtain ⟨i2, hi2, b1, b2⟩ := (tgo_cv hn (hs k2 hl2).1 _ _).mp hg2
      have t4 := cv_tri hl2 i2
      rw [b1, b2, ← a1, ← a2] at t4
      have := t3 _ t4
      obtain ⟨q1, q2⟩ := psame_v3 hp2
      have fk := (slot_fac hT hl2).2.2 (i2 + 2)
      rw [q1, q2] at fk
      omega)
    exact ⟨j, hj, by rw [ej, a1]⟩
  have crnTail : ∀ v, crn (PD σ g) (triT σ g) (v3 σ g 15 k0) (σ g 15 k0 3) v → ∃ j, j < m ∧ gs j = v := by
    intro v hv
    obtain ⟨x, hx, hg⟩ := H.crn_next f1 hv
    exact isTail v x (H.crn_mem hv) (H.crn_mem hx) hv.2 hx.2 hg
  have hf : ∀ v, crn (PD σ g) (triT σ g) (v3 σ g 15 k0) (σ g 15 k0 3) v → crn (PD σ g) (triT σ g) (v3 σ g 15 k0) (σ g 15 k0 3) (nx v).toNat ∧ goOn (PD σ g) (fun q => q < n) (v3 σ g 15 k0) (σ g 15 k0 3) v (nx v).toNat := by
    intro v hv
    obtain ⟨j, hj, ej⟩ := crnTail v hv
    obtain ⟨_, x, e1, e2, e3⟩ := tail j hj
    rw [ej] at e1 e3
    rw [e1]
    exact ⟨e2, e3⟩
  have c0 : ∀ i, crn (PD σ g) (triT σ g) (v3 σ g 15 k0) (σ g 15 k0 3) (cv σ g k0 i) := fun i => ⟨⟨_, _, cv_tri hl0 i⟩, f3 i⟩
  have hm0 : 0 < m := by
    obtain ⟨j, hj, _⟩ := crnTail _ (c0 0)
    omega
  have hst := (tail (m - 1) (by omega)).1
  obtain ⟨m', hm', hmn, hback, hdis, hcov⟩ := H.crn_orbit f1 (fun v => (nx v).toNat) hf hst
  have cI : ∀ i, crn (PD σ g) (triT σ g) (v3 σ g 15 k0) (σ g 15 k0 3) (itf (fun v => (nx v).toNat) i (gs (m - 1))) := fun i => itf_dom (D := crn (PD σ g) (triT σ g) (v3 σ g 15 k0) (σ g 15 k0 3)) (fun a ha => (hf a ha).1) hst i
  have em : m = m' := by
    have a1 : m ≤ m' := by
      have ex : ∀ j, j < m → ∃ i, i < m' ∧ itf (fun v => (nx v).toNat) i (gs (m - 1)) = gs j := fun j hj => hcov _ (tail j hj).1
      have := pigeon_out m 0 m' (fun j => Classical.epsilon (fun i => i < m' ∧ itf (fun v => (nx v).toNat) i (gs (m - 1)) = gs j)) (fun _ => 0) (fun j hj => (Classical.epsilon_spec (ex j hj)).1) (fun i j hij hj e => by
        have b1 := (Classical.epsilon_spec (ex i (by omega))).2
        have b2 := (Classical.epsilon_spec (ex j hj)).2
        rw [e] at b1
        exact h.2.1 i j hij hj (b1.symm.trans b2)) (fun i hi => absurd hi (Nat.not_lt_zero _)) (fun i j _ hj => absurd hj (Nat.not_lt_zero _)) (fun i j _ hj => absurd hj (Nat.not_lt_zero _))
      omega
    have a2 : m' ≤ m := by
      have ex : ∀ i, i < m' → ∃ j, j < m ∧ gs j = itf (fun v => (nx v).toNat) i (gs (m - 1)) := fun i hi => crnTail _ (cI i)
      have := pigeon_out m' 0 m (fun i => Classical.epsilon (fun j => j < m ∧ gs j = itf (fun v => (nx v).toNat) i (gs (m - 1)))) (fun _ => 0) (fun j hj => (Classical.epsilon_spec (ex j hj)).1) (fun i j hij hj e => by
        have b1 := (Classical.epsilon_spec (ex i (by omega))).2
        have b2 := (Classical.epsilon_spec (ex j hj)).2
        rw [e] at b1
        exact hdis i j hij hj (b1.symm.trans b2)) (fun i hi => absurd hi (Nat.not_lt_zero _)) (fun i j _ hj => absurd hj (Nat.not_lt_zero _)) (fun i j _ hj => absurd hj (Nat.not_lt_zero _))
      omega
    omega
  subst em
  have three : 3 ≤ m := by
    obtain ⟨i0, h0, e0⟩ := hcov _ (c0 0)
    obtain ⟨i1, h1, e1⟩ := hcov _ (c0 1)
    obtain ⟨i2, h2, e2⟩ := hcov _ (c0 2)
    have n01 := H.ne (cv_tri hl0 0)
    have n12 := H.ne (cv_tri hl0 1)
    have n20 := H.ne (cv_tri hl0 2)
    have d01 : i0 ≠ i1 := fun e => n01 (by rw [← e0, ← e1, e])
    have d12 : i1 ≠ i2 := fun e => n12 (by rw [← e1, ← e2, e])
    have d20 : i2 ≠ i0 := fun e => n20 (by rw [← e2, e]; exact e0)
    omega
  refine ⟨three, hmn, fun i => ⟨H.crn_mem (cI i), (cI i).2, ?_, (hf _ (cI i)).2⟩, hback, hdis, fun v x hv hx hvp hxp hg => ?_⟩
  · obtain ⟨j, hj, ej⟩ := crnTail _ (cI i)
    obtain ⟨_, x, e1, _, _⟩ := tail j hj
    rw [ej] at e1
    show nx _ = (((nx _).toNat : Nat) : Int)
    rw [e1]
    rfl
  · obtain ⟨j, hj, ej⟩ := isTail v x hv hx hvp hxp hg
    have := hcov _ (tail j hj).1
    rw [ej] at this
    exact this
end FI

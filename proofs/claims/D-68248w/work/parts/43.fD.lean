/-! ADD: its loops -/
section FD
variable {σ : Tab} {g n p : Nat} {S : Nat → Prop} {P : Tab → Prop}
def abv (σ : Tab) (g p k : Nat) : Int := dt (v3 σ g 15 k) (PD σ g p) - σ g 15 k 3
def svA (σ : Tab) (g p k : Nat) : Int := if σ g 14 k 4 = 1 ∧ 0 ≤ abv σ g p k then 1 else 0
theorem svA_f (σ : Tab) (g p k : Nat) : svA σ g p k = 0 ∨ svA σ g p k = 1 := by unfold svA; split <;> simp
theorem abv_bd (hp : PtsOK σ g n) (hpn : p < n) {k : Nat} (h : slotOK σ g n k) : inL (abv σ g p k) := by
  obtain ⟨hn, hB, -⟩ := hp
  obtain ⟨⟨c1, c2, c3⟩, hpl⟩ := h
  have b := plOK_bd (hB _ (show (tv σ g k).1 < n by unfold tv; dsimp only; omega)) (hB _ (show (tv σ g k).2.1 < n by unfold tv; dsimp only; omega)) (hB _ (show (tv σ g k).2.2 < n by unfold tv; dsimp only; omega)) hpl
  obtain ⟨x1, x2, x3, x4⟩ := b
  obtain ⟨⟨a1, a2⟩, ⟨a3, a4⟩, a5, a6⟩ := hB p hpn
  unfold abv
  have t1 := mul_bd (a := 2097152) (b := 512) x1 (y := (PD σ g p).1) (by omega) (by decide)
  have t2 := mul_bd (a := 2097152) (b := 512) x2 (y := (PD σ g p).2.1) (by omega) (by decide)
  have t3 := mul_bd (a := 2097152) (b := 512) x3 (y := (PD σ g p).2.2) (by omega) (by decide)
  simp only [dt, v3]
  exact inL_sm ⟨by omega, by omega⟩
theorem abv_VV {k : Nat} (h : slotOK σ g n k) : (0 ≤ abv σ g p k ↔ 0 ≤ VV (PD σ g) (tv σ g k).1 (tv σ g k).2.1 (tv σ g k).2.2 p) ∧ (0 < abv σ g p k ↔ 0 < VV (PD σ g) (tv σ g k).1 (tv σ g k).2.1 (tv σ g k).2.2 p) := plOK_sign h.2 p
def anyA (σ : Tab) (g p k : Nat) : Prop := ∃ i, i < k ∧ live σ g i ∧ 0 < abv σ g p i
/-- the first loop: what the new point sees -/
theorem f_add4 (hT : TI σ g n S) (hp : PtsOK σ g n) (hpn : p < n)
    (hK : ∀ s : Nat → Int, (∀ i : Nat, (i : Int) < σ g 0 0 12 → s i = svA σ g p i) → ((∃ k, live σ g k ∧ 0 < abv σ g p k) → ∃ j, wlX2_add_126 g P j p 0 0 (ADD σ g (fun i => σ g 14 i 4) s (σ g 5 0) (σ g 6 0))) ∧ (¬ (∃ k, live σ g k ∧ 0 < abv σ g p k) → ∃ j, wlX2_add_96 g P j 0 (ADD σ g (fun i => σ g 14 i 4) s (σ g 5 0) (σ g 6 0)))) :
    wpX2_add g p σ P := by
  obtain ⟨hm, hf, -, hs, -, -⟩ := hT
  have hn := hp.1
  have iM : inI (σ g 0 0 12) := inI_sm ⟨by omega, by omega⟩
  have lp : ∀ (m k : Nat) (s : Nat → Int) (x2 : Int), (σ g 0 0 12).toNat - k = m → (k : Int) ≤ σ g 0 0 12 → (∀ i, i < k → s i = svA σ g p i) → ((x2 = 1 ∧ anyA σ g p k) ∨ (x2 = 0 ∧ ¬ anyA σ g p k)) →
      wlX2_add_4 g P (m + 1) p x2 k (ADD σ g (fun i => σ g 14 i 4) s (σ g 5 0) (σ g 6 0)) := by
    intro m
    induction m with
    | zero =>
      intro k s x2 h1 h2 h3 h4
      unfold wlX2_add_4
      simp only [ADD_h]
      have hx2 : x2 = 0 ∨ x2 = 1 := by
        rcases h4 with ⟨q, _⟩ | ⟨q, _⟩
        · exact Or.inr q
        · exact Or.inl q
      have hkI : inI (k : Int) := inI_sm ⟨by omega, by omega⟩
      have hk := hK s (fun i hi => h3 i (by omega))
      refine ⟨hkI, iM, fun _ => ⟨inI_f hx2, fun z => hk.1 ?_, fun z => hk.2 ?_⟩, fun z => by omega⟩
      · rcases h4 with ⟨_, i, _, q⟩ | ⟨q, _⟩
        · exact ⟨i, q⟩
        · exact absurd q z
      · rcases h4 with ⟨q, _⟩ | ⟨_, q⟩
        · omega
        · rintro ⟨i, hi⟩
          exact q ⟨i, by have := hi.1.1; omega, hi⟩
    | succ m ih =>
      intro k s x2 h1 h2 h3 h4
      unfold wlX2_add_4
      simp only [ADD_h, ADD_l, Int.toNat_natCast]
      have hfk := hf k (by omega)
      have k64 : ∀ (y y1 : Int), inL y → y1 = svA σ g p k → (0 < y ↔ live σ g k ∧ 0 < abv σ g p k) → wlX2_add_64 g P (fun x1 x2 x3 τ => wlX2_add_4 g P (m + 1) x1 x2 x3 τ) p x2 k y k y1 (ADD σ g (fun i => σ g 14 i 4) s (σ g 5 0) (σ g 6 0)) := by
        intro y y1 hy hy1 hpos
        unfold wlX2_add_64
        refine ⟨by rw [hy1]; exact svA_f _ _ _ _, fun σ2 e2 => ?_⟩
        rw [e2, ADD_st5, ic]
        have h3' : ∀ i, i < k + 1 → upr s k y1 i = svA σ g p i := by
          intro i hi
          unfold upr
          by_cases e : i = k
          · rw [if_pos e, hy1, e]
          · rw [if_neg e]; exact h3 i (by omega)
        have nx : ∀ x2' : Int, ((x2' = 1 ∧ anyA σ g p (k + 1)) ∨ (x2' = 0 ∧ ¬ anyA σ g p (k + 1))) → wlX2_add_4 g P (m + 1) p x2' ((k + 1 : Nat) : Int) (ADD σ g (fun i => σ g 14 i 4) (upr s k y1) (σ g 5 0) (σ g 6 0)) := fun x2' hx => ih (k + 1) _ x2' (by omega) (by omega) h3' hx
        refine ⟨inI_f (by omega), fun z => nx 1 (Or.inl ⟨rfl, ?_⟩), fun z => ⟨hy, fun w => nx 0 (Or.inr ⟨rfl, ?_⟩), fun w => nx 1 (Or.inl ⟨rfl, ?_⟩)⟩⟩
        · rcases h4 with ⟨_, i, q1, q⟩ | ⟨q, _⟩
          · exact ⟨i, by omega, q⟩
          · exact absurd q z
        · rintro ⟨i, q1, q⟩
          rcases h4 with ⟨q2, _⟩ | ⟨_, q2⟩
          · omega
          · by_cases e : i = k
            · subst e
              have := hpos.mpr q
              omega
            · exact q2 ⟨i, by omega, q⟩
        · exact ⟨k, by omega, hpos.mp (by omega)⟩
      have k48 : ∀ (y : Int), inL y → (0 ≤ y ↔ σ g 14 k 4 = 1 ∧ 0 ≤ abv σ g p k) → (0 < y ↔ live σ g k ∧ 0 < abv σ g p k) → wlX2_add_48 g P (fun x1 x2 x3 τ => wlX2_add_4 g P (m + 1) x1 x2 x3 τ) p x2 k k y (ADD σ g (fun i => σ g 14 i 4) s (σ g 5 0) (σ g 6 0)) := by
        intro y hy h0 hpos
        unfold wlX2_add_48
        refine ⟨hy, fun z => k64 y 0 hy ?_ hpos, fun z => k64 y 1 hy ?_ hpos⟩
        · unfold svA
          rw [if_neg (fun q => by have := h0.mpr q; omega)]
        · unfold svA
          rw [if_pos (h0.mp (by omega))]
      refine ⟨inI_sm ⟨by omega, by omega⟩, iM, fun z => by omega, fun z => ⟨⟨by omega, by omega⟩, inI_f hfk, fun w => k48 (-1) ⟨by decide, by decide⟩ ⟨fun q => by omega, fun q => by omega⟩ ⟨fun q => by omega, fun q => by have := q.1.2; omega⟩, fun w => ⟨⟨by omega, by omega⟩, ?_⟩⟩⟩
      have hl : live σ g k := ⟨by omega, by omega⟩
      have e13 : v3 (ADD σ g (fun i => σ g 14 i 4) s (σ g 5 0) (σ g 6 0)) g 13 p = PD σ g p := congrFun (ADD_PD (σ := σ)) p
      refine f_above (by rw [e13]; exact hp.2.1 p hpn) ?_
      rw [e13, ADD_v15, ADD_15]
      exact k48 _ (abv_bd hp hpn (hs k hl)) ⟨fun q => ⟨hl.2, q⟩, fun q => q.2⟩ ⟨fun q => ⟨hl, q⟩, fun q => q.2⟩
  exact ⟨_, lp _ 0 _ 0 rfl (by omega) (fun i h => absurd h (Nat.not_lt_zero _)) (Or.inr ⟨rfl, fun ⟨i, h, _⟩ => absurd h (Nat.not_lt_zero _)⟩) |> (fun h => by
    rw [← ADD_0] at h
    exact h)⟩
/-- nothing seen from above: the marks are taken back -/
theorem f_add96 (hT : TI σ g n S) (l nx sp : Nat → Int) (hP : ∀ s : Nat → Int, (∀ i : Nat, (i : Int) < σ g 0 0 12 → s i = 0) → P (ADD σ g l s nx sp)) (s : Nat → Int) : ∃ j, wlX2_add_96 g P j 0 (ADD σ g l s nx sp) := by
  obtain ⟨hm, -⟩ := hT
  have iM : inI (σ g 0 0 12) := inI_sm ⟨by omega, by omega⟩
  have lp : ∀ (m k : Nat) (s : Nat → Int), (σ g 0 0 12).toNat - k = m → (k : Int) ≤ σ g 0 0 12 → (∀ i, i < k → s i = 0) → wlX2_add_96 g P (m + 1) k (ADD σ g l s nx sp) := by
    intro m
    induction m with
    | zero =>
      intro k s h1 h2 h3
      unfold wlX2_add_96
      simp only [ADD_h]
      exact ⟨inI_sm ⟨by omega, by omega⟩, iM, fun _ => hP s (fun i hi => h3 i (by omega)), fun z => by omega⟩
    | succ m ih =>
      intro k s h1 h2 h3
      unfold wlX2_add_96
      simp only [ADD_h, Int.toNat_natCast]
      refine ⟨inI_sm ⟨by omega, by omega⟩, iM, fun z => by omega, fun z => ⟨⟨by omega, by omega⟩, fun σ5 e5 => ?_⟩⟩
      rw [e5, ADD_st5, ic]
      refine ih (k + 1) _ (by omega) (by omega) (fun i hi => ?_)
      unfold upr
      by_cases e : i = k
      · rw [if_pos e]
      · rw [if_neg e]; exact h3 i (by omega)
  exact ⟨_, lp _ 0 s rfl (by omega) (fun i h => absurd h (Nat.not_lt_zero _))⟩
/-- the rim so far -/
def R2 (σ : Tab) (g p m : Nat) (nx sp : Nat → Int) (k i : Nat) : Prop :=
  (∀ j, j < m → ∃ k' i', (k' < k ∨ (k' = k ∧ i' < i)) ∧ i' < 3 ∧ live σ g k' ∧ sp j = (cv σ g k' i' : Int) ∧ nx (cv σ g k' i') = (cv σ g k' (i' + 1) : Int) ∧ rim (PD σ g) (triT σ g) p (cv σ g k' i') (cv σ g k' (i' + 1))) ∧
  (∀ j j', j < j' → j' < m → sp j ≠ sp j') ∧
  (∀ k' i', (k' < k ∨ (k' = k ∧ i' < i)) → i' < 3 → live σ g k' → rim (PD σ g) (triT σ g) p (cv σ g k' i') (cv σ g k' (i' + 1)) → ∃ j, j < m ∧ sp j = (cv σ g k' i' : Int))
theorem R2_0 (σ : Tab) (g p : Nat) (nx sp : Nat → Int) : R2 σ g p 0 nx sp 0 0 :=
  ⟨fun j h => absurd h (Nat.not_lt_zero _), fun j j' _ h => absurd h (Nat.not_lt_zero _), fun k' i' h _ _ _ => by omega⟩
theorem R2_row {m k : Nat} {nx sp : Nat → Int} (h : R2 σ g p m nx sp k 3) : R2 σ g p m nx sp (k + 1) 0 := by
  refine ⟨fun j hj => ?_, h.2.1, fun k' i' hb hi hl hr => h.2.2 k' i' (by omega) hi hl hr⟩
  obtain ⟨k', i', hb, q⟩ := h.1 j hj
  exact ⟨k', i', by omega, q⟩
theorem R2_no {m k i : Nat} {nx sp : Nat → Int} (h : R2 σ g p m nx sp k i) (hr : live σ g k → i < 3 → ¬ rim (PD σ g) (triT σ g) p (cv σ g k i) (cv σ g k (i + 1))) : R2 σ g p m nx sp k (i + 1) := by
  refine ⟨fun j hj => ?_, h.2.1, fun k' i' hb hi hl hq => ?_⟩
  · obtain ⟨k', i', hb, q⟩ := h.1 j hj
    exact ⟨k', i', by omega, q⟩
  · by_cases e : k' = k ∧ i' = i
    · obtain ⟨rfl, rfl⟩ := e
      exact absurd hq (hr hl hi)
    · exact h.2.2 k' i' (by omega) hi hl hq
theorem R2_tail_ne (hT : TI σ g n S) {m k i : Nat} {nx sp : Nat → Int} (h : R2 σ g p m nx sp k i) (hl : live σ g k) (hi : i < 3) (hr : rim (PD σ g) (triT σ g) p (cv σ g k i) (cv σ g k (i + 1))) {j : Nat} (hj : j < m) : sp j ≠ (cv σ g k i : Int) := by
  intro e
  obtain ⟨k', i', hb, hi', hl', e1, e2, hr'⟩ := h.1 j hj
  have e3 : cv σ g k' i' = cv σ g k i := by rw [e1] at e; omega
  have hr2 := hr'
  rw [e3] at hr2
  have e4 := rim_out hT.2.2.2.2.2 hr2 hr
  have := hT.edge hl' hl hi' hi e3 e4
  omega
theorem cv_lt (hn : n ≤ 24) {k : Nat} (h : corOK σ g n k) (i : Nat) : cv σ g k i < n ∧ (cv σ g k i : Int) = σ g 14 k (1 + i % 3) := by
  obtain ⟨h1, h2, h3⟩ := h
  have e : i % 3 = 0 ∨ i % 3 = 1 ∨ i % 3 = 2 := by omega
  unfold cv
  rcases e with e | e | e <;> simp only [e, Nat.reduceAdd] <;> omega
theorem R2_new (hT : TI σ g n S) (hn : n ≤ 24) {m k i : Nat} {nx sp : Nat → Int} (h : R2 σ g p m nx sp k i) (hl : live σ g k) (hi : i < 3) (hr : rim (PD σ g) (triT σ g) p (cv σ g k i) (cv σ g k (i + 1))) :
    m < n ∧ R2 σ g p (m + 1) (upr nx (cv σ g k i) (cv σ g k (i + 1))) (upr sp m (cv σ g k i)) k (i + 1) := by
  have hs := hT.2.2.2.1
  have tn := fun j (hj : j < m) => R2_tail_ne hT h hl hi hr hj
  refine ⟨?_, fun j hj => ?_, fun j j' h1 h2 => ?_, fun k' i' hb hi' hl' hr' => ?_⟩
  · have := pigeon_out m 1 n (fun j => (sp j).toNat) (fun _ => cv σ g k i) (fun j hj => by
      obtain ⟨k', i', -, -, hl', e1, -⟩ := h.1 j hj
      have := (cv_lt hn (hs k' hl').1 i').1
      show (sp j).toNat < n
      rw [e1]; omega) (fun j j' h1 h2 e => by
      obtain ⟨k', i', -, -, -, e1, -⟩ := h.1 j (by omega)
      obtain ⟨k2, i2, -, -, -, e2, -⟩ := h.1 j' h2
      have e : (sp j).toNat = (sp j').toNat := e
      exact h.2.1 j j' h1 h2 (by rw [e1, e2] at e ⊢; omega)) (fun _ _ => (cv_lt hn (hs k hl).1 i).1) (fun a b h1 h2 => by omega) (fun j _ hj _ e => by
      obtain ⟨k', i', -, -, -, e1, -⟩ := h.1 j hj
      have e : (sp j).toNat = cv σ g k i := e
      exact tn j hj (by rw [e1] at e ⊢; omega))
    omega
  · by_cases e : j = m
    · subst e
      refine ⟨k, i, by omega, hi, hl, ?_, ?_, hr⟩
      · unfold upr; rw [if_pos rfl]
      · unfold upr; rw [if_pos rfl]
    · obtain ⟨k', i', hb, hi', hl', e1, e2, hr'⟩ := h.1 j (by omega)
      refine ⟨k', i', by omega, hi', hl', ?_, ?_, hr'⟩
      · unfold upr; rw [if_neg e]; exact e1
      · unfold upr
        rw [if_neg]
        · exact e2
        · intro q
          exact tn j (by omega) (by rw [e1, q])
  · unfold upr
    have a : j ≠ m := by omega
    rw [if_neg a]
    by_cases e : j' = m
    · rw [if_pos e]; exact tn j (by omega)
    · rw [if_neg e]; exact h.2.1 j j' h1 (by omega)
  · by_cases e : k' = k ∧ i' = i
    · obtain ⟨rfl, rfl⟩ := e
      exact ⟨m, Nat.lt_succ_self _, by unfold upr; rw [if_pos rfl]⟩
    · obtain ⟨j, hj, e1⟩ := h.2.2 k' i' (by omega) hi' hl' hr'
      exact ⟨j, by omega, by unfold upr; rw [if_neg (by omega)]; exact e1⟩
theorem seen_VV (hT : TI σ g n S) {k : Nat} (hl : live σ g k) (i : Nat) : svA σ g p k = 1 ↔ 0 ≤ VV (PD σ g) (cv σ g k i) (cv σ g k (i + 1)) (cv σ g k (i + 2)) p := by
  rw [cv_VV, ← (abv_VV (hT.2.2.2.1 k hl)).1]
  unfold svA
  have := hl.2
  by_cases q : 0 ≤ abv σ g p k
  · rw [if_pos ⟨this, q⟩]; simp [q]
  · rw [if_neg (fun z => q z.2)]; simp [q]
theorem tgo_cv {k : Nat} (hn : n ≤ 24) (h : corOK σ g n k) (x y : Nat) : tgo σ g k x y ↔ ∃ i, i < 3 ∧ cv σ g k i = x ∧ cv σ g k (i + 1) = y := by
  have c0 := (cv_lt hn h 0).2
  have c1 := (cv_lt hn h 1).2
  have c2 := (cv_lt hn h 2).2
  have c3 : cv σ g k 3 = cv σ g k 0 := rfl
  simp only [Nat.reduceMod, Nat.reduceAdd] at c0 c1 c2
  unfold tgo
  constructor
  · rintro (⟨a, b⟩ | ⟨a, b⟩ | ⟨a, b⟩)
    · exact ⟨0, by decide, by omega, by show cv σ g k 1 = y; omega⟩
    · exact ⟨1, by decide, by omega, by show cv σ g k 2 = y; omega⟩
    · exact ⟨2, by decide, by omega, by show cv σ g k 3 = y; omega⟩
  · rintro ⟨i, hi, a, b⟩
    have : i = 0 ∨ i = 1 ∨ i = 2 := by omega
    rcases this with rfl | rfl | rfl
    · exact Or.inl ⟨by omega, by have b : cv σ g k 1 = y := b; omega⟩
    · exact Or.inr (Or.inl ⟨by omega, by have b : cv σ g k 2 = y := b; omega⟩)
    · exact Or.inr (Or.inr ⟨by omega, by have b : cv σ g k 3 = y := b; omega⟩)
end FD

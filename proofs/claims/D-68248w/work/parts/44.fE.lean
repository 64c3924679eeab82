/-! ADD: the rim, the removal, the new triangles -/
section FE
variable {σ : Tab} {g n p : Nat} {S : Nat → Prop} {P : Tab → Prop}
theorem R2_skip {m k i : Nat} {nx sp : Nat → Int} (h : R2 σ g p m nx sp k i) (hi : i ≤ 3) (hr : ∀ i', i' < 3 → live σ g k → ¬ rim (PD σ g) (triT σ g) p (cv σ g k i') (cv σ g k (i' + 1))) : R2 σ g p m nx sp (k + 1) 0 := by
  have key : ∀ d i, 3 - i = d → i ≤ 3 → R2 σ g p m nx sp k i → R2 σ g p m nx sp (k + 1) 0 := by
    intro d
    induction d with
    | zero =>
      intro i h1 h2 h3
      have : i = 3 := by omega
      subst this
      exact R2_row h3
    | succ d ih =>
      intro i h1 h2 h3
      exact ih (i + 1) (by omega) (by omega) (R2_no h3 (fun hl hi => hr i hi hl))
  exact key _ i rfl hi h
theorem f_add126 (hT : TI σ g n S) (hp : PtsOK σ g n) (s : Nat → Int) (hs1 : ∀ i : Nat, (i : Int) < σ g 0 0 12 → s i = svA σ g p i)
    (hK : ∀ (m : Nat) (nx sp : Nat → Int), m ≤ n → R2 σ g p m nx sp (σ g 0 0 12).toNat 0 → ∃ j, wlX2_add_244 g P j p m 0 (ADD σ g (fun i => σ g 14 i 4) s nx sp)) :
    ∃ j, wlX2_add_126 g P j p 0 0 (ADD σ g (fun i => σ g 14 i 4) s (σ g 5 0) (σ g 6 0)) := by
  obtain ⟨hm, hf, -, hsl, -, H⟩ := id hT
  have hn := hp.1
  have iM : inI (σ g 0 0 12) := inI_sm ⟨by omega, by omega⟩
  have lp : ∀ (d k m : Nat) (nx sp : Nat → Int), (σ g 0 0 12).toNat - k = d → (k : Int) ≤ σ g 0 0 12 → m ≤ n → R2 σ g p m nx sp k 0 → wlX2_add_126 g P (d + 1) p m k (ADD σ g (fun i => σ g 14 i 4) s nx sp) := by
    intro d
    induction d with
    | zero =>
      intro k m nx sp h1 h2 h3 h4
      have hk : k = (σ g 0 0 12).toNat := by omega
      have kI : inI (k : Int) := inI_sm ⟨by omega, by omega⟩
      subst hk
      unfold wlX2_add_126
      simp only [ADD_h]
      exact ⟨kI, iM, fun _ => hK m nx sp h3 h4, fun z => by omega⟩
    | succ d ih =>
      intro k m nx sp h1 h2 h3 h4
      unfold wlX2_add_126
      simp only [ADD_h, Int.toNat_natCast]
      refine ⟨inI_sm ⟨by omega, by omega⟩, iM, fun z => by omega, fun _ => ⟨⟨by omega, by omega⟩, 4, ?_⟩⟩
      have hfk := hf k (by omega)
      have hsk := hs1 k (by omega)
      have inner : ∀ (e i m : Nat) (nx sp : Nat → Int), 3 - i = e → i ≤ 3 → m ≤ n → R2 σ g p m nx sp k i → wlX2_add_147 g P (fun x1 x3 x4 τ => wlX2_add_126 g P (d + 1) x1 x3 x4 τ) (e + 1) p m k k i (ADD σ g (fun i => σ g 14 i 4) s nx sp) := by
        intro e
        induction e with
        | zero =>
          intro i m nx sp h1 h2 h3 h4
          have hi3 : i = 3 := by omega
          subst hi3
          unfold wlX2_add_147
          refine ⟨⟨by decide, by decide⟩, fun _ => ?_, fun z => absurd (by decide) z⟩
          rw [ic]
          exact ih (k + 1) m nx sp (by omega) (by omega) h3 (R2_row h4)
        | succ e ihe =>
          intro i m nx sp h1 h2 h3 h4
          unfold wlX2_add_147
          simp only [ADD_l, ADD_s, ic]
          have out : (live σ g k → svA σ g p k = 0) → wlX2_add_126 g P (d + 1) p m ((k + 1 : Nat) : Int) (ADD σ g (fun i => σ g 14 i 4) s nx sp) := by
            intro hno
            refine ih (k + 1) m nx sp (by omega) (by omega) h3 (R2_skip h4 h2 (fun i' hi' hl hr => ?_))
            obtain ⟨⟨c, t1, t2⟩, -⟩ := hr
            have e1 := H.uniq t1 (cv_tri hl i')
            rw [e1] at t2
            have := (seen_VV hT hl i').mpr t2
            have := hno hl
            omega
          refine ⟨inI_sm ⟨by omega, by omega⟩, fun z => by omega, fun _ => ⟨inI_f hfk, fun z => out (fun hl => by have := hl.2; omega), fun z => ⟨by rw [hsk]; exact inI_f (svA_f _ _ _ _), fun w => out (fun _ => by rw [← hsk]; exact w), fun w => ?_⟩⟩⟩
          have hl : live σ g k := ⟨by omega, by omega⟩
          have hseen : svA σ g p k = 1 := by
            rcases svA_f σ g p k with q | q
            · rw [hsk] at w; exact absurd q w
            · exact q
          have hcor := (hsl k hl).1
          have rd : ∀ (nx sp : Nat → Int) (x : Nat), ADD σ g (fun i => σ g 14 i 4) s nx sp g 14 k (1 + x % 3) = (cv σ g k x : Int) := by
            intro nx sp x
            rw [ADD_c k ⟨by omega, by omega⟩]
            exact (cv_lt hn hcor x).2.symm
          have u24 := (cv_lt hn hcor i).1
          have v24 := (cv_lt hn hcor (i + 1)).1
          refine f_get5 ⟨by omega, by omega⟩ ?_
          rw [Int.toNat_natCast, rd]
          refine f_get5 ⟨by omega, by omega⟩ ?_
          rw [Int.toNat_natCast, rd]
          have eqv : staysE (ADD σ g (fun i => σ g 14 i 4) s nx sp) g (cv σ g k (i + 1) : Int) (cv σ g k i : Int) ↔ rim (PD σ g) (triT σ g) p (cv σ g k i) (cv σ g k (i + 1)) := by
            constructor
            · rintro ⟨k', q1, q2, q3⟩
              rw [ADD_live] at q1
              rw [ADD_s] at q2
              have hl' : live σ g k' := q1
              have q3 : tgo σ g k' (cv σ g k (i + 1) : Int) (cv σ g k i : Int) := by
                unfold tgo at q3 ⊢
                simpa only [ADD_c k' (show (1:Nat) ≠ 4 ∧ (1:Nat) ≠ 5 by decide), ADD_c k' (show (2:Nat) ≠ 4 ∧ (2:Nat) ≠ 5 by decide), ADD_c k' (show (3:Nat) ≠ 4 ∧ (3:Nat) ≠ 5 by decide)] using q3
              obtain ⟨i', hi', e1, e2⟩ := (tgo_cv hn (hsl k' hl').1 _ _).mp q3
              refine ⟨⟨_, cv_tri hl i, (seen_VV hT hl i).mp hseen⟩, cv σ g k' (i' + 2), ?_, ?_⟩
              · have := cv_tri hl' i'
                rw [e1, e2] at this
                exact this
              · have h5 := (seen_VV (p := p) hT hl' i')
                rw [e1, e2] at h5
                rw [hs1 k' hl'.1] at q2
                rcases Int.lt_or_le (VV (PD σ g) (cv σ g k (i + 1)) (cv σ g k i) (cv σ g k' (i' + 2)) p) 0 with y | y
                · exact y
                · have := h5.mpr y
                  omega
            · rintro ⟨-, e', t1, t2⟩
              obtain ⟨k', i', hl', hi', e1, e2, e3⟩ := tri_cv t1
              refine ⟨k', ?_, ?_, ?_⟩
              · rw [ADD_live]; exact hl'
              · rw [ADD_s, hs1 k' hl'.1]
                rcases svA_f σ g p k' with q | q
                · exact q
                · have h5 := (seen_VV hT hl' i').mp q
                  rw [← e1, ← e2, ← e3] at h5
                  omega
              · have := (tgo_cv hn (hsl k' hl').1 (cv σ g k (i + 1)) (cv σ g k i)).mpr ⟨i', hi', e1.symm, e2.symm⟩
                unfold tgo at this ⊢
                simpa only [ADD_c k' (show (1:Nat) ≠ 4 ∧ (1:Nat) ≠ 5 by decide), ADD_c k' (show (2:Nat) ≠ 4 ∧ (2:Nat) ≠ 5 by decide), ADD_c k' (show (3:Nat) ≠ 4 ∧ (3:Nat) ≠ 5 by decide)] using this
          refine f_stays (n := n) hn (by rw [ADD_h]; omega) (fun k' hk' => by rw [ADD_h] at hk'; rw [ADD_l]; exact hf k' hk') (fun k' hk' => by rw [ADD_h] at hk'; rw [ADD_s, hs1 k' hk']; exact svA_f _ _ _ _) (fun k' hk' => by rw [ADD_live] at hk'; rw [ADD_cor]; exact (hsl k' hk').1) (inI_sm ⟨by omega, by omega⟩) (inI_sm ⟨by omega, by omega⟩) (fun q => ?_) (fun q => ?_)
          · have hr := eqv.mp q
            obtain ⟨hmn, hR⟩ := R2_new hT hn h4 hl (by omega) hr
            refine ⟨⟨by decide, by decide⟩, fun z => by omega, fun _ => ?_⟩
            refine f_get5 ⟨by omega, by omega⟩ ?_
            rw [Int.toNat_natCast, rd]
            refine f_get5 ⟨by omega, by omega⟩ ?_
            rw [Int.toNat_natCast, rd]
            refine ⟨⟨by omega, by omega⟩, fun σ15 e15 => ?_⟩
            rw [e15, ADD_stn, Int.toNat_natCast]
            refine f_get5 ⟨by omega, by omega⟩ ?_
            rw [Int.toNat_natCast, rd]
            refine ⟨⟨by omega, by omega⟩, fun σ18 e18 => ?_⟩
            rw [e18, ADD_sts, Int.toNat_natCast]
            exact ihe (i + 1) (m + 1) _ _ (by omega) (by omega) (by omega) hR
          · refine ⟨⟨by decide, by decide⟩, fun _ => ?_, fun z => absurd rfl z⟩
            exact ihe (i + 1) m _ _ (by omega) (by omega) h3 (R2_no h4 (fun _ _ hr => q (eqv.mpr hr)))
      exact inner 3 0 m nx sp rfl (by decide) h3 h4
  exact ⟨_, lp _ 0 0 _ _ rfl (by omega) (Nat.zero_le _) (R2_0 _ _ _ _ _)⟩
theorem f_add244 (hT : TI σ g n S) (m : Nat) (nx sp s : Nat → Int) (hs1 : ∀ i : Nat, (i : Int) < σ g 0 0 12 → s i = svA σ g p i)
    (hK : ∀ l s' : Nat → Int, (∀ i : Nat, (i : Int) < σ g 0 0 12 → s' i = 0 ∧ l i = if svA σ g p i = 1 then 0 else σ g 14 i 4) → ∃ j, wlX2_add_297 g P j p m 0 (ADD σ g l s' nx sp)) :
    ∃ j, wlX2_add_244 g P j p m 0 (ADD σ g (fun i => σ g 14 i 4) s nx sp) := by
  obtain ⟨hm, hf, -, -, -, -⟩ := hT
  have iM : inI (σ g 0 0 12) := inI_sm ⟨by omega, by omega⟩
  have lp : ∀ (d k : Nat) (l s' : Nat → Int), (σ g 0 0 12).toNat - k = d → (k : Int) ≤ σ g 0 0 12 → (∀ i, i < k → s' i = 0 ∧ l i = if svA σ g p i = 1 then 0 else σ g 14 i 4) → (∀ i, k ≤ i → s' i = s i ∧ l i = σ g 14 i 4) → wlX2_add_244 g P (d + 1) p m k (ADD σ g l s' nx sp) := by
    intro d
    induction d with
    | zero =>
      intro k l s' h1 h2 h3 h4
      unfold wlX2_add_244
      simp only [ADD_h]
      exact ⟨inI_sm ⟨by omega, by omega⟩, iM, fun _ => hK l s' (fun i hi => h3 i (by omega)), fun z => by omega⟩
    | succ d ih =>
      intro k l s' h1 h2 h3 h4
      unfold wlX2_add_244
      simp only [ADD_h, ADD_s, Int.toNat_natCast]
      have hk := h4 k (Nat.le_refl _)
      have hsk := hs1 k (by omega)
      have k277 : ∀ l', l' = upr l k (if svA σ g p k = 1 then 0 else σ g 14 k 4) → wlX2_add_277 g P (fun x1 x3 x4 τ => wlX2_add_244 g P (d + 1) x1 x3 x4 τ) p m k (ADD σ g l' s' nx sp) := by
        intro l' el
        unfold wlX2_add_277
        refine ⟨⟨by omega, by omega⟩, fun σ2 e2 => ?_⟩
        rw [e2, Int.toNat_natCast, ADD_st5, ic]
        refine ih (k + 1) _ _ (by omega) (by omega) (fun i hi => ?_) (fun i hi => ?_)
        · rw [el]
          unfold upr
          by_cases e : i = k
          · rw [if_pos e, if_pos e, e]; exact ⟨rfl, rfl⟩
          · rw [if_neg e, if_neg e]; exact h3 i (by omega)
        · rw [el]
          unfold upr
          rw [if_neg (by omega), if_neg (by omega)]
          exact h4 i (by omega)
      refine ⟨inI_sm ⟨by omega, by omega⟩, iM, fun z => by omega, fun _ => ⟨⟨by omega, by omega⟩, by rw [hk.1, hsk]; exact inI_f (svA_f _ _ _ _), fun z => k277 l ?_, fun z σ8 e8 => ?_⟩⟩
      · have : ¬ svA σ g p k = 1 := by rw [← hsk, ← hk.1]; omega
        rw [if_neg this, ← hk.2]
        funext i
        unfold upr
        by_cases e : i = k
        · rw [if_pos e, e]
        · rw [if_neg e]
      · rw [e8, ADD_st4]
        refine k277 _ ?_
        have : svA σ g p k = 1 := by
          rcases svA_f σ g p k with q | q
          · rw [hk.1, hsk] at z; exact absurd q z
          · exact q
        rw [if_pos this]
  exact ⟨_, lp _ 0 _ s rfl (by omega) (fun i h => absurd h (Nat.not_lt_zero _)) (fun i _ => ⟨rfl, rfl⟩)⟩
def gen3 : V3 := (4194304, 2048, 1)
theorem gen3_inj (hp : PtsOK σ g n) {a b : Nat} (ha : a < n) (hb : b < n) (h : dt gen3 (PD σ g a) = dt gen3 (PD σ g b)) : a = b := by
  obtain ⟨-, hB, hi⟩ := hp
  obtain ⟨⟨a1, a2⟩, ⟨a3, a4⟩, a5, a6⟩ := hB a ha
  obtain ⟨⟨b1, b2⟩, ⟨b3, b4⟩, b5, b6⟩ := hB b hb
  apply hi a b ha hb
  simp only [dt, gen3] at h
  refine Prod.ext ?_ (Prod.ext ?_ ?_) <;> omega
/-- the triangles while new ones are laid -/
def J4 (σ τ : Tab) (g n p : Nat) (nx sp : Nat → Int) (l s : Nat → Int) (k : Nat) : Prop :=
  (0 ≤ τ g 0 0 12 ∧ τ g 0 0 12 ≤ 44) ∧ flags τ g ∧ seens τ g ∧ (∀ k', live τ g k' → slotOK τ g n k') ∧ (∀ k' k'', live τ g k' → live τ g k'' → k' ≠ k'' → ¬ rot3 (tv τ g k') (tv τ g k'')) ∧
  (∀ a b c, triT τ g a b c ↔ (triT σ g a b c ∧ VV (PD σ g) a b c p < 0) ∨ ∃ j, j < k ∧ rotq (sp j).toNat (nx (sp j).toNat).toNat p a b c) ∧
  (∀ g' k' i', ¬ (g' = g ∧ (k' = 14 ∨ k' = 15 ∨ (k' = 0 ∧ i' = 0))) → τ g' k' i' = ADD σ g l s nx sp g' k' i') ∧ ∀ j, j ≠ 12 → τ g 0 0 j = σ g 0 0 j
theorem J4_PD {τ : Tab} {nx sp l s : Nat → Int} {k : Nat} (h : J4 σ τ g n p nx sp l s k) : PD τ g = PD σ g := by
  funext i
  have e := h.2.2.2.2.2.2.1 g 13 i (fun z => by omega)
  show v3 τ g 13 i = v3 σ g 13 i
  unfold v3
  rw [e, ADD_13, ADD_13, ADD_13]
theorem tv_live {τ : Tab} {k : Nat} (h : live τ g k) : triT τ g (tv τ g k).1 (tv τ g k).2.1 (tv τ g k).2.2 := ⟨k, h, Or.inl ⟨rfl, rfl, rfl⟩⟩
theorem rot3_rotq {t : Nat × Nat × Nat} {a b c : Nat} (h : rot3 t (a, b, c)) : rotq t.1 t.2.1 t.2.2 a b c := by
  obtain ⟨x, y, z⟩ := t
  simp only [rot3, rotq, Prod.mk.injEq] at *
  omega
theorem rot3_sym {t t' : Nat × Nat × Nat} (h : rot3 t t') : rot3 t' t := by
  obtain ⟨x, y, z⟩ := t
  obtain ⟨x', y', z'⟩ := t'
  simp only [rot3, Prod.mk.injEq] at *
  omega
/-- what a laid triangle changes -/
theorem Tadd_live {σ τ : Tab} {k a b c : Nat} (h : Tadd σ τ g k a b c) (hk : (k : Int) ≤ σ g 0 0 12) (k' : Nat) : live τ g k' ↔ (k' = k ∨ live σ g k') := by
  obtain ⟨⟨-, -, -, h4, -⟩, hm, -, hfr, -⟩ := h
  unfold live
  rw [hm]
  by_cases e : k' = k
  · subst e
    rw [h4]
    constructor
    · intro _; exact Or.inl rfl
    · intro _
      refine ⟨?_, rfl⟩
      split <;> omega
  · rw [hfr g 14 k' (fun z => by omega)]
    constructor
    · intro q
      refine Or.inr ⟨?_, q.2⟩
      have := q.1
      split at this <;> omega
    · rintro (q | q)
      · exact absurd q e
      · refine ⟨?_, q.2⟩
        have := q.1
        split <;> omega
theorem Tadd_tv {σ τ : Tab} {k a b c : Nat} (h : Tadd σ τ g k a b c) : tv τ g k = (a, b, c) ∧ ∀ k', k' ≠ k → tv τ g k' = tv σ g k' := by
  obtain ⟨⟨h1, h2, h3, -, -⟩, -, -, hfr, -⟩ := h
  refine ⟨by unfold tv; rw [h1, h2, h3]; simp, fun k' e => ?_⟩
  unfold tv
  rw [hfr g 14 k' (fun z => by omega)]
theorem Tadd_PD {σ τ : Tab} {k a b c : Nat} (h : Tadd σ τ g k a b c) : PD τ g = PD σ g := by
  funext i
  show v3 τ g 13 i = v3 σ g 13 i
  unfold v3
  rw [h.2.2.2.1 g 13 i (fun z => by omega)]
theorem Tadd_tri {σ τ : Tab} {k a b c : Nat} (h : Tadd σ τ g k a b c) (hk : (k : Int) ≤ σ g 0 0 12) (hd : ¬ live σ g k) (x y z : Nat) : triT τ g x y z ↔ triT σ g x y z ∨ rotq a b c x y z := by
  obtain ⟨t1, t2⟩ := Tadd_tv h
  constructor
  · rintro ⟨k', hl, hr⟩
    rcases (Tadd_live h hk k').mp hl with e | e
    · subst e
      rw [t1] at hr
      exact Or.inr hr
    · have : k' ≠ k := fun q => hd (q ▸ e)
      rw [t2 k' this] at hr
      exact Or.inl ⟨k', e, hr⟩
  · rintro (⟨k', hl, hr⟩ | hr)
    · have : k' ≠ k := fun q => hd (q ▸ hl)
      exact ⟨k', (Tadd_live h hk k').mpr (Or.inr hl), by rw [t2 k' this]; exact hr⟩
    · exact ⟨k, (Tadd_live h hk k).mpr (Or.inl rfl), by rw [t1]; exact hr⟩
theorem Tadd_slots {σ τ : Tab} {k a b c : Nat} (h : Tadd σ τ g k a b c) (hk : (k : Int) ≤ σ g 0 0 12) (ha : a < n) (hb : b < n) (hc : c < n) (hs : ∀ k', live σ g k' → slotOK σ g n k') : ∀ k', live τ g k' → slotOK τ g n k' := by
  obtain ⟨t1, t2⟩ := Tadd_tv h
  have ep := Tadd_PD h
  intro k' hl
  by_cases e : k' = k
  · subst e
    obtain ⟨⟨h1, h2, h3, -, -⟩, -, -, -, hpl⟩ := h
    refine ⟨⟨by omega, by omega, by omega⟩, ?_⟩
    rw [t1, ep]
    exact hpl
  · have hl' : live σ g k' := by
      rcases (Tadd_live h hk k').mp hl with q | q
      · exact absurd q e
      · exact q
    obtain ⟨hc', G, g1, g2, g3, g4⟩ := hs k' hl'
    have r14 := h.2.2.2.1 g 14 k' (fun z => by omega)
    have r15 := h.2.2.2.1 g 15 k' (fun z => by omega)
    refine ⟨?_, G, g1, ?_, ?_, ?_⟩
    · unfold corOK at hc' ⊢; rw [r14]; exact hc'
    · rw [ep, t2 k' e]; unfold v3 at g2 ⊢; rw [r15]; exact g2
    · unfold v3 at g3 ⊢; rw [r15]; exact g3
    · rw [ep, t2 k' e]; unfold v3 at g4 ⊢; rw [r15]; exact g4
theorem Tadd_flags {σ τ : Tab} {k a b c : Nat} (h : Tadd σ τ g k a b c) (hk : (k : Int) ≤ σ g 0 0 12) (hf : flags σ g) (hs : seens σ g) : flags τ g ∧ seens τ g := by
  obtain ⟨⟨-, -, -, h4, h5⟩, hm, -, hfr, -⟩ := h
  constructor
  · intro k' hk'
    by_cases e : k' = k
    · subst e; exact Or.inr h4
    · rw [hfr g 14 k' (fun z => by omega)]
      refine hf k' ?_
      rw [hm] at hk'
      split at hk' <;> omega
  · intro k' hk'
    by_cases e : k' = k
    · subst e; exact Or.inl h5
    · rw [hfr g 14 k' (fun z => by omega)]
      refine hs k' ?_
      rw [hm] at hk'
      split at hk' <;> omega
/-- new triangles stay apart, and there is room for them, if all lie in one hull -/
theorem Tadd_room {σ τ : Tab} {k a b c : Nat} {Q : Nat → V3} {T : Nat → Nat → Nat → Prop} (h : Tadd σ τ g k a b c) (hk : (k : Int) ≤ σ g 0 0 12) (hm : 0 ≤ σ g 0 0 12 ∧ σ g 0 0 12 ≤ 44) (hlow : ∀ k', k' < k → σ g 14 k' 4 = 1) (hd : ¬ live σ g k)
    (hdist : ∀ k' k'', live σ g k' → live σ g k'' → k' ≠ k'' → ¬ rot3 (tv σ g k') (tv σ g k'')) (hnew : ¬ triT σ g a b c) (H : Hul Q n S T) (hn : n ≤ 24) (f : V3) (hf : ∀ a b, S a → S b → dt f (Q a) = dt f (Q b) → a = b) (hsub : ∀ x y z, triT σ g x y z → T x y z) (hT : T a b c) :
    (0 ≤ τ g 0 0 12 ∧ τ g 0 0 12 ≤ 44) ∧ ∀ k' k'', live τ g k' → live τ g k'' → k' ≠ k'' → ¬ rot3 (tv τ g k') (tv τ g k'') := by
  obtain ⟨t1, t2⟩ := Tadd_tv h
  have nr : ∀ k', live σ g k' → ¬ rot3 (tv σ g k') (a, b, c) := fun k' hl hr => hnew ⟨k', hl, rot3_rotq hr⟩
  constructor
  · have hmm := h.2.1
    rw [hmm]
    split
    · rename_i e
      have hc := H.countT f hf (k + 1) (fun i => if i < k then tv σ g i else (a, b, c)) (fun i hi => by
        by_cases q : i < k
        · rw [if_pos q]
          exact hsub _ _ _ (tv_live ⟨by omega, hlow i q⟩)
        · rw [if_neg q]; exact hT) (fun i j hij hj hr => by
        have q : i < k := by omega
        rw [if_pos q] at hr
        by_cases q2 : j < k
        · rw [if_pos q2] at hr
          exact hdist i j ⟨by omega, hlow i q⟩ ⟨by omega, hlow j q2⟩ (by omega) hr
        · rw [if_neg q2] at hr
          exact nr i ⟨by omega, hlow i q⟩ hr)
      omega
    · omega
  · intro k' k'' hl hl' hne hr
    rcases (Tadd_live h hk k').mp hl with e | e
    · subst e
      rcases (Tadd_live h hk k'').mp hl' with e' | e'
      · exact hne e'.symm
      · rw [t1, t2 k'' (fun q => hne q.symm)] at hr
        exact nr k'' e' (rot3_sym hr)
    · have a1 : k' ≠ k := fun q => hd (q ▸ e)
      rcases (Tadd_live h hk k'').mp hl' with e' | e'
      · subst e'
        rw [t1, t2 k' a1] at hr
        exact nr k' e hr
      · have a2 : k'' ≠ k := fun q => hd (q ▸ e')
        rw [t2 k' a1, t2 k'' a2] at hr
        exact hdist k' k'' e e' hne hr
end FE

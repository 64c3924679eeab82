/-! ADD: whole -/
section FF
variable {σ : Tab} {g n p : Nat} {S : Nat → Prop} {P : Tab → Prop}
def AddFr (σ τ : Tab) (g : Nat) : Prop := (∀ g' k' i', ¬ (g' = g ∧ (k' = 14 ∨ k' = 15 ∨ (k' = 0 ∧ i' = 0) ∨ (k' = 5 ∧ i' = 0) ∨ (k' = 6 ∧ i' = 0))) → τ g' k' i' = σ g' k' i') ∧ ∀ j, j ≠ 12 → τ g 0 0 j = σ g 0 0 j
theorem AddFr.rf (σ : Tab) (g : Nat) : AddFr σ σ g := ⟨fun _ _ _ _ => rfl, fun _ _ => rfl⟩
theorem AddFr.tr {σ τ υ : Tab} (h : AddFr σ τ g) (h' : AddFr τ υ g) : AddFr σ υ g := ⟨fun g' k' i' hn => by rw [h'.1 g' k' i' hn, h.1 g' k' i' hn], fun j hj => by rw [h'.2 j hj, h.2 j hj]⟩
theorem AddFr.PD {τ : Tab} (h : AddFr σ τ g) : PD τ g = PD σ g := by
  funext i
  show v3 τ g 13 i = v3 σ g 13 i
  unfold v3
  rw [h.1 g 13 i (fun z => by omega)]
theorem PtsOK_PD {τ : Tab} (h : PtsOK σ g n) (e : PD τ g = PD σ g) : PtsOK τ g n := by
  unfold PtsOK at h ⊢
  rw [e]
  exact h
theorem ADD_triT (s nx sp : Nat → Int) : triT (ADD σ g (fun i => σ g 14 i 4) s nx sp) g = triT σ g := by
  funext a b c
  apply propext
  unfold triT
  constructor
  · rintro ⟨k, h1, h2⟩
    rw [ADD_live] at h1
    rw [ADD_tv] at h2
    exact ⟨k, h1, h2⟩
  · rintro ⟨k, h1, h2⟩
    exact ⟨k, (ADD_live k).mpr h1, by rw [ADD_tv]; exact h2⟩
theorem f_add (hT : TI σ g n S) (hp : PtsOK σ g n) (hpn : p < n) (hS : ¬ S p) (hP : ∀ τ, TI τ g n (fun q => S q ∨ q = p) → AddFr σ τ g → P τ) : wpX2_add g p σ P := by
  obtain ⟨hm, hf, hse, hsl, hdi, H⟩ := id hT
  have hn := hp.1
  refine f_add4 hT hp hpn (fun s hs1 => ⟨fun hsome => ?_, fun hnone => ?_⟩)
  · -- something is seen from above
    have hv : ∃ a b c, triT σ g a b c ∧ 0 < VV (PD σ g) a b c p := by
      obtain ⟨k, hl, hk⟩ := hsome
      exact ⟨_, _, _, tv_live hl, (abv_VV (hsl k hl)).2.mp hk⟩
    have H' := H.addOut hpn hS hv
    refine f_add126 hT hp s hs1 (fun m nx sp hmn hR => f_add244 hT m nx sp s hs1 (fun l s' hl => ?_))
    have eL : ∀ k, live (ADD σ g l s' nx sp) g k ↔ live σ g k ∧ svA σ g p k = 0 := by
      intro k
      rw [ADD_live]
      constructor
      · rintro ⟨h1, h2⟩
        have h3 := (hl k h1).2
        rw [h2] at h3
        by_cases q : svA σ g p k = 1
        · rw [if_pos q] at h3; omega
        · rw [if_neg q] at h3
          exact ⟨⟨h1, h3.symm⟩, by have := svA_f σ g p k; omega⟩
      · rintro ⟨h1, h2⟩
        refine ⟨h1.1, ?_⟩
        rw [(hl k h1.1).2, if_neg (by omega)]
        exact h1.2
    have triEnd : ∀ a b, rim (PD σ g) (triT σ g) p a b → ∃ j, j < m ∧ (sp j).toNat = a ∧ (nx (sp j).toNat).toNat = b := by
      intro a b hr
      obtain ⟨⟨c, t1, _⟩, _⟩ := id hr
      obtain ⟨k', i', hl', hi', e1, e2, _⟩ := tri_cv t1
      have hr' := hr
      rw [e1, e2] at hr'
      obtain ⟨j, hj, ej⟩ := hR.2.2 k' i' (by have := hl'.1; omega) hi' hl' hr'
      obtain ⟨k2, i2, -, -, hl2, e3, e4, hr2⟩ := hR.1 j hj
      have e5 : (sp j).toNat = a := by rw [ej, e1]; rfl
      have e6 : cv σ g k2 i2 = a := by rw [← e5, e3]; rfl
      refine ⟨j, hj, e5, ?_⟩
      rw [e5, ← e6, e4]
      rw [e6] at hr2
      have := rim_out H hr2 hr
      show cv σ g k2 (i2 + 1) = b
      exact this
    have rimJ : ∀ j, j < m → ∃ u v : Nat, sp j = u ∧ nx u = v ∧ u < n ∧ v < n ∧ rim (PD σ g) (triT σ g) p u v := by
      intro j hj
      obtain ⟨k2, i2, -, -, hl2, e3, e4, hr2⟩ := hR.1 j hj
      exact ⟨_, _, e3, e4, (cv_lt hn (hsl k2 hl2).1 _).1, (cv_lt hn (hsl k2 hl2).1 _).1, hr2⟩
    have rimS : ∀ {a b}, rim (PD σ g) (triT σ g) p a b → S a ∧ S b := fun ⟨⟨c, t, _⟩, _⟩ => ⟨H.mem t, H.mem (H.rot t)⟩
    have toA : ∀ (k : Nat) a b c, k ≤ m → ((triT σ g a b c ∧ VV (PD σ g) a b c p < 0) ∨ ∃ j, j < k ∧ rotq (sp j).toNat (nx (sp j).toNat).toNat p a b c) → triA (PD σ g) (triT σ g) p a b c := by
      rintro k a b c hk (h | ⟨j, hj, hr⟩)
      · exact Or.inl h
      · obtain ⟨u, v, e1, e2, _, _, hrm⟩ := rimJ j (by omega)
        rw [e1, Int.toNat_natCast, e2, Int.toNat_natCast] at hr
        rcases hr with ⟨rfl, rfl, rfl⟩ | ⟨rfl, rfl, rfl⟩ | ⟨rfl, rfl, rfl⟩
        · exact Or.inr (Or.inl ⟨hrm, rfl⟩)
        · exact Or.inr (Or.inr (Or.inr ⟨hrm, rfl⟩))
        · exact Or.inr (Or.inr (Or.inl ⟨hrm, rfl⟩))
    have J0 : J4 σ (ADD σ g l s' nx sp) g n p nx sp l s' 0 := by
      refine ⟨by rw [ADD_h]; exact hm, fun k hk => ?_, fun k hk => ?_, fun k hk => ?_, fun k k' h1 h2 h3 => ?_, fun a b c => ?_, fun g' k' i' _ => rfl, fun j hj => by rw [ADD_h]⟩
      · rw [ADD_h] at hk
        rw [ADD_l, (hl k hk).2]
        split
        · exact Or.inl rfl
        · exact hf k hk
      · rw [ADD_h] at hk
        rw [ADD_s, (hl k hk).1]
        exact Or.inl rfl
      · rw [ADD_slot]; exact hsl k ((eL k).mp hk).1
      · rw [ADD_tv, ADD_tv]; exact hdi k k' ((eL k).mp h1).1 ((eL k').mp h2).1 h3
      · constructor
        · rintro ⟨k, h1, h2⟩
          rw [ADD_tv] at h2
          obtain ⟨h3, h4⟩ := (eL k).mp h1
          have t : triT σ g a b c := ⟨k, h3, h2⟩
          refine Or.inl ⟨t, ?_⟩
          have e : VV (PD σ g) a b c p = VV (PD σ g) (tv σ g k).1 (tv σ g k).2.1 (tv σ g k).2.2 p := by
            rcases h2 with ⟨rfl, rfl, rfl⟩ | ⟨rfl, rfl, rfl⟩ | ⟨rfl, rfl, rfl⟩
            · rfl
            · exact VV_rot _ _ _ _ _
            · exact (VV_rot _ _ _ _ _).symm
          rw [e]
          have h5 := seen_VV (p := p) hT h3 0
          rw [cv_VV] at h5
          rcases Int.lt_or_le (VV (PD σ g) (tv σ g k).1 (tv σ g k).2.1 (tv σ g k).2.2 p) 0 with y | y
          · exact y
          · have := h5.mpr y; omega
        · rintro (⟨t, h4⟩ | ⟨j, hj, _⟩)
          · obtain ⟨k, i, h3, hi, rfl, rfl, rfl⟩ := tri_cv t
            have h5 := seen_VV (p := p) hT h3 i
            have h6 : svA σ g p k = 0 := by
              rcases svA_f σ g p k with q | q
              · exact q
              · have := h5.mp q; omega
            have t2 := cv_tri ((eL k).mpr ⟨h3, h6⟩) i
            have ecv : ∀ x, cv (ADD σ g l s' nx sp) g k x = cv σ g k x := fun x => by unfold cv; rw [ADD_c k ⟨by omega, by omega⟩]
            rw [ecv, ecv, ecv] at t2
            exact t2
          · exact absurd hj (Nat.not_lt_zero _)
    have lp : ∀ (d k : Nat) (τ : Tab), m - k = d → k ≤ m → J4 σ τ g n p nx sp l s' k → wlX2_add_297 g P (d + 1) p m k τ := by
      intro d
      induction d with
      | zero =>
        intro k τ h1 h2 hJ
        have hkm : k = m := by omega
        have ePD := J4_PD hJ
        obtain ⟨j1, j2, j3, j4, j5, j6, j7, j8⟩ := hJ
        unfold wlX2_add_297
        refine ⟨inI_sm ⟨by omega, by omega⟩, inI_sm ⟨by omega, by omega⟩, fun _ => hP τ ⟨j1, j2, j3, j4, j5, ?_⟩ ⟨fun g' k' i' hn' => ?_, j8⟩, fun z => by omega⟩
        · have e : triT τ g = triA (PD σ g) (triT σ g) p := by
            funext a b c
            apply propext
            rw [j6]
            constructor
            · exact toA k a b c h2
            · rintro (h | ⟨hr, rfl⟩ | ⟨hr, rfl⟩ | ⟨hr, rfl⟩)
              · exact Or.inl h
              · obtain ⟨j, hj, e1, e2⟩ := triEnd _ _ hr
                exact Or.inr ⟨j, by omega, Or.inl ⟨e1, e2, rfl⟩⟩
              · obtain ⟨j, hj, e1, e2⟩ := triEnd _ _ hr
                exact Or.inr ⟨j, by omega, Or.inr (Or.inr ⟨rfl, e1, e2⟩)⟩
              · obtain ⟨j, hj, e1, e2⟩ := triEnd _ _ hr
                exact Or.inr ⟨j, by omega, Or.inr (Or.inl ⟨e2, rfl, e1⟩)⟩
          rw [e, ePD]
          exact H'
        · rw [j7 g' k' i' (fun z => hn' ⟨z.1, by omega⟩)]
          exact ADD_other (fun z => hn' ⟨z.1, by omega⟩)
      | succ d ih =>
        intro k τ h1 h2 hJ
        have ePD := J4_PD hJ
        obtain ⟨j1, j2, j3, j4, j5, j6, j7, j8⟩ := id hJ
        have e6 : τ g 6 0 = sp := by rw [j7 g 6 0 (fun z => by omega)]; funext j; exact ADD_p j
        have e5 : τ g 5 0 = nx := by rw [j7 g 5 0 (fun z => by omega)]; funext j; exact ADD_n j
        obtain ⟨u, v, eu, ev, hu, hv', hr⟩ := rimJ k (by omega)
        obtain ⟨su, sv⟩ := rimS hr
        unfold wlX2_add_297
        rw [e6, e5, Int.toNat_natCast, eu, Int.toNat_natCast, ev]
        refine ⟨inI_sm ⟨by omega, by omega⟩, inI_sm ⟨by omega, by omega⟩, fun z => by omega, fun _ => ⟨⟨by omega, by omega⟩, ⟨by omega, by omega⟩, ?_⟩⟩
        have tA : triA (PD σ g) (triT σ g) p u v p := Or.inr (Or.inl ⟨hr, rfl⟩)
        refine f_triangle (PtsOK_PD hp ePD) hu hv' hpn ?_ (by omega) j2 (fun τ' k1 q1 q2 q3 hA => ?_)
        · rw [ePD]
          obtain ⟨q, _, q2⟩ := H'.str tA
          intro z
          have : VV (PD σ g) u v p q = dt (cr (sb (PD σ g v) (PD σ g u)) (sb (PD σ g p) (PD σ g u))) (sb (PD σ g q) (PD σ g u)) := rfl
          rw [z] at this
          simp [dt] at this
          omega
        · have hd : ¬ live τ g k1 := fun z => by have := q3 z.1; have := z.2; omega
          have hnew : ¬ triT τ g u v p := by
            rw [j6]
            rintro (⟨t, _⟩ | ⟨j, hj, hq⟩)
            · exact hS (H.mem (H.rot2 t))
            · obtain ⟨u', v', eu', ev', _, _, hr'⟩ := rimJ j (by omega)
              rw [eu', Int.toNat_natCast, ev', Int.toNat_natCast] at hq
              obtain ⟨su', sv'⟩ := rimS hr'
              rcases hq with ⟨a1, _, _⟩ | ⟨_, a2, _⟩ | ⟨a1, _, _⟩
              · exact hR.2.1 j k hj (by omega) (by rw [eu', eu, a1])
              · exact hS (a2 ▸ sv)
              · exact hS (a1 ▸ su)
          obtain ⟨m1, m2⟩ := Tadd_room hA q1 j1 q2 hd j5 hnew H' hn gen3 (fun a b ha hb e => gen3_inj hp (H'.bd ha) (H'.bd hb) e) (fun x y z t => toA k x y z h2 ((j6 x y z).mp t)) tA
          obtain ⟨f1, f2⟩ := Tadd_flags hA q1 j2 j3
          rw [ic]
          refine ih (k + 1) τ' (by omega) (by omega) ⟨m1, f1, f2, Tadd_slots hA q1 hu hv' hpn j4, m2, fun a b c => ?_, fun g' k' i' hn' => ?_, fun j hj => ?_⟩
          · rw [Tadd_tri hA q1 hd, j6]
            constructor
            · rintro ((t | ⟨j, hj, hq⟩) | hq)
              · exact Or.inl t
              · exact Or.inr ⟨j, by omega, hq⟩
              · exact Or.inr ⟨k, Nat.lt_succ_self _, by rw [eu, Int.toNat_natCast, ev, Int.toNat_natCast]; exact hq⟩
            · rintro (t | ⟨j, hj, hq⟩)
              · exact Or.inl (Or.inl t)
              · by_cases e : j = k
                · subst e
                  rw [eu, Int.toNat_natCast, ev, Int.toNat_natCast] at hq
                  exact Or.inr hq
                · exact Or.inl (Or.inr ⟨j, by omega, hq⟩)
          · rw [hA.2.2.2.1 g' k' i' (fun z => hn' ⟨z.1, by omega⟩)]
            exact j7 g' k' i' hn'
          · rw [hA.2.2.1 j hj, j8 j hj]
    exact ⟨_, lp _ 0 _ rfl (Nat.zero_le _) J0⟩
  · refine f_add96 hT _ _ _ (fun s hs0 => hP _ ⟨by rw [ADD_h]; exact hm, fun k hk => ?_, fun k hk => ?_, fun k hk => ?_, fun k k' h1 h2 h3 => ?_, ?_⟩ ⟨fun g' k' i' hn' => ?_, fun j hj => by rw [ADD_h]⟩) s
    · rw [ADD_h] at hk; rw [ADD_l]; exact hf k hk
    · rw [ADD_h] at hk; rw [ADD_s, hs0 k hk]; exact Or.inl rfl
    · rw [ADD_live] at hk; rw [ADD_slot]; exact hsl k hk
    · rw [ADD_live] at h1 h2; rw [ADD_tv, ADD_tv]; exact hdi k k' h1 h2 h3
    · rw [ADD_triT, ADD_PD]
      refine H.addIn hpn (fun a b c t e => ?_) (fun a b c t => ?_)
      · have sa := H.mem t
        have := hp.2.2 p a hpn (H.bd sa) e
        exact hS (this ▸ sa)
      · obtain ⟨k, i, hl, hi, rfl, rfl, rfl⟩ := tri_cv t
        rw [cv_VV]
        rcases Int.lt_or_le 0 (VV (PD σ g) (tv σ g k).1 (tv σ g k).2.1 (tv σ g k).2.2 p) with y | y
        · exact absurd ⟨k, hl, (abv_VV (hsl k hl)).2.mpr y⟩ hnone
        · exact y
    · exact ADD_other (fun z => hn' ⟨z.1, by omega⟩)
end FF

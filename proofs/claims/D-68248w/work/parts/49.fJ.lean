/-! UNITE: its loops -/
section FJ
variable {σ : Tab} {g n : Nat} {S : Nat → Prop} {P : Tab → Prop}
theorem TI_congr2 {τ τ' : Tab} (h0 : τ' g 0 0 12 = τ g 0 0 12) (h13 : ∀ i, τ' g 13 i = τ g 13 i) (h14 : ∀ i j, j ≠ 5 → τ' g 14 i j = τ g 14 i j) (h15 : ∀ i, τ' g 15 i = τ g 15 i) (hs : seens τ' g) (h : TI τ g n S) : TI τ' g n S := by
  have e1 : PD τ' g = PD τ g := by funext i; unfold PD v3; rw [h13]
  have e2 : ∀ k, tv τ' g k = tv τ g k := fun k => by unfold tv; rw [h14 k 1 (by decide), h14 k 2 (by decide), h14 k 3 (by decide)]
  have e3 : ∀ k, live τ' g k ↔ live τ g k := fun k => by unfold live; rw [h0, h14 k 4 (by decide)]
  have e4 : ∀ k, v3 τ' g 15 k = v3 τ g 15 k := fun k => by unfold v3; rw [h15]
  have e5 : triT τ' g = triT τ g := by
    funext a b c
    apply propext
    unfold triT
    constructor
    · rintro ⟨k, a1, a2⟩; exact ⟨k, (e3 k).mp a1, by rw [← e2]; exact a2⟩
    · rintro ⟨k, a1, a2⟩; exact ⟨k, (e3 k).mpr a1, by rw [e2]; exact a2⟩
  obtain ⟨j1, j2, j3, j4, j5, j6⟩ := h
  refine ⟨by rw [h0]; exact j1, fun k hk => by rw [h14 k 4 (by decide)]; rw [h0] at hk; exact j2 k hk, hs, fun k hk => ?_, fun k k' a1 a2 a3 => by rw [e2, e2]; exact j5 k k' ((e3 k).mp a1) ((e3 k').mp a2) a3, by rw [e1, e5]; exact j6⟩
  obtain ⟨c1, G, g1, g2, g3, g4⟩ := j4 k ((e3 k).mp hk)
  refine ⟨by unfold corOK at c1 ⊢; rw [h14 k 1 (by decide), h14 k 2 (by decide), h14 k 3 (by decide)]; exact c1, G, g1, by rw [e4, e1, e2]; exact g2, by rw [e4]; exact g3, by rw [e4, e1, e2, h15]; exact g4⟩
theorem ADD_17 {l s nx sp : Nat → Int} (i : Nat) : ADD σ g l s nx sp g 17 i = σ g 17 i := ADD_other (fun z => by omega)
theorem ADD_15r {l s nx sp : Nat → Int} (i : Nat) : ADD σ g l s nx sp g 15 i = σ g 15 i := ADD_other (fun z => by omega)
theorem psame_k {k j fi : Nat} (h17 : ∀ j, j < 4 → σ g 17 fi j = σ g 15 k j) {l s nx sp : Nat → Int} : psame (ADD σ g l s nx sp) g 15 j g 17 fi ↔ psame σ g 15 j g 15 k := by
  unfold psame
  rw [ADD_17, ADD_15r, h17 0 (by decide), h17 1 (by decide), h17 2 (by decide), h17 3 (by decide)]
theorem inP_row {τ τ' : Tab} {g k i g' k' i' : Nat} (h : ∀ j, j < 4 → τ' g' k' i' j = τ g k i j) (hp : inP τ g k i) : inP τ' g' k' i' := by
  unfold inP at hp ⊢
  rw [h 0 (by decide), h 1 (by decide), h 2 (by decide), h 3 (by decide)]
  exact hp
/-- marks of the triangles of the plane -/
theorem f_u28 (hT : TI σ g n S) (hp : PtsOK σ g n) {k fi : Nat} (hl : live σ g k) (h17 : ∀ j, j < 4 → σ g 17 fi j = σ g 15 k j)
    (hK : ∀ s : Nat → Int, (∀ j : Nat, j < k → s j = σ g 14 j 5) → (∀ j : Nat, k ≤ j → (j : Int) < σ g 0 0 12 → (s j = 0 ∨ s j = 1) ∧ (s j = 1 ↔ (σ g 14 j 5 = 1 ∨ (live σ g j ∧ psame σ g 15 j g 15 k)))) → ∃ q, wlX2_unite_99 g P q fi (-1) 0 k (ADD σ g (fun i => σ g 14 i 4) s (σ g 5 0) (σ g 6 0))) :
    ∃ q, wlX2_unite_28 g P q k fi k σ := by
  obtain ⟨hm, hf, hse, hs, -, -⟩ := hT
  have iM : inI (σ g 0 0 12) := inI_sm ⟨by omega, by omega⟩
  have hk := hl.1
  have lp : ∀ (m j : Nat) (s : Nat → Int), (σ g 0 0 12).toNat - j = m → k ≤ j → (j : Int) ≤ σ g 0 0 12 → (∀ x, x < k → s x = σ g 14 x 5) → (∀ x, j ≤ x → s x = σ g 14 x 5) →
      (∀ x : Nat, k ≤ x → x < j → (s x = 0 ∨ s x = 1) ∧ (s x = 1 ↔ (σ g 14 x 5 = 1 ∨ (live σ g x ∧ psame σ g 15 x g 15 k)))) → wlX2_unite_28 g P (m + 1) k fi j (ADD σ g (fun i => σ g 14 i 4) s (σ g 5 0) (σ g 6 0)) := by
    intro m
    induction m with
    | zero =>
      intro j s h1 h2 h3 h4 h5 h6
      unfold wlX2_unite_28
      simp only [ADD_h]
      exact ⟨inI_sm ⟨by omega, by omega⟩, iM, fun _ => hK s h4 (fun x hx hxm => h6 x hx (by omega)), fun z => by omega⟩
    | succ m ih =>
      intro j s h1 h2 h3 h4 h5 h6
      unfold wlX2_unite_28
      simp only [ADD_h, ADD_s, ADD_l, Int.toNat_natCast, ic]
      have sj := h5 j (Nat.le_refl _)
      have hsj := hse j (by omega)
      have hfj := hf j (by omega)
      have nxt : ∀ (σ8 : Tab) (v : Int), σ8 = st (ADD σ g (fun i => σ g 14 i 4) s (σ g 5 0) (σ g 6 0)) g 14 j 5 v → (v = 0 ∨ v = 1) → (v = 1 ↔ (σ g 14 j 5 = 1 ∨ (live σ g j ∧ psame σ g 15 j g 15 k))) → wlX2_unite_28 g P (m + 1) k fi ((j + 1 : Nat) : Int) σ8 := by
        intro σ8 v e hv hiff
        rw [e, ADD_st5]
        refine ih (j + 1) _ (by omega) (by omega) (by omega) (fun x hx => ?_) (fun x hx => ?_) (fun x hx hxj => ?_)
        · unfold upr; rw [if_neg (by omega)]; exact h4 x hx
        · unfold upr; rw [if_neg (by omega)]; exact h5 x (by omega)
        · unfold upr
          by_cases q : x = j
          · rw [if_pos q, q]; exact ⟨hv, hiff⟩
          · rw [if_neg q]; exact h6 x hx (by omega)
      refine ⟨inI_sm ⟨by omega, by omega⟩, iM, fun z => by omega, fun _ => ⟨⟨by omega, by omega⟩, by rw [sj]; exact inI_f hsj, fun z σ8 e8 => nxt σ8 1 e8 (Or.inr rfl) ?_, fun z => ⟨inI_f hfj, fun w σ11 e11 => nxt σ11 0 e11 (Or.inl rfl) ?_, fun w => ?_⟩⟩⟩
      · rw [sj] at z
        exact ⟨fun _ => Or.inl (by omega), fun _ => rfl⟩
      · rw [sj] at z
        constructor
        · intro q; omega
        · rintro (q | q)
          · exact absurd (show σ g 14 j 5 ≠ 0 by omega) z
          · have := q.1.2; omega
      · rw [sj] at z
        have hlj : live σ g j := ⟨by omega, by omega⟩
        have ipj := slot_inP hp (hs j hlj)
        have ipk := slot_inP hp (hs k hl)
        refine f_same (inP_row (fun x _ => by rw [ADD_15r]) ipj) (inP_row (fun x hx => by rw [ADD_17]; exact h17 x hx) ipk) (fun q => ?_) (fun q => ?_)
        · rw [psame_k h17] at q
          exact ⟨⟨by decide, by decide⟩, fun y => absurd y (by decide), fun _ σ16 e16 => nxt σ16 1 e16 (Or.inr rfl) ⟨fun _ => Or.inr ⟨hlj, q⟩, fun _ => rfl⟩⟩
        · rw [psame_k h17] at q
          refine ⟨⟨by decide, by decide⟩, fun _ σ15 e15 => nxt σ15 0 e15 (Or.inl rfl) ⟨fun y => by omega, ?_⟩, fun y => absurd rfl y⟩
          rintro (y | y)
          · exact absurd (show σ g 14 j 5 ≠ 0 by omega) z
          · exact absurd y.2 q
  have := lp _ k (fun i => σ g 14 i 5) rfl (Nat.le_refl _) (by omega) (fun _ _ => rfl) (fun _ _ => rfl) (fun x h1 h2 => by omega)
  rw [← ADD_0] at this
  exact ⟨_, this⟩
/-- the rim is found -/
theorem f_u99 (hT : TI σ g n (fun q => q < n)) (hp : PtsOK σ g n) {k fi : Nat} (hl : live σ g k) (h17 : ∀ j, j < 4 → σ g 17 fi j = σ g 15 k j) (s : Nat → Int)
    (hK : ∀ (m : Nat) (nx : Nat → Int) (gs : Nat → Nat), Ru σ g n k nx gs m (σ g 0 0 12).toNat 0 → ∀ σ4, σ4 = st (ADD σ g (fun i => σ g 14 i 4) s nx (σ g 6 0)) g 16 fi 2 m → ∃ q, wlX2_unite_235 g P q fi m (if m = 0 then -1 else gs (m - 1)) 0 σ4) :
    ∃ q, wlX2_unite_99 g P q fi (-1) 0 k (ADD σ g (fun i => σ g 14 i 4) s (σ g 5 0) (σ g 6 0)) := by
  obtain ⟨hm, hf, hse, hs, -, H⟩ := id hT
  have hn := hp.1
  have iM : inI (σ g 0 0 12) := inI_sm ⟨by omega, by omega⟩
  have hk := hl.1
  have lp : ∀ (d j m : Nat) (nx : Nat → Int) (gs : Nat → Nat) (x3 : Int), (σ g 0 0 12).toNat - j = d → (j : Int) ≤ σ g 0 0 12 → Ru σ g n k nx gs m j 0 → x3 = (if m = 0 then -1 else (gs (m - 1) : Int)) → wlX2_unite_99 g P (d + 1) fi x3 m j (ADD σ g (fun i => σ g 14 i 4) s nx (σ g 6 0)) := by
    intro d
    induction d with
    | zero =>
      intro j m nx gs x3 h1 h2 h3 h4
      have ej : j = (σ g 0 0 12).toNat := by omega
      have jI : inI (j : Int) := inI_sm ⟨by omega, by omega⟩
      subst ej
      unfold wlX2_unite_99
      simp only [ADD_h]
      refine ⟨jI, iM, fun _ σ4 e4 => ?_, fun z => by omega⟩
      rw [h4]
      exact hK m nx gs h3 σ4 e4
    | succ d ih =>
      intro j m nx gs x3 h1 h2 h3 h4
      unfold wlX2_unite_99
      simp only [ADD_h, Int.toNat_natCast]
      refine ⟨inI_sm ⟨by omega, by omega⟩, iM, fun z => by omega, fun _ => ⟨⟨by omega, by omega⟩, 4, ?_⟩⟩
      have hfj := hf j (by omega)
      have inner : ∀ (e i m : Nat) (nx : Nat → Int) (gs : Nat → Nat) (x3 : Int), 3 - i = e → i ≤ 3 → Ru σ g n k nx gs m j i → x3 = (if m = 0 then -1 else (gs (m - 1) : Int)) → wlX2_unite_120 g P (fun i2 x3 x4 x5 τ => wlX2_unite_99 g P (d + 1) i2 x3 x4 x5 τ) (e + 1) fi x3 m j j i (ADD σ g (fun i => σ g 14 i 4) s nx (σ g 6 0)) := by
        intro e
        induction e with
        | zero =>
          intro i m nx gs x3 h1 h2 h3 h4
          have hi3 : i = 3 := by omega
          subst hi3
          unfold wlX2_unite_120
          refine ⟨⟨by decide, by decide⟩, fun _ => ?_, fun z => absurd (by decide) z⟩
          rw [ic]
          exact ih (j + 1) m nx gs x3 (by omega) (by omega) (Ru_row h3) h4
        | succ e ihe =>
          intro i m nx gs x3 h1 h2 h3 h4
          unfold wlX2_unite_120
          simp only [ADD_l, ic]
          have out : (live σ g j → ¬ psame σ g 15 j g 15 k) → wlX2_unite_99 g P (d + 1) fi x3 m ((j + 1 : Nat) : Int) (ADD σ g (fun i => σ g 14 i 4) s nx (σ g 6 0)) := fun hno => ih (j + 1) m nx gs x3 (by omega) (by omega) (Ru_skip h3 h2 hno) h4
          refine ⟨inI_sm ⟨by omega, by omega⟩, fun z => by omega, fun _ => ⟨inI_f hfj, fun z => out (fun hlj => by have := hlj.2; omega), fun z => ?_⟩⟩
          have hlj : live σ g j := ⟨by omega, by omega⟩
          have ipj := slot_inP hp (hs j hlj)
          have ipk := slot_inP hp (hs k hl)
          have ip17 : ∀ nx : Nat → Int, inP (ADD σ g (fun i => σ g 14 i 4) s nx (σ g 6 0)) g 17 fi := fun nx => inP_row (fun x hx => by rw [ADD_17]; exact h17 x hx) ipk
          refine f_same (inP_row (fun x _ => by rw [ADD_15r]) ipj) (ip17 nx) (fun q => ?_) (fun q => ?_)
          · rw [psame_k h17] at q
            refine ⟨⟨by decide, by decide⟩, fun y => absurd y (by decide), fun _ => ?_⟩
            have hcor := (hs j hlj).1
            have rd : ∀ (nx : Nat → Int) (x : Nat), ADD σ g (fun i => σ g 14 i 4) s nx (σ g 6 0) g 14 j (1 + x % 3) = (cv σ g j x : Int) := by
              intro nx x
              rw [ADD_c j ⟨by omega, by omega⟩]
              exact (cv_lt hn hcor x).2.symm
            have u24 := (cv_lt hn hcor i).1
            have v24 := (cv_lt hn hcor (i + 1)).1
            refine f_get5 ⟨by omega, by omega⟩ ?_
            rw [Int.toNat_natCast, rd]
            refine f_get5 ⟨by omega, by omega⟩ ?_
            rw [Int.toNat_natCast, rd]
            have eqv : withinE (ADD σ g (fun i => σ g 14 i 4) s nx (σ g 6 0)) g g 17 fi (cv σ g j (i + 1) : Int) (cv σ g j i : Int) ↔ ∃ k2, live σ g k2 ∧ psame σ g 15 k2 g 15 k ∧ tgo σ g k2 (cv σ g j (i + 1) : Int) (cv σ g j i : Int) := by
              unfold withinE
              have tg : ∀ k', tgo (ADD σ g (fun i => σ g 14 i 4) s nx (σ g 6 0)) g k' (cv σ g j (i + 1) : Int) (cv σ g j i : Int) ↔ tgo σ g k' (cv σ g j (i + 1) : Int) (cv σ g j i : Int) := by
                intro k'
                unfold tgo
                rw [ADD_c k' (show (1:Nat) ≠ 4 ∧ (1:Nat) ≠ 5 by decide), ADD_c k' (show (2:Nat) ≠ 4 ∧ (2:Nat) ≠ 5 by decide), ADD_c k' (show (3:Nat) ≠ 4 ∧ (3:Nat) ≠ 5 by decide)]
              constructor
              · rintro ⟨k', q1, q2, q3⟩
                exact ⟨k', (ADD_live k').mp q1, (psame_k h17).mp q2, (tg k').mp q3⟩
              · rintro ⟨k', q1, q2, q3⟩
                exact ⟨k', (ADD_live k').mpr q1, (psame_k h17).mpr q2, (tg k').mpr q3⟩
            refine f_within (n := n) hn (by rw [ADD_h]; omega) (fun k' hk' => by rw [ADD_h] at hk'; rw [ADD_l]; exact hf k' hk') (fun k' hk' => by rw [ADD_live] at hk'; rw [ADD_cor]; exact ⟨(hs k' hk').1, inP_row (fun x _ => by rw [ADD_15r]) (slot_inP hp (hs k' hk'))⟩) (ip17 nx) (inI_sm ⟨by omega, by omega⟩) (inI_sm ⟨by omega, by omega⟩) (fun hw => ?_) (fun hw => ?_)
            · refine ⟨⟨by decide, by decide⟩, fun y => absurd y (by decide), fun _ => ?_⟩
              exact ihe (i + 1) m nx gs x3 (by omega) (by omega) (Ru_no h3 (fun _ _ _ => eqv.mp hw)) h4
            · refine ⟨⟨by decide, by decide⟩, fun _ => ?_, fun y => absurd rfl y⟩
              refine f_get5 ⟨by omega, by omega⟩ ?_
              rw [Int.toNat_natCast, rd]
              refine f_get5 ⟨by omega, by omega⟩ ?_
              rw [Int.toNat_natCast, rd]
              refine ⟨⟨by omega, by omega⟩, fun σ16 e16 => ?_⟩
              rw [e16, ADD_stn, Int.toNat_natCast]
              refine f_get5 ⟨by omega, by omega⟩ ?_
              rw [Int.toNat_natCast, rd]
              refine ihe (i + 1) (m + 1) _ _ _ (by omega) (by omega) (Ru_new hT hn h3 hl hlj (by omega) q (fun y => hw (eqv.mpr y))) ?_
              rw [if_neg (by omega)]
              simp
          · rw [psame_k h17] at q
            exact ⟨⟨by decide, by decide⟩, fun _ => out (fun _ => q), fun y => absurd rfl y⟩
      exact inner 3 0 m nx gs x3 rfl (by decide) h3 h4
  exact ⟨_, lp _ k 0 _ (fun _ => 0) (-1) rfl (by omega) (Ru_0 _ _ _ _ _ _) rfl⟩
end FJ

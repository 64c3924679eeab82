/-! UNITE: whole -/
section FK
theorem modl {a m : Nat} (h : a < 2 * m) : a % m = if a < m then a else a - m := by
  split
  · exact Nat.mod_eq_of_lt (by assumption)
  · rw [Nat.mod_eq_sub_mod (by omega), Nat.mod_eq_of_lt (by omega)]
/-- a cycle, turned so that the lowest is first, is a face -/
theorem cyc_face {P : Nat → V3} {n : Nat} {nn : V3} {off : Int} {m low s0 : Nat} {f : Nat → Nat} (hpr : prim nn) (hF : Fac P (fun q => q < n) nn off) (h3 : 3 ≤ m) (hmn : m ≤ n) (hin : ∀ i, itf f i s0 < n ∧ dt nn (P (itf f i s0)) = off ∧ goOn P (fun q => q < n) nn off (itf f i s0) (itf f (i + 1) s0)) (hback : itf f m s0 = s0) (hdis : ∀ i j, i < j → j < m → itf f i s0 ≠ itf f j s0)
    (hcov : ∀ v x, v < n → x < n → dt nn (P v) = off → dt nn (P x) = off → goOn P (fun q => q < n) nn off v x → ∃ i, i < m ∧ itf f i s0 = v) (hlow : low < m) (hmin : ∀ i, i < m → itf f low s0 ≤ itf f i s0) : FaceIs P n nn off m (fun i => itf f ((low + i) % m) s0) := by
  have hm0 : 0 < m := by omega
  have nxt : ∀ b, b < m → itf f ((b + 1) % m) s0 = itf f (b + 1) s0 := by
    intro b hb
    by_cases e : b + 1 = m
    · rw [e, Nat.mod_self, hback]; rfl
    · rw [Nat.mod_eq_of_lt (by omega)]
  refine ⟨hpr, hF, ⟨h3, hmn⟩, fun i hi => ⟨(hin _).1, (hin _).2.1⟩, fun i hi => ?_, fun i j hij hj => ?_, fun i hi => ?_, fun v x hv hx hvp hxp hg => ?_⟩
  · have e : (low + (i + 1) % m) % m = ((low + i) % m + 1) % m := by
      rw [Nat.add_mod_mod, Nat.mod_add_mod]
      rfl
    show goOn P _ nn off (itf f ((low + i) % m) s0) (itf f ((low + (i + 1) % m) % m) s0)
    rw [e, nxt _ (Nat.mod_lt _ hm0)]
    exact (hin _).2.2
  · show itf f ((low + i) % m) s0 ≠ itf f ((low + j) % m) s0
    rw [modl (show low + i < 2 * m by omega), modl (show low + j < 2 * m by omega)]
    split <;> split
    · exact hdis _ _ (by omega) (by omega)
    · exact (hdis _ _ (by omega) (by omega)).symm
    · omega
    · exact hdis _ _ (by omega) (by omega)
  · show itf f ((low + 0) % m) s0 ≤ itf f ((low + i) % m) s0
    rw [Nat.add_zero, Nat.mod_eq_of_lt hlow]
    exact hmin _ (Nat.mod_lt _ hm0)
  · obtain ⟨i, hi, e⟩ := hcov v x hv hx hvp hxp hg
    refine ⟨(m - low + i) % m, Nat.mod_lt _ hm0, ?_⟩
    show itf f ((low + (m - low + i) % m) % m) s0 = v
    rw [Nat.add_mod_mod, show low + (m - low + i) = m + i by omega, Nat.add_mod_left, Nat.mod_eq_of_lt hi]
    exact e
/-- a face in the table -/
def FaceT (σ : Tab) (g n fx : Nat) : Prop := ∃ (sz : Nat) (co : Nat → Nat), σ g 16 fx 2 = sz ∧ (∀ i, i < sz → σ g 18 fx i = co i) ∧ FaceIs (PD σ g) n (v3 σ g 17 fx) (σ g 17 fx 3) sz co
def fxs (σ : Tab) (g j : Nat) : Nat := (σ g 3 0 j).toNat
def FP (σ : Tab) (g : Nat) : Prop := (∀ j, j < 44 → 0 ≤ σ g 3 0 j ∧ σ g 3 0 j < 44) ∧ ∀ i j, i < j → j < 44 → σ g 3 0 i ≠ σ g 3 0 j
theorem FP_ne {σ : Tab} {g i j : Nat} (h : FP σ g) (hij : i ≠ j) (hi : i < 44) (hj : j < 44) : fxs σ g i ≠ fxs σ g j := by
  intro e
  have a1 := h.1 i hi
  have a2 := h.1 j hj
  unfold fxs at e
  rcases Nat.lt_or_gt_of_ne hij with q | q
  · exact h.2 i j q hj (by omega)
  · exact h.2 j i q hi (by omega)
/-- while faces are united -/
def US (σ : Tab) (g n fc k : Nat) : Prop :=
  TI σ g n (fun q => q < n) ∧ PtsOK σ g n ∧ FP σ g ∧ σ g 0 0 13 = fc ∧ fc ≤ 44 ∧ (∀ j, j < fc → FaceT σ g n (fxs σ g j)) ∧ (∀ j, j < fc → ∃ w, live σ g w ∧ psame σ g 15 w g 17 (fxs σ g j)) ∧
  (∀ i j, i < j → j < fc → ¬ psame σ g 17 (fxs σ g i) g 17 (fxs σ g j)) ∧
  (∀ k', live σ g k' → (k' < k → ∃ j, j < fc ∧ psame σ g 15 k' g 17 (fxs σ g j)) ∧ (k ≤ k' → (σ g 14 k' 5 = 1 ↔ ∃ j, j < fc ∧ psame σ g 15 k' g 17 (fxs σ g j))))
def UFr (σ τ : Tab) (g : Nat) : Prop := (∀ g' k' i', ¬ (g' = g ∧ (k' = 14 ∨ k' = 16 ∨ k' = 17 ∨ k' = 18 ∨ (k' = 5 ∧ i' = 0) ∨ (k' = 6 ∧ i' = 0) ∨ (k' = 0 ∧ i' = 0))) → τ g' k' i' = σ g' k' i') ∧ ∀ j, j ≠ 13 → τ g 0 0 j = σ g 0 0 j
theorem UFr.tr {σ τ υ : Tab} {g : Nat} (h : UFr σ τ g) (h' : UFr τ υ g) : UFr σ υ g := ⟨fun g' k' i' hn => by rw [h'.1 g' k' i' hn, h.1 g' k' i' hn], fun j hj => by rw [h'.2 j hj, h.2 j hj]⟩
theorem UFr.rf (σ : Tab) (g : Nat) : UFr σ σ g := ⟨fun _ _ _ _ => rfl, fun _ _ => rfl⟩
theorem psame_tr {σ : Tab} {g k i g' k' i' g'' k'' i'' : Nat} (h : psame σ g k i g' k' i') (h' : psame σ g' k' i' g'' k'' i'') : psame σ g k i g'' k'' i'' := ⟨h.1.trans h'.1, h.2.1.trans h'.2.1, h.2.2.1.trans h'.2.2.1, h.2.2.2.trans h'.2.2.2⟩
theorem psame_sy {σ : Tab} {g k i g' k' i' : Nat} (h : psame σ g k i g' k' i') : psame σ g' k' i' g k i := ⟨h.1.symm, h.2.1.symm, h.2.2.1.symm, h.2.2.2.symm⟩
theorem f_unite {σ : Tab} {g n fc k : Nat} {P : Tab → Prop} (h : US σ g n fc k) (hl : live σ g k) (hns : σ g 14 k 5 = 0) (hP : ∀ τ, US τ g n (fc + 1) (k + 1) → UFr σ τ g → P τ) : wpX2_unite g k σ P := by
  obtain ⟨hT, hp, hFP, hfc, hfc44, hFT, hW, hD, hSee⟩ := id h
  have hn := hp.1
  have hm := hT.1
  -- its plane is new
  have new : ∀ j, j < fc → ¬ psame σ g 15 k g 17 (fxs σ g j) := by
    intro j hj q
    have := ((hSee k hl).2 (Nat.le_refl _)).mpr ⟨j, hj, q⟩
    omega
  -- so there is room
  have room : fc < 44 := by
    have H := hT.2.2.2.2.2
    have ex : ∀ j, j < fc → ∃ w, live σ g w ∧ psame σ g 15 w g 17 (fxs σ g j) := hW
    have sp : ∀ j, j < fc → live σ g (Classical.epsilon (fun w => live σ g w ∧ psame σ g 15 w g 17 (fxs σ g j))) ∧ psame σ g 15 (Classical.epsilon (fun w => live σ g w ∧ psame σ g 15 w g 17 (fxs σ g j))) g 17 (fxs σ g j) := fun j hj => Classical.epsilon_spec (ex j hj)
    have cnt := H.countT gen3 (fun a b ha hb e => gen3_inj hp ha hb e) (fc + 1) (fun j => if j < fc then tv σ g (Classical.epsilon (fun w => live σ g w ∧ psame σ g 15 w g 17 (fxs σ g j))) else tv σ g k) (fun j hj => by
      by_cases q : j < fc
      · rw [if_pos q]; exact tv_live (sp j q).1
      · rw [if_neg q]; exact tv_live hl) (fun i j hij hj hr => by
      have qi : i < fc := by omega
      rw [if_pos qi] at hr
      by_cases q : j < fc
      · rw [if_pos q] at hr
        refine hT.2.2.2.2.1 _ _ (sp i qi).1 (sp j q).1 (fun e => ?_) hr
        have a1 := (sp i qi).2
        rw [e] at a1
        exact hD i j hij q (psame_tr (psame_sy a1) (sp j q).2)
      · rw [if_neg q] at hr
        refine hT.2.2.2.2.1 _ _ (sp i qi).1 hl (fun e => ?_) hr
        have a1 := (sp i qi).2
        rw [e] at a1
        exact new i qi a1)
    omega
  have hfi := hFP.1 fc room
  unfold wpX2_unite
  rw [hfc, Int.toNat_natCast]
  have hkb := hl.1
  refine ⟨⟨by omega, by omega⟩, hfi, ⟨by omega, by omega⟩, ?_⟩
  rw [Int.toNat_natCast]
  have efi : (σ g 3 0 fc).toNat = fxs σ g fc := rfl
  rw [efi]
  obtain ⟨fi, hfid⟩ : ∃ fi, fi = fxs σ g fc := ⟨_, rfl⟩
  rw [← hfid]
  -- the plane is copied
  intro σ1 e1 σ2 e2 σ3 e3 σ4 e4
  have k4 : keepR σ σ4 g 17 fi := by rw [e4, e3, e2, e1]; exact keepR_st (keepR_st (keepR_st (keepR_st (keepR_rf _ _ _ _))))
  have h17 : ∀ j, j < 4 → σ4 g 17 fi j = σ g 15 k j := by
    intro j hj
    have r1 : σ1 g 15 k = σ g 15 k := by rw [e1]; exact st_k (by decide)
    have r2 : σ2 g 15 k = σ g 15 k := by rw [e2, st_k (by decide)]; exact r1
    have r3 : σ3 g 15 k = σ g 15 k := by rw [e3, st_k (by decide)]; exact r2
    have cs : j = 0 ∨ j = 1 ∨ j = 2 ∨ j = 3 := by omega
    rcases cs with rfl | rfl | rfl | rfl
    · rw [e4, st_j (by decide), e3, st_j (by decide), e2, st_j (by decide), e1, st_same]
    · rw [e4, st_j (by decide), e3, st_j (by decide), e2, st_same, r1]
    · rw [e4, st_j (by decide), e3, st_same, r2]
    · rw [e4, st_same, r3]
  clear e1 e2 e3 e4
  have o0 : σ4 g 0 0 = σ g 0 0 := k4 _ _ _ (fun z => by omega)
  have o13 : ∀ i, σ4 g 13 i = σ g 13 i := fun i => k4 _ _ _ (fun z => by omega)
  have o14 : ∀ i, σ4 g 14 i = σ g 14 i := fun i => k4 _ _ _ (fun z => by omega)
  have o15 : ∀ i, σ4 g 15 i = σ g 15 i := fun i => k4 _ _ _ (fun z => by omega)
  have hT4 : TI σ4 g n (fun q => q < n) := TI_congr o0 o13 o14 o15 hT
  have ePD4 : PD σ4 g = PD σ g := by funext i; unfold PD v3; rw [o13]
  have hp4 : PtsOK σ4 g n := PtsOK_PD hp ePD4
  have live4 : ∀ k', live σ4 g k' ↔ live σ g k' := fun k' => by unfold live; rw [o0, o14]
  have hl4 : live σ4 g k := (live4 k).mpr hl
  have ps4 : ∀ a b, psame σ4 g 15 a g 15 b ↔ psame σ g 15 a g 15 b := fun a b => by unfold psame; rw [o15, o15]
  have h17' : ∀ j, j < 4 → σ4 g 17 fi j = σ4 g 15 k j := fun j hj => by rw [o15]; exact h17 j hj
  refine f_u28 hT4 hp4 hl4 h17' (fun s hs1 hs2 => f_u99 hT4 hp4 hl4 h17' s (fun m nx gs hR X eX => ?_))
  -- once around
  obtain ⟨c3, cn, cin, cback, cdis, ccov⟩ := Ru_cycle hT4 hp4 hl4 (fun k1 h1 h2 q => by
    have h1' := (live4 k1).mp h1
    obtain ⟨j, hj, q2⟩ := (hSee k1 h1').1 h2
    exact new j hj (psame_tr (psame_sy ((ps4 _ _).mp q)) q2)) hR
  rw [if_neg (by omega)]
  obtain ⟨s0, hs0⟩ : ∃ s0, s0 = gs (m - 1) := ⟨_, rfl⟩
  rw [← hs0] at cin cback cdis ccov ⊢
  have X16 : X g 16 fi 2 = m := by rw [eX, st_same]
  have X5 : X g 5 0 = nx := by rw [eX, st_k (by decide)]; funext j; exact ADD_n j
  -- rows of X
  have Xo : ∀ g' k' i', ¬ (g' = g ∧ (k' = 14 ∨ (k' = 16 ∧ i' = fi) ∨ (k' = 17 ∧ i' = fi) ∨ (k' = 5 ∧ i' = 0) ∨ (k' = 6 ∧ i' = 0))) → X g' k' i' = σ g' k' i' := by
    intro g' k' i' hn'
    rw [eX, st_ne (fun z => hn' ⟨z.1, by omega⟩), ADD_other (fun z => hn' ⟨z.1, by omega⟩), k4 _ _ _ (fun z => hn' ⟨z.1, by omega⟩)]
  have X17 : X g 17 fi = σ4 g 17 fi := by rw [eX, st_k (by decide), ADD_17]
  have X14 : ∀ i j, j ≠ 5 → X g 14 i j = σ g 14 i j := by
    intro i j hj
    rw [eX, st_k (by decide)]
    by_cases q : j = 4
    · subst q; rw [ADD_l, o14]
    · rw [ADD_c i ⟨q, hj⟩, o14]
  have X145 : ∀ i, X g 14 i 5 = s i := fun i => by rw [eX, st_k (by decide), ADD_s]
  clear eX
  have lp : ∀ (d j : Nat) (r : Nat → Int), m - j = d → j ≤ m → (∀ i, i < j → r i = (itf (fun v => (nx v).toNat) i s0 : Int)) → wlX2_unite_235 g P (d + 1) fi m (itf (fun v => (nx v).toNat) j s0) j (strow X g 18 fi r) := by
    intro d
    induction d with
    | zero =>
      intro j r h1 h2 h3
      unfold wlX2_unite_235
      refine ⟨inI_sm ⟨by omega, by omega⟩, inI_sm ⟨by omega, by omega⟩, fun _ => ?_, fun z => by omega⟩
      refine f_rotate (sz := m) (co := fun i => itf (fun v => (nx v).toNat) i s0) (by rw [strow_ne (fun z => by omega)]; exact X16) (by omega) (by omega) (fun i hi => ⟨by rw [strow_self]; exact h3 i (by omega), by have := (cin i).1; omega⟩) (fun τ low hlow hmin hfr hco σ5 e5 => ?_)
      have hF := slot_fac hT hl
      rw [ePD4, show v3 σ4 g 15 k = v3 σ g 15 k by unfold v3; rw [o15], show σ4 g 15 k 3 = σ g 15 k 3 by rw [o15]] at cin ccov
      have face := cyc_face (P := PD σ g) hF.2.1 hF.1 c3 cn (fun i => ⟨(cin i).1, (cin i).2.1, (cin i).2.2.2⟩) cback cdis ccov hlow hmin
      -- rows of the end
      have τo : ∀ g' k' i', ¬ (g' = g ∧ (k' = 14 ∨ (k' = 16 ∧ i' = fi) ∨ (k' = 17 ∧ i' = fi) ∨ (k' = 18 ∧ i' = fi) ∨ (k' = 5 ∧ i' = 0) ∨ (k' = 6 ∧ i' = 0) ∨ (k' = 0 ∧ i' = 0))) → σ5 g' k' i' = σ g' k' i' := by
        intro g' k' i' hn'
        rw [e5, st_ne (fun z => hn' ⟨z.1, by omega⟩), hfr _ _ _ (fun z => hn' ⟨z.1, by omega⟩), strow_ne (fun z => hn' ⟨z.1, by omega⟩), Xo _ _ _ (fun z => hn' ⟨z.1, by omega⟩)]
      have τX : ∀ k' i', k' ≠ 0 → k' ≠ 6 → k' ≠ 18 → σ5 g k' i' = X g k' i' := by
        intro k' i' a1 a2 a3
        rw [e5, st_k a1, hfr _ _ _ (fun z => by omega), strow_ne (fun z => by omega)]
      have τ0 : ∀ j, σ5 g 0 0 j = if j = 13 then (fc : Int) + 1 else σ g 0 0 j := by
        intro j
        have t0 : τ g 0 0 = σ g 0 0 := by rw [hfr _ _ _ (fun z => by omega), strow_ne (fun z => by omega), Xo _ _ _ (fun z => by omega)]
        by_cases q : j = 13
        · subst q; rw [if_pos rfl, e5, st_same, t0, hfc]
        · rw [if_neg q, e5, st_j q, t0]
      have τ18 : ∀ i, i < m → σ5 g 18 fi i = (itf (fun v => (nx v).toNat) ((low + i) % m) s0 : Int) := by
        intro i hi
        rw [e5, st_k (by decide)]
        exact hco i hi
      have τ13 : ∀ i, σ5 g 13 i = σ g 13 i := fun i => τo _ _ _ (fun z => by omega)
      have τ15 : ∀ i, σ5 g 15 i = σ g 15 i := fun i => τo _ _ _ (fun z => by omega)
      have τ3 : σ5 g 3 0 = σ g 3 0 := τo _ _ _ (fun z => by omega)
      have τ14 : ∀ i j, j ≠ 5 → σ5 g 14 i j = σ g 14 i j := fun i j hj => by rw [τX _ _ (by decide) (by decide) (by decide)]; exact X14 i j hj
      have τ145 : ∀ i, σ5 g 14 i 5 = s i := fun i => by rw [τX _ _ (by decide) (by decide) (by decide)]; exact X145 i
      have τ12 : σ5 g 0 0 12 = σ g 0 0 12 := by rw [τ0, if_neg (by decide)]
      have efx : ∀ j, fxs σ5 g j = fxs σ g j := fun j => by unfold fxs; rw [τ3]
      have ePD : PD σ5 g = PD σ g := by funext i; unfold PD v3; rw [τ13]
      have liv : ∀ k', live σ5 g k' ↔ live σ g k' := fun k' => by unfold live; rw [τ12, τ14 k' 4 (by decide)]
      have old : ∀ j, j < fc → ∀ k', k' = 16 ∨ k' = 17 ∨ k' = 18 → σ5 g k' (fxs σ g j) = σ g k' (fxs σ g j) := by
        intro j hj k' hk'
        have ne : fxs σ g j ≠ fi := by rw [hfid]; exact FP_ne hFP (by omega) (by omega) room
        exact τo _ _ _ (fun z => by omega)
      have r17 : ∀ j, j < 4 → σ5 g 17 fi j = σ g 15 k j := fun j hj => by rw [τX _ _ (by decide) (by decide) (by decide), X17]; exact h17 j hj
      have pso : ∀ k' j, j < fc → (psame σ5 g 15 k' g 17 (fxs σ5 g j) ↔ psame σ g 15 k' g 17 (fxs σ g j)) := by
        intro k' j hj
        unfold psame
        rw [efx, old j hj 17 (by omega), τ15]
      have psn : ∀ k', psame σ5 g 15 k' g 17 (fxs σ5 g fc) ↔ psame σ g 15 k' g 15 k := by
        intro k'
        unfold psame
        rw [efx, ← hfid, r17 0 (by decide), r17 1 (by decide), r17 2 (by decide), r17 3 (by decide), τ15]
      have sees5 : seens σ5 g := by
        intro k' hk'
        rw [τ12] at hk'
        rw [τ145]
        rcases Nat.lt_or_ge k' k with q | q
        · rw [hs1 k' q, o14]; exact hT.2.2.1 k' hk'
        · exact (hs2 k' q (by rw [o0]; exact hk')).1
      refine hP σ5 ⟨TI_congr2 τ12 τ13 τ14 τ15 sees5 hT, PtsOK_PD hp ePD, ?_, by rw [τ0, if_pos rfl]; rfl, by omega, fun j hj => ?_, fun j hj => ?_, fun i j hij hj => ?_, fun k' hk' => ?_⟩ ⟨fun g' k' i' hn' => τo g' k' i' (fun z => hn' ⟨z.1, by omega⟩), fun j hj => by rw [τ0, if_neg hj]⟩
      · unfold FP; rw [τ3]; exact hFP
      · by_cases q : j = fc
        · subst q
          rw [efx, ← hfid]
          refine ⟨m, _, ?_, τ18, ?_⟩
          · rw [τX _ _ (by decide) (by decide) (by decide)]; exact X16
          · have e1 : v3 σ5 g 17 fi = v3 σ g 15 k := by unfold v3; rw [r17 0 (by decide), r17 1 (by decide), r17 2 (by decide)]
            rw [ePD, e1, r17 3 (by decide)]
            exact face
        · obtain ⟨sz, co, a1, a2, a3⟩ := hFT j (by omega)
          rw [efx]
          refine ⟨sz, co, ?_, fun i hi => ?_, ?_⟩
          · rw [old j (by omega) 16 (by omega)]; exact a1
          · rw [old j (by omega) 18 (by omega)]; exact a2 i hi
          · unfold v3; rw [old j (by omega) 17 (by omega), ePD]; exact a3
      · by_cases q : j = fc
        · subst q
          exact ⟨k, (liv k).mpr hl, (psn k).mpr ⟨rfl, rfl, rfl, rfl⟩⟩
        · obtain ⟨w, a1, a2⟩ := hW j (by omega)
          exact ⟨w, (liv w).mpr a1, (pso w j (by omega)).mpr a2⟩
      · have qi : i < fc := by omega
        by_cases q : j = fc
        · subst q
          intro z
          obtain ⟨w, a1, a2⟩ := hW i qi
          have z2 := psame_tr ((pso w i qi).mpr a2) z
          have z3 := (psn w).mp z2
          exact new i qi (psame_tr (psame_sy z3) a2)
        · intro z
          apply hD i j hij (by omega)
          unfold psame at z ⊢
          rw [efx, efx, old i qi 17 (by omega), old j (by omega) 17 (by omega)] at z
          exact z
      · have hk2 := (liv k').mp hk'
        constructor
        · intro q
          by_cases e : k' = k
          · subst e; exact ⟨fc, by omega, (psn k').mpr ⟨rfl, rfl, rfl, rfl⟩⟩
          · obtain ⟨j, hj, a⟩ := (hSee k' hk2).1 (by omega)
            exact ⟨j, by omega, (pso k' j hj).mpr a⟩
        · intro q
          have a1 := hs2 k' (by omega) (by rw [o0]; exact hk2.1)
          have a2 := (hSee k' hk2).2 (by omega)
          rw [τ145, a1.2, o14, a2, ps4]
          constructor
          · rintro (⟨j, hj, b⟩ | ⟨_, b⟩)
            · exact ⟨j, by omega, (pso k' j hj).mpr b⟩
            · exact ⟨fc, by omega, (psn k').mpr b⟩
          · rintro ⟨j, hj, b⟩
            by_cases e : j = fc
            · subst e; exact Or.inr ⟨(live4 k').mpr hk2, (psn k').mp b⟩
            · exact Or.inl ⟨j, by omega, (pso k' j (by omega)).mp b⟩
    | succ d ih =>
      intro j r h1 h2 h3
      obtain ⟨i1, i2, i3, i4⟩ := cin j
      unfold wlX2_unite_235
      rw [Int.toNat_natCast, Int.toNat_natCast, ic]
      refine ⟨inI_sm ⟨by omega, by omega⟩, inI_sm ⟨by omega, by omega⟩, fun z => by omega, fun _ => ⟨⟨by omega, by omega⟩, fun σ7 e7 => ⟨⟨by omega, by omega⟩, fun y9 e9 => ?_⟩⟩⟩
      have e7' : σ7 = strow X g 18 fi (upr r j (itf (fun v => (nx v).toNat) j s0)) := by
        rw [e7]
        funext g' k' i' j'
        rw [st_app]
        unfold strow upr
        by_cases q : g' = g ∧ k' = 18 ∧ i' = fi
        · obtain ⟨rfl, rfl, rfl⟩ := q
          by_cases q2 : j' = j <;> simp [q2]
        · rw [if_neg (fun z => q ⟨z.1, z.2.1, z.2.2.1⟩), if_neg q, if_neg q]
      have ey : y9 = (itf (fun v => (nx v).toNat) (j + 1) s0 : Int) := by
        rw [e9, e7', strow_ne (fun z => by omega), X5]
        exact i3
      rw [ey, e7']
      refine ih (j + 1) _ (by omega) (by omega) (fun i hi => ?_)
      unfold upr
      by_cases q : i = j
      · rw [if_pos q, q]
      · rw [if_neg q]; exact h3 i (by omega)
  have e0 : X = strow X g 18 fi (X g 18 fi) := by
    funext g' k' i'
    unfold strow
    split
    · rename_i h; obtain ⟨rfl, rfl, rfl⟩ := h; rfl
    · rfl
  have := lp m 0 (X g 18 fi) (by omega) (by omega) (fun i hi => absurd hi (Nat.not_lt_zero _))
  rw [← e0] at this
  exact ⟨_, this⟩
end FK

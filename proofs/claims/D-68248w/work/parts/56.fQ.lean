/-! BUILD: whole -/
section FQ
variable {σ : Tab} {g N : Nat} {P : Int → Tab → Prop}
theorem VV_pts {Q Q' : Nat → V3} (e : ∀ i, i < N → Q i = Q' i) {a b c d : Nat} (ha : a < N) (hb : b < N) (hc : c < N) (hd : d < N) : VV Q a b c d = VV Q' a b c d := by
  unfold VV
  rw [e a ha, e b hb, e c hc, e d hd]
theorem TI_set {τ : Tab} {n : Nat} {S S' : Nat → Prop} (h : TI τ g n S) (e : ∀ q, S q ↔ S' q) : TI τ g n S' := by
  obtain ⟨j1, j2, j3, j4, j5, j6⟩ := h
  exact ⟨j1, j2, j3, j4, j5, Hul_congr e j6⟩
/-- the faces are united, one behind the other -/
theorem f_build159 {σ0 : Tab} (hmany0 : σ0 g 0 0 11 = N)
    (hP : ∀ (τ : Tab) (fc : Nat) (sz : Nat → Nat) (co : Nat → Nat → Nat) (nn : Nat → V3) (off : Nat → Int) (m : Nat), BuildFr σ0 τ g → HSp τ g N fc sz co nn off m → PD τ g = PD σ0 g → P 1 τ) :
    ∀ (d k fc : Nat) (τ : Tab), (τ g 0 0 12).toNat - k = d → (k : Int) ≤ τ g 0 0 12 → US τ g N fc k → UFr σ0 τ g → wlX2_build_159 g P (d + 1) k τ := by
  intro d
  induction d with
  | zero =>
    intro k fc τ e1 e2 hU hF
    have hm := hU.1.1
    unfold wlX2_build_159
    refine ⟨inI_sm ⟨by omega, by omega⟩, inI_sm ⟨by omega, by omega⟩, fun _ => ?_, fun z => by omega⟩
    have ek : k = (τ g 0 0 12).toNat := by omega
    have hU' : US τ g N fc (τ g 0 0 12).toNat := by rw [← ek]; exact hU
    have ePD : PD τ g = PD σ0 g := by funext i; unfold PD v3; rw [hF.1 g 13 i (fun z => by omega)]
    refine f_buildEnd hU' (by rw [hF.2 11 (by decide)]; exact hmany0) (fun τ' fc sz co nn off m h1 h2 h3 => hP τ' fc sz co nn off m (fun g' k' i' hn => ?_) h2 (by rw [h3, ePD]))
    rw [h1 g' k' i' hn, hF.1 g' k' i' (fun z => hn ⟨z.1, by omega⟩)]
  | succ d ih =>
    intro k fc τ e1 e2 hU hF
    have hm := hU.1.1
    have hfk := hU.1.2.1 k (by omega)
    have hsk := hU.1.2.2.1 k (by omega)
    obtain ⟨hT, hp, hFP, hfc, hfc44, hFT, hW, hD, hSee⟩ := id hU
    unfold wlX2_build_159
    rw [Int.toNat_natCast, ic]
    have skip : (live τ g k → ∃ j, j < fc ∧ psame τ g 15 k g 17 (fxs τ g j)) → wlX2_build_159 g P (d + 1) ((k + 1 : Nat) : Int) τ := by
      intro hk
      refine ih (k + 1) fc τ (by omega) (by omega) ⟨hT, hp, hFP, hfc, hfc44, hFT, hW, hD, fun k' hl' => ⟨fun q => ?_, fun q => (hSee k' hl').2 (by omega)⟩⟩ hF
      by_cases e : k' = k
      · subst e; exact hk hl'
      · exact (hSee k' hl').1 (by omega)
    refine ⟨inI_sm ⟨by omega, by omega⟩, inI_sm ⟨by omega, by omega⟩, fun z => by omega, fun _ => ⟨⟨by omega, by omega⟩, inI_f hfk, fun z => skip (fun hl => by have := hl.2; omega), fun z => ⟨inI_f hsk, fun w => skip (fun hl => ((hSee k hl).2 (Nat.le_refl _)).mp (by omega)), fun w => ?_⟩⟩⟩
    have hl : live τ g k := ⟨by omega, by omega⟩
    refine f_unite hU hl (Decidable.of_not_not w) (fun τ' hU' hF' => ?_)
    have em : τ' g 0 0 12 = τ g 0 0 12 := hF'.2 12 (by decide)
    exact ih (k + 1) (fc + 1) τ' (by rw [em]; omega) (by rw [em]; omega) hU' (hF.tr hF')
theorem f_build (hN : N ≤ 24) (hB : ∀ i, i < N → B93 (v3 σ 0 22 i)) (hinj : ∀ i j, i < N → j < N → v3 σ 0 22 i = v3 σ 0 22 j → i = j) (hFP : FP σ g)
    (hflat : (∀ a b c d, a < N → b < N → c < N → d < N → VV (fun i => v3 σ 0 22 i) a b c d = 0) → ∀ τ, BuildFr σ τ g → FP τ g → P 0 τ)
    (hsol : (∃ a b c d, a < N ∧ b < N ∧ c < N ∧ d < N ∧ VV (fun i => v3 σ 0 22 i) a b c d ≠ 0) → ∀ (τ : Tab) (fc : Nat) (sz : Nat → Nat) (co : Nat → Nat → Nat) (nn : Nat → V3) (off : Nat → Int) (m : Nat), BuildFr σ τ g → HSp τ g N fc sz co nn off m → (∀ i, i < N → PD τ g i = v3 σ 0 22 i) → P 1 τ) : wpX2_build g N σ P := by
  have iN : inI (N : Int) := inI_sm ⟨by omega, by omega⟩
  -- behind the first tetrahedron
  have lp91 : ∀ (σ2 : Tab) (c dd : Nat), σ2 g 0 0 11 = N → FP σ2 g → PtsOK σ2 g N → 2 ≤ c → c < N → 2 ≤ dd → dd < N → (∀ (τ : Tab) (fc : Nat) (sz : Nat → Nat) (co : Nat → Nat → Nat) (nn : Nat → V3) (off : Nat → Int) (m : Nat), BuildFr σ2 τ g → HSp τ g N fc sz co nn off m → PD τ g = PD σ2 g → P 1 τ) →
      ∀ (d p : Nat) (τ : Tab), N - p = d → 2 ≤ p → p ≤ N → TI τ g N (fun q => q < p ∨ q = c ∨ q = dd) → AddFr σ2 τ g → wlX2_build_91 g P (d + 1) N dd c p τ := by
    intro σ2 c dd hm2 hFP2 hp2 hc2 hcN hd2 hdN hP d
    induction d with
    | zero =>
      intro p τ e1 e2 e3 hT hF
      have ep : p = N := by omega
      subst ep
      unfold wlX2_build_91
      refine ⟨iN, iN, fun _ σ4 e4 => ?_, fun z => by omega⟩
      have ePD : PD τ g = PD σ2 g := hF.PD
      have hT' : TI τ g p (fun q => q < p) := TI_set hT (fun q => by omega)
      have hp : PtsOK τ g p := PtsOK_PD hp2 ePD
      have hm := hT'.1
      -- marks taken back
      have lp130 : ∀ (d k : Nat) (s : Nat → Int), (τ g 0 0 12).toNat - k = d → (k : Int) ≤ τ g 0 0 12 → (∀ i, i < k → s i = 0) → wlX2_build_130 g P (d + 1) k (ADD σ4 g (fun i => σ4 g 14 i 4) s (σ4 g 5 0) (σ4 g 6 0)) := by
        intro d
        have o12 : σ4 g 0 0 12 = τ g 0 0 12 := by rw [e4, st_j (by decide)]
        induction d with
        | zero =>
          intro k s q1 q2 q3
          unfold wlX2_build_130
          simp only [ADD_h]
          rw [o12]
          refine ⟨inI_sm ⟨by omega, by omega⟩, inI_sm ⟨by omega, by omega⟩, fun _ => ?_, fun z => by omega⟩
          obtain ⟨υ, hυ⟩ : ∃ υ, υ = ADD σ4 g (fun i => σ4 g 14 i 4) s (σ4 g 5 0) (σ4 g 6 0) := ⟨_, rfl⟩
          rw [← hυ]
          have u12 : υ g 0 0 12 = τ g 0 0 12 := by rw [hυ, ADD_h]; exact o12
          have u13 : ∀ i, υ g 13 i = τ g 13 i := fun i => by rw [hυ, ADD_other (fun z => by omega), e4, st_k (by decide)]
          have u15 : ∀ i, υ g 15 i = τ g 15 i := fun i => by rw [hυ, ADD_other (fun z => by omega), e4, st_k (by decide)]
          have u14 : ∀ i j, j ≠ 5 → υ g 14 i j = τ g 14 i j := by
            intro i j hj
            rw [hυ]
            by_cases q : j = 4
            · subst q; rw [ADD_l, e4, st_k (by decide)]
            · rw [ADD_c i ⟨q, hj⟩, e4, st_k (by decide)]
          have u145 : ∀ i, υ g 14 i 5 = s i := fun i => by rw [hυ, ADD_s]
          have u0 : ∀ j, j ≠ 13 → υ g 0 0 j = τ g 0 0 j := fun j hj => by rw [hυ, ADD_h, e4, st_j hj]
          have u00 : υ g 0 0 13 = 0 := by rw [hυ, ADD_h, e4, st_same]
          have uo : ∀ g' k' i', ¬ (g' = g ∧ (k' = 14 ∨ (k' = 5 ∧ i' = 0) ∨ (k' = 6 ∧ i' = 0) ∨ (k' = 0 ∧ i' = 0))) → υ g' k' i' = τ g' k' i' := fun g' k' i' hn => by rw [hυ, ADD_other (fun z => hn ⟨z.1, by omega⟩), e4, st_ne (fun z => hn ⟨z.1, by omega⟩)]
          have hTu : TI υ g p (fun q => q < p) := TI_congr2 u12 u13 u14 u15 (fun k' hk' => by rw [u145]; rw [u12] at hk'; exact Or.inl (q3 k' (by omega))) hT'
          have ePDu : PD υ g = PD τ g := by funext i; unfold PD v3; rw [u13]
          have liv : ∀ k', live υ g k' ↔ live τ g k' := fun k' => by unfold live; rw [u12, u14 k' 4 (by decide)]
          have hU : US υ g p 0 0 := by
            refine ⟨hTu, PtsOK_PD hp ePDu, ?_, u00, by omega, fun j hj => absurd hj (Nat.not_lt_zero _), fun j hj => absurd hj (Nat.not_lt_zero _), fun i j _ hj => absurd hj (Nat.not_lt_zero _), fun k' hl' => ⟨fun q => absurd q (Nat.not_lt_zero _), fun _ => ?_⟩⟩
            · unfold FP
              rw [uo g 3 0 (fun z => by omega), hF.1 g 3 0 (fun z => by omega)]
              exact hFP2
            · rw [u145, q3 k' (by have := ((liv k').mp hl').1; omega)]
              exact ⟨fun z => by omega, fun ⟨j, hj, _⟩ => absurd hj (Nat.not_lt_zero _)⟩
          refine ⟨_, f_build159 (σ0 := υ) (by rw [u0 11 (by decide), hF.2 11 (by decide)]; exact hm2) (fun τ' fc sz co nn off m h1 h2 h3 => hP τ' fc sz co nn off m (fun g' k' i' hn => ?_) h2 (by rw [h3, ePDu, ePD])) _ 0 0 υ rfl (by rw [u12]; omega) hU (UFr.rf _ _)⟩
          rw [h1 g' k' i' hn, uo g' k' i' (fun z => hn ⟨z.1, by omega⟩), hF.1 g' k' i' (fun z => hn ⟨z.1, by omega⟩)]
        | succ d ih130 =>
          intro k s q1 q2 q3
          unfold wlX2_build_130
          simp only [ADD_h, Int.toNat_natCast]
          rw [o12]
          refine ⟨inI_sm ⟨by omega, by omega⟩, inI_sm ⟨by omega, by omega⟩, fun z => by omega, fun _ => ⟨⟨by omega, by omega⟩, fun σ6 e6 => ?_⟩⟩
          rw [e6, ADD_st5, ic]
          refine ih130 (k + 1) _ (by omega) (by omega) (fun i hi => ?_)
          unfold upr
          by_cases q : i = k
          · rw [if_pos q]
          · rw [if_neg q]; exact q3 i (by omega)
      have := lp130 _ 0 (fun i => σ4 g 14 i 5) rfl (by omega) (fun i hi => absurd hi (Nat.not_lt_zero _))
      rw [← ADD_0] at this
      exact ⟨_, this⟩
    | succ d ih =>
      intro p τ e1 e2 e3 hT hF
      unfold wlX2_build_91
      rw [ic]
      refine ⟨inI_sm ⟨by omega, by omega⟩, iN, fun z => by omega, fun _ => ⟨inI_sm ⟨by omega, by omega⟩, fun z => ?_, fun z => ⟨inI_sm ⟨by omega, by omega⟩, fun w => ?_, fun w => ?_⟩⟩⟩
      · exact ih (p + 1) τ (by omega) (by omega) (by omega) (TI_set hT (fun q => by omega)) hF
      · exact ih (p + 1) τ (by omega) (by omega) (by omega) (TI_set hT (fun q => by omega)) hF
      · refine f_add hT (PtsOK_PD hp2 hF.PD) (by omega) (by omega) (fun τ' hT' hF' => ?_)
        exact ih (p + 1) τ' (by omega) (by omega) (by omega) (TI_set hT' (fun q => by omega)) (hF.tr hF')
  -- points copied, all triangles gone
  have lp32 : ∀ (σ2 : Tab), σ2 g 0 0 11 = N → FP σ2 g → PtsOK σ2 g N → (∀ i, i < N → PD σ2 g i = v3 σ 0 22 i) → BuildFr σ σ2 g → ∀ (d k : Nat) (l : Nat → Int), 128 - k = d → k ≤ 128 → wlX2_build_32 g P (d + 1) N k (ADD σ2 g l (fun i => σ2 g 14 i 5) (σ2 g 5 0) (σ2 g 6 0)) := by
    intro σ2 hm2 hFP2 hp2 hpts hBF d
    induction d with
    | zero =>
      intro k l q1 q2
      have ek : k = 128 := by omega
      subst ek
      unfold wlX2_build_32
      refine ⟨⟨by decide, by decide⟩, fun _ σ3 e3 => ⟨iN, fun h4 => ?_, fun h4 => ?_⟩, fun z => absurd (by decide) z⟩
      · have o11 : σ3 g 0 0 11 = N := by rw [e3, st_j (by decide), ADD_h]; exact hm2
        have o3 : σ3 g 3 0 = σ2 g 3 0 := by rw [e3, st_k (by decide), ADD_other (fun z => by omega)]
        have ePD : PD σ3 g = PD σ2 g := by funext i; unfold PD v3; rw [e3, st_k (by decide), ADD_other (fun z => by omega)]
        have hp3 : PtsOK σ3 g N := PtsOK_PD hp2 ePD
        have hB3 : BuildFr σ σ3 g := fun g' k' i' hn => by rw [e3, st_ne (fun z => hn ⟨z.1, by omega⟩), ADD_other (fun z => hn ⟨z.1, by omega⟩), hBF g' k' i' hn]
        have pts3 : ∀ i, i < N → PD σ3 g i = v3 σ 0 22 i := fun i hi => by rw [ePD]; exact hpts i hi
        refine f_begin hp3 (by omega) o11 (by rw [e3, st_same]) (fun hz τ hF => ?_) (fun c dd τ hc2 hcN hd2 hdN hcd hV hT h6 hF => ?_)
        · unfold wlX2_build_73
          refine ⟨⟨by decide, by decide⟩, fun z => absurd z (by decide), fun _ => hflat (fun a b c d ha hb hc hd => ?_) τ (fun g' k' i' hn => ?_) ?_⟩
          · rw [← VV_pts pts3 ha hb hc hd]; exact hz a b c d ha hb hc hd
          · rw [hF.1 g' k' i' (fun z => hn ⟨z.1, by omega⟩), hB3 g' k' i' hn]
          · unfold FP; rw [hF.1 g 3 0 (fun z => by omega), o3]; exact hFP2
        · unfold wlX2_build_73
          rw [h6]
          have ePDt : PD τ g = PD σ3 g := by funext i; unfold PD v3; rw [hF.1 g 13 i (fun z => by omega)]
          refine ⟨inI_sm ⟨by omega, by omega⟩, fun _ => ⟨_, lp91 τ c dd (by rw [hF.2 11 (by decide)]; exact o11) (by unfold FP; rw [hF.1 g 3 0 (fun z => by omega), o3]; exact hFP2) (PtsOK_PD hp3 ePDt) hc2 hcN hd2 hdN (fun τ' fc sz co nn off m h1 h2 h3 => ?_) _ 2 τ rfl (by decide) (by omega) (TI_set hT (fun q => by omega)) (AddFr.rf _ _)⟩, fun z => by omega⟩
          refine hsol ⟨0, 1, c, dd, by omega, by omega, hcN, hdN, ?_⟩ τ' fc sz co nn off m (fun g' k' i' hn => ?_) h2 (fun i hi => ?_)
          · rw [← VV_pts pts3 (by omega) (by omega) hcN hdN]; exact hV
          · rw [h1 g' k' i' hn, hF.1 g' k' i' (fun z => hn ⟨z.1, by omega⟩), hB3 g' k' i' hn]
          · rw [h3, ePDt]; exact pts3 i hi
      · unfold wlX2_build_73
        refine ⟨⟨by decide, by decide⟩, fun z => absurd z (by decide), fun _ => hflat (fun a b c d ha hb hc hd => ?_) σ3 (fun g' k' i' hn => ?_) ?_⟩
        · have cs : a = b ∨ a = c ∨ a = d ∨ b = c ∨ b = d ∨ c = d := by omega
          rcases cs with rfl | rfl | rfl | rfl | rfl | rfl
          · exact VV_d1 _ _ _ _
          · rw [← VV_rot, ← VV_rot]; exact VV_d1 _ _ _ _
          · exact VV_s1 _ _ _ _
          · rw [← VV_rot]; exact VV_d1 _ _ _ _
          · exact VV_s2 _ _ _ _
          · exact VV_s4 _ _ _ _
        · rw [e3, st_ne (fun z => hn ⟨z.1, by omega⟩), ADD_other (fun z => hn ⟨z.1, by omega⟩), hBF g' k' i' hn]
        · unfold FP; rw [e3, st_k (by decide), ADD_other (fun z => by omega)]; exact hFP2
    | succ d ih =>
      intro k l q1 q2
      unfold wlX2_build_32
      rw [Int.toNat_natCast, ic]
      refine ⟨inI_sm ⟨by omega, by omega⟩, fun z => by omega, fun _ => ⟨⟨by omega, by omega⟩, fun σ8 e8 => ?_⟩⟩
      rw [e8, ADD_st4]
      exact ih (k + 1) _ (by omega) (by omega)
  unfold wpX2_build
  intro σ1 e1
  have lp7 : ∀ (d k : Nat) (τ : Tab), N - k = d → k ≤ N → (∀ g' k' i', ¬ (g' = g ∧ k' = 13) → τ g' k' i' = σ1 g' k' i') → (∀ i, i < k → v3 τ g 13 i = v3 σ 0 22 i) → wlX2_build_7 g P (d + 1) N k τ := by
    intro d
    induction d with
    | zero =>
      intro k τ q1 q2 q3 q4
      have ek : k = N := by omega
      subst ek
      unfold wlX2_build_7
      refine ⟨iN, iN, fun _ => ?_, fun z => by omega⟩
      have hp : PtsOK τ g k := by
        refine ⟨hN, fun i hi => ?_, fun i j hi hj e => ?_⟩
        · show B93 (v3 τ g 13 i); rw [q4 i hi]; exact hB i hi
        · have e : v3 τ g 13 i = v3 τ g 13 j := e
          rw [q4 i hi, q4 j hj] at e
          exact hinj i j hi hj e
      have := lp32 τ (by rw [q3 g 0 0 (fun z => by omega), e1, st_same]) (by unfold FP; rw [q3 g 3 0 (fun z => by omega), e1, st_k (by decide)]; exact hFP) hp q4 (fun g' k' i' hn => by rw [q3 g' k' i' (fun z => hn ⟨z.1, by omega⟩), e1, st_ne (fun z => hn ⟨z.1, by omega⟩)]) _ 0 (fun i => τ g 14 i 4) rfl (by omega)
      rw [← ADD_0] at this
      exact ⟨_, this⟩
    | succ d ih =>
      intro k τ q1 q2 q3 q4
      unfold wlX2_build_7
      rw [Int.toNat_natCast, ic]
      refine ⟨inI_sm ⟨by omega, by omega⟩, iN, fun z => by omega, fun _ => ⟨⟨by omega, by omega⟩, ?_⟩⟩
      unfold wpX4_copy wpX4_set
      intro υ1 f1 υ2 f2 υ3 f3
      have r22 : τ 0 22 k = σ 0 22 k := by rw [q3 0 22 k (fun z => by omega), e1, st_k (by decide)]
      refine ih (k + 1) υ3 (by omega) (by omega) (fun g' k' i' hn => ?_) (fun i hi => ?_)
      · rw [f3, st_ne (fun z => hn ⟨z.1, z.2.1⟩), f2, st_ne (fun z => hn ⟨z.1, z.2.1⟩), f1, st_ne (fun z => hn ⟨z.1, z.2.1⟩), q3 g' k' i' hn]
      · by_cases q : i = k
        · subst q
          unfold v3
          rw [f3, f2, f1, r22]
          simp [st_app]
        · have : υ3 g 13 i = τ g 13 i := by rw [f3, st_i q, f2, st_i q, f1, st_i q]
          unfold v3
          rw [this]
          exact q4 i (by omega)
  exact ⟨_, lp7 _ 0 σ1 rfl (by omega) (fun _ _ _ _ => rfl) (fun i hi => absurd hi (Nat.not_lt_zero _))⟩
end FQ

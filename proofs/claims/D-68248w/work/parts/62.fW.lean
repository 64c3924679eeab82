/-! THE MODEL: build -/
section FW
/-- what holds behind the model's build -/
def MSp (τ : Tab) (N fc : Nat) (sz : Nat → Nat) (co : Nat → Nat → Nat) (nn : Nat → V3) (off : Nat → Int) (m : Nat) : Prop :=
  τ 0 23 0 7 = N ∧ N ≤ 24 ∧ (∀ i, i < N → B93 (MP τ i)) ∧ (∀ i j, i < N → j < N → MP τ i = MP τ j → i = j) ∧ sol4 (MP τ) N ∧ OTab τ fc sz co ∧
  (∀ k, k < fc → nf (τ 0 30 0) (τ 0 31 0) (τ 0 32 0) (τ 0 36 0 k).toNat = nn k ∧ τ 0 33 0 (τ 0 36 0 k).toNat = off k ∧ bN (nn k).1 ∧ bN (nn k).2.1 ∧ bN (nn k).2.2 ∧ bO (off k)) ∧
  (∀ i j, i < j → j < fc → τ 0 36 0 i ≠ τ 0 36 0 j) ∧ FamOK (MP τ) N fc sz co nn off ∧ m ≤ 66 ∧ τ 0 23 0 19 = m ∧ EM fc sz co N (τ 0 37 0) (τ 0 38 0) (τ 0 39 0) m N (N + 1)
/-- the rows that the model's build may change -/
def MFr (σ τ : Tab) : Prop := ∀ g k i, ¬ (g = 0 ∧ i = 0 ∧ (k = 23 ∨ (27 ≤ k ∧ k ≤ 39))) → τ g k i = σ g k i
theorem MFr_rf (σ : Tab) : MFr σ σ := fun _ _ _ _ => rfl
theorem MFr_tr {σ τ υ : Tab} (h : MFr σ τ) (h' : MFr τ υ) : MFr σ υ := fun g k i hn => (h' g k i hn).trans (h g k i hn)
theorem MFr_st {σ : Tab} {k j : Nat} {x : Int} (h : k = 23 ∨ (27 ≤ k ∧ k ≤ 39)) : MFr σ (st σ 0 k 0 j x) := fun g k' i hn => st_ne (fun z => hn ⟨z.1, z.2.2, by omega⟩)
theorem MFr_strow {σ : Tab} {k : Nat} {r : Nat → Int} (h : k = 23 ∨ (27 ≤ k ∧ k ≤ 39)) : MFr σ (strow σ 0 k 0 r) := fun g k' i hn => strow_ne (fun z => hn ⟨z.1, z.2.2, by omega⟩)
theorem MFr_MF {σ : Tab} {v : V3} {m : Int} {a b c d : Nat → Int} : MFr σ (MF σ v m a b c d) := by
  intro g k i hn
  funext j
  unfold MF
  rw [if_neg (fun z => hn ⟨z.1, z.2.2.1, by omega⟩), if_neg (fun z => hn ⟨z.1, z.2.2.1, by omega⟩), if_neg (fun z => hn ⟨z.1, z.2.2.1, by omega⟩), if_neg (fun z => hn ⟨z.1, z.2.2.1, by omega⟩), if_neg (fun z => hn ⟨z.1, z.2.2, by omega⟩), if_neg (fun z => hn ⟨z.1, z.2.2, by omega⟩), if_neg (fun z => hn ⟨z.1, z.2.2, by omega⟩), if_neg (fun z => hn ⟨z.1, z.2.2, by omega⟩)]
theorem MFr_ME {σ : Tab} {ec : Int} {en le ri : Nat → Int} : MFr σ (ME σ ec en le ri) := by
  intro g k i hn
  funext j
  unfold ME
  rw [if_neg (fun z => hn ⟨z.1, z.2.2.1, by omega⟩), if_neg (fun z => hn ⟨z.1, z.2.2, by omega⟩), if_neg (fun z => hn ⟨z.1, z.2.2, by omega⟩), if_neg (fun z => hn ⟨z.1, z.2.2, by omega⟩)]
theorem MSp_congr {σ τ : Tab} {N fc : Nat} {sz : Nat → Nat} {co : Nat → Nat → Nat} {nn : Nat → V3} {off : Nat → Int} {m : Nat} (h : MSp σ N fc sz co nn off m) (e1 : ∀ k, 27 ≤ k → k ≤ 39 → τ 0 k 0 = σ 0 k 0) (e2 : τ 0 23 0 7 = σ 0 23 0 7 ∧ τ 0 23 0 11 = σ 0 23 0 11 ∧ τ 0 23 0 19 = σ 0 23 0 19) : MSp τ N fc sz co nn off m := by
  have eM : MP τ = MP σ := by funext i; unfold MP; rw [e1 27 (by decide) (by decide), e1 28 (by decide) (by decide), e1 29 (by decide) (by decide)]
  unfold MSp OTab at *
  rw [e2.1, e2.2.1, e2.2.2, eM, e1 30 (by decide) (by decide), e1 31 (by decide) (by decide), e1 32 (by decide) (by decide), e1 33 (by decide) (by decide), e1 34 (by decide) (by decide), e1 35 (by decide) (by decide), e1 36 (by decide) (by decide), e1 37 (by decide) (by decide), e1 38 (by decide) (by decide), e1 39 (by decide) (by decide)]
  exact h
variable {N : Nat}
/-- behind the search: walks, order, edges -/
theorem f_b145 {P : Int → Tab → Prop} {σ : Tab} {v : V3} {m : Nat} {a b c d : Nat → Int} (hN : N ≤ 24) (hheld : σ 0 23 0 7 = N) (hB : ∀ i, i < N → B93 (MP σ i)) (hinj : ∀ i j, i < N → j < N → MP σ i = MP σ j → i = j) (hsol : sol4 (MP σ) N) (hG : GM (MP σ) N m a b c d) (hC : ∀ n o, prim n → Fac (MP σ) (fun q => q < N) n o → knw a b c d m n o)
    (hP : ∀ (τ : Tab) (fc : Nat) (sz : Nat → Nat) (co : Nat → Nat → Nat) (nn : Nat → V3) (off : Nat → Int) (m : Nat), MSp τ N fc sz co nn off m → MFr σ τ → MP τ = MP σ → τ 0 23 0 0 = σ 0 23 0 0 → τ 0 23 0 1 = σ 0 23 0 1 → τ 0 23 0 5 = 1 → τ 0 23 0 6 = σ 0 23 0 6 + 1 → P fc τ) : ∃ k, wlX8_build_145 P k 0 (MF σ v m a b c d) := by
  obtain ⟨T, H⟩ : ∃ T, Hul (MP σ) N (fun q => q < N) T := by
    obtain ⟨p, q, r, s, h1, h2, h3, h4, h5⟩ := hsol
    exact Hul_ex hinj (by omega) (by omega) (by omega) h4 h5
  have gen : ∀ i j, i < N → j < N → dt gen3 (MP σ i) = dt gen3 (MP σ j) → i = j := by
    intro i j hi hj h
    obtain ⟨⟨a1, a2⟩, ⟨a3, a4⟩, a5, a6⟩ := hB i hi
    obtain ⟨⟨b1, b2⟩, ⟨b3, b4⟩, b5, b6⟩ := hB j hj
    apply hinj i j hi hj
    simp only [dt, gen3] at h
    refine Prod.ext ?_ (Prod.ext ?_ ?_) <;> omega
  have hm : m + 4 ≤ 2 * N := capF H gen m (fun f => (a f, b f, c f)) d (fun i hi => ⟨(hG.1 i hi).1, (hG.1 i hi).2.1⟩) hG.2
  have iM : inI (m : Int) := inI_sm ⟨by omega, by omega⟩
  -- the faces
  have fex : ∀ f, ∃ s : Nat × (Nat → Nat), f < m → FaceIs (MP σ) N (nf a b c f) (d f) s.1 s.2 := by
    intro f
    by_cases hf : f < m
    · obtain ⟨s, co, h⟩ := face_ex H hinj (hG.1 f hf).1 (hG.1 f hf).2.1
      exact ⟨(s, co), fun _ => h⟩
    · exact ⟨(0, fun _ => 0), fun z => absurd z hf⟩
  obtain ⟨sz, hsz⟩ : ∃ sz : Nat → Nat, sz = fun f => (Classical.choose (fex f)).1 := ⟨_, rfl⟩
  obtain ⟨co, hco⟩ : ∃ co : Nat → Nat → Nat, co = fun f => (Classical.choose (fex f)).2 := ⟨_, rfl⟩
  have face : ∀ f, f < m → FaceIs (MP σ) N (nf a b c f) (d f) (sz f) (co f) := by
    intro f hf
    rw [hsz, hco]
    exact Classical.choose_spec (fex f) hf
  clear hsz hco fex
  have sz3 : ∀ f, f < m → 3 ≤ sz f ∧ sz f ≤ N := fun f hf => (face f hf).2.2.1
  have coN : ∀ f, f < m → ∀ i, i < sz f → co f i < N := fun f hf i hi => ((face f hf).2.2.2.1 i hi).1
  have same : ∀ i j, i < m → j < m → nf a b c i = nf a b c j → d i = d j → i = j := by
    intro i j hi hj e1 e2
    rcases Nat.lt_trichotomy i j with q | q | q
    · exact absurd ⟨e1, e2⟩ (hG.2 i j q hj)
    · exact q
    · exact absurd ⟨e1.symm, e2.symm⟩ (hG.2 j i q hi)
  have kdis : ∀ i j : Nat, i < j → j < m → kM co i ≠ kM co j := by
    intro i j hij hj e
    have fi := face i (by omega)
    have fj := face j hj
    have si := sz3 i (by omega)
    have sj := sz3 j hj
    have a0 := coN i (by omega) 0 (by omega)
    have a1 := coN i (by omega) 1 (by omega)
    have b0 := coN j hj 0 (by omega)
    have b1 := coN j hj 1 (by omega)
    unfold kM at e
    rw [Int.toNat_natCast, Int.toNat_natCast] at e
    obtain ⟨p1, p2⟩ := face_edge H hinj fi fj (i := 0) (i' := 0) (by omega) (by omega) (by omega) (by
      rw [Nat.mod_eq_of_lt (by omega), Nat.mod_eq_of_lt (by omega)]
      show co i 1 = co j 1
      omega)
    have := same i j (by omega) hj p1 p2
    omega
  -- the loop
  have lp : ∀ (q f : Nat) (v : V3) (υ : Tab), m - f = q → f ≤ m → (∀ g k i, ¬ (g = 0 ∧ i = 0 ∧ (k = 34 ∨ k = 35)) → υ g k i = σ g k i) → (∀ f', f' < f → υ 0 34 0 f' = sz f' ∧ ∀ i, i < sz f' → υ 0 35 0 (24 * f' + i) = co f' i) → wlX8_build_145 P (q + 1) f (MF υ v m a b c d) := by
    intro q
    induction q with
    | zero =>
      intro f v υ e1 e2 hυ hT
      have ef : f = m := by omega
      subst ef
      have oM : MP υ = MP σ := by funext i; unfold MP; rw [hυ 0 27 0 (fun z => by omega), hυ 0 28 0 (fun z => by omega), hυ 0 29 0 (fun z => by omega)]
      have o23 : υ 0 23 0 = σ 0 23 0 := hυ 0 23 0 (fun z => by omega)
      unfold wlX8_build_145
      rw [MF_fc]
      refine ⟨iM, iM, fun _ => ?_, fun z => by omega⟩
      refine f_orderFaces (m := f) (sz := sz) (co := co) ⟨MF_fc, by omega, fun f' hf' => ?_⟩ kdis (fun A r hS hA => ?_)
      · rw [MF_o (by decide), MF_o (by decide)]
        have := sz3 f' hf'
        refine ⟨(hT f' hf').1, by omega, by omega, fun i hi => ⟨(hT f' hf').2 i hi, ?_⟩⟩
        have := coN f' hf' i hi
        omega
      · obtain ⟨τ, hτ⟩ : ∃ τ, τ = strow (MF υ v f a b c d) 0 36 0 A := ⟨_, rfl⟩
        rw [← hτ]
        have r36 : τ 0 36 0 = A := by rw [hτ]; exact strow_self _ _ _ _ _
        have r0 : ∀ k, k ≠ 36 → τ 0 k 0 = MF υ v f a b c d 0 k 0 := fun k hk => by rw [hτ]; exact strow_ne (fun z => hk z.2.1)
        have fr1 : MFr σ τ := by
          rw [hτ]
          refine MFr_tr (MFr_tr (τ := υ) (fun g k i hn => hυ g k i (fun z => hn ⟨z.1, z.2.1, by omega⟩)) MFr_MF) (MFr_strow (by decide))
        have eM : MP τ = MP σ := by
          funext i; unfold MP; rw [r0 27 (by decide), r0 28 (by decide), r0 29 (by decide), MF_o (by decide), MF_o (by decide), MF_o (by decide)]
          exact congrFun oM i
        have t7 : τ 0 23 0 7 = N := by rw [r0 23 (by decide), MF_h (by decide), o23]; exact hheld
        have rr : ∀ k, k < f → ∃ i : Nat, i < f ∧ A k = i ∧ (r k).toNat = i := by
          intro k hk
          obtain ⟨i, hi, e⟩ := hS.2.1 k hk
          exact ⟨i, hi, by rw [hA k hk]; exact e, by rw [e]; rfl⟩
        have hO : OTab τ f (fun k => sz (r k).toNat) (fun k => co (r k).toNat) := by
          refine ⟨by rw [r0 23 (by decide)]; exact MF_fc, by omega, fun k hk => ?_⟩
          obtain ⟨i, hi, e1, e2⟩ := rr k hk
          have := sz3 i hi
          rw [r36, r0 34 (by decide), r0 35 (by decide), MF_o (by decide), MF_o (by decide)]
          dsimp only
          rw [e2]
          refine ⟨i, e1, hi, (hT i hi).1, by omega, by omega, fun x hx => ⟨(hT i hi).2 x hx, ?_⟩⟩
          have := coN i hi x hx
          omega
        have hFam : FamOK (MP σ) N f (fun k => sz (r k).toNat) (fun k => co (r k).toNat) (fun k => nf a b c (r k).toNat) (fun k => d (r k).toNat) := by
          refine ⟨fun k hk => ?_, fun n o hpr hF => ?_, fun i j hij hj => ?_⟩
          · obtain ⟨i, hi, e1, e2⟩ := rr k hk
            dsimp only
            rw [e2]
            exact face i hi
          · obtain ⟨x, hx, w1, w2, w3, w4⟩ := hC n o hpr hF
            obtain ⟨k, hk, e⟩ := hS.2.2.1 x hx
            refine ⟨k, hk, ?_, ?_⟩
            · dsimp only
              rw [e, Int.toNat_natCast]
              unfold nf
              rw [w1, w2, w3]
            · dsimp only
              rw [e, Int.toNat_natCast]
              exact w4
          · have k1 := hS.2.2.2 i j hij hj
            obtain ⟨x, hx, e1, e2⟩ := rr i (by omega)
            obtain ⟨y, hy, e3, e4⟩ := rr j hj
            unfold kM at k1
            rw [e2, e4] at k1
            dsimp only
            rw [e2, e4]
            omega
        have hdis : ∀ i j, i < j → j < f → τ 0 36 0 i ≠ τ 0 36 0 j := by
          intro i j hij hj e
          rw [r36, hA i (by omega), hA j hj] at e
          have := hS.2.2.2 i j hij hj
          rw [e] at this
          omega
        refine f_findEdges hN t7 hO (cap66 hN H hinj gen (nn := fun k => nf a b c (r k).toNat) (off := fun k => d (r k).toNat) hFam.1) (fun k en le ri hk hE => ?_)
        intro σ6 e6 σ7 e7
        have q7 : ∀ k', k' ≠ 23 → σ7 0 k' 0 = ME τ k en le ri 0 k' 0 := fun k' hk' => by rw [e7, e6, st_k hk', st_k hk']
        have q23 : ∀ j, j ≠ 5 → j ≠ 6 → σ7 0 23 0 j = ME τ k en le ri 0 23 0 j := fun j h1 h2 => by rw [e7, e6, st_j h2, st_j h1]
        have eM7 : MP σ7 = MP σ := by
          rw [← eM]; funext i; unfold MP; rw [q7 27 (by decide), q7 28 (by decide), q7 29 (by decide), ME_o (by decide), ME_o (by decide), ME_o (by decide)]
        have e11 : σ7 0 23 0 11 = f := by rw [q23 11 (by decide) (by decide), ME_h (by decide), r0 23 (by decide), MF_fc]
        rw [e11]
        refine hP σ7 f (fun k => sz (r k).toNat) (fun k => co (r k).toNat) (fun k => nf a b c (r k).toNat) (fun k => d (r k).toNat) k ⟨?_, hN, ?_, ?_, ?_, ?_, ?_, ?_, ?_, hk, ?_, ?_⟩ ?_ eM7 ?_ ?_ ?_ ?_
        · rw [q23 7 (by decide) (by decide), ME_h (by decide)]; exact t7
        · rw [eM7]; exact hB
        · rw [eM7]; exact hinj
        · rw [eM7]; exact hsol
        · have := ME_OTab (ec := k) (en := en) (le := le) (ri := ri) hO
          unfold OTab at this ⊢
          rw [q7 34 (by decide), q7 35 (by decide), q7 36 (by decide), q23 11 (by decide) (by decide)]
          exact this
        · intro x hx
          obtain ⟨i, hi, e1, e2⟩ := rr x hx
          rw [q7 30 (by decide), q7 31 (by decide), q7 32 (by decide), q7 33 (by decide), q7 36 (by decide), ME_o (by decide), ME_o (by decide), ME_o (by decide), ME_o (by decide), ME_o (by decide), r36, e1, Int.toNat_natCast, r0 30 (by decide), r0 31 (by decide), r0 32 (by decide), r0 33 (by decide)]
          dsimp only
          rw [e2, MF_33]
          unfold nf
          rw [MF_30, MF_31, MF_32]
          have := hG.1 i hi
          exact ⟨rfl, rfl, this.2.2.1, this.2.2.2.1, this.2.2.2.2.1, this.2.2.2.2.2⟩
        · rw [q7 36 (by decide), ME_o (by decide)]; exact hdis
        · rw [eM7]; exact hFam
        · rw [q23 19 (by decide) (by decide), ME_ec]
        · rw [q7 37 (by decide), q7 38 (by decide), q7 39 (by decide), ME_37, ME_38, ME_39]; exact hE
        · rw [e7, e6]
          exact MFr_tr (MFr_tr (MFr_tr fr1 MFr_ME) (MFr_st (by decide))) (MFr_st (by decide))
        · rw [q23 0 (by decide) (by decide), ME_h (by decide), r0 23 (by decide), MF_h (by decide), o23]
        · rw [q23 1 (by decide) (by decide), ME_h (by decide), r0 23 (by decide), MF_h (by decide), o23]
        · rw [e7, st_j (by decide), e6, st_same]
        · rw [e7, st_same, e6, st_j (by decide), ME_h (by decide), r0 23 (by decide), MF_h (by decide), o23]
    | succ q ih =>
      intro f v υ e1 e2 hυ hT
      have oM : MP υ = MP σ := by funext i; unfold MP; rw [hυ 0 27 0 (fun z => by omega), hυ 0 28 0 (fun z => by omega), hυ 0 29 0 (fun z => by omega)]
      have o23 : υ 0 23 0 = σ 0 23 0 := hυ 0 23 0 (fun z => by omega)
      have hG' := (hG.1 f (by omega)).2.2
      unfold wlX8_build_145
      rw [MF_fc, ic]
      refine ⟨inI_sm ⟨by omega, by omega⟩, iM, fun z => by omega, fun _ => ?_⟩
      refine f_walk8 (sz := sz f) (co := co f) hN (by rw [o23]; exact hheld) (by rw [oM]; exact hB) (by omega) hG' (by rw [oM]; exact face f (by omega)) (fun v' r h1 h2 => ?_)
      refine ih (f + 1) v' _ (by omega) (by omega) (fun g k i hn => ?_) (fun f' hf' => ?_)
      · rw [st_ne (fun z => hn ⟨z.1, z.2.2, by omega⟩), strow_ne (fun z => hn ⟨z.1, z.2.2, by omega⟩)]
        exact hυ g k i hn
      · rw [st_k (k' := 35) (by decide), strow_self, st_app]
        by_cases ee : f' = f
        · subst ee
          rw [if_pos ⟨rfl, rfl, rfl, rfl⟩]
          exact ⟨rfl, h1⟩
        · rw [if_neg (fun z => ee z.2.2.2), strow_ne (fun z => by omega)]
          have := hT f' (by omega)
          have s := sz3 f' (by omega)
          exact ⟨this.1, fun i hi => by rw [h2 _ (by omega)]; exact this.2 i hi⟩
  exact ⟨_, lp _ 0 v σ rfl (by omega) (fun _ _ _ _ => rfl) (fun f' hf' => absurd hf' (Nat.not_lt_zero _))⟩
end FW

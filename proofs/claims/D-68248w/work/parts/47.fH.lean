/-! FACES: what a face is; rotate, within, order -/
section FH
/-- a face: its plane, its corners around, the lowest first -/
def FaceIs (P : Nat → V3) (N : Nat) (nn : V3) (off : Int) (sz : Nat) (co : Nat → Nat) : Prop :=
  prim nn ∧ Fac P (fun q => q < N) nn off ∧ (3 ≤ sz ∧ sz ≤ N) ∧ (∀ i, i < sz → co i < N ∧ dt nn (P (co i)) = off) ∧ (∀ i, i < sz → goOn P (fun q => q < N) nn off (co i) (co ((i + 1) % sz))) ∧
  (∀ i j, i < j → j < sz → co i ≠ co j) ∧ (∀ i, i < sz → co 0 ≤ co i) ∧ ∀ v x, v < N → x < N → dt nn (P v) = off → dt nn (P x) = off → goOn P (fun q => q < N) nn off v x → ∃ i, i < sz ∧ co i = v
theorem FaceIs_uniq {P : Nat → V3} {N : Nat} {nn : V3} {off : Int} {sz sz' : Nat} {co co' : Nat → Nat} (h : FaceIs P N nn off sz co) (h' : FaceIs P N nn off sz' co') : sz = sz' ∧ ∀ i, i < sz → co i = co' i := by
  obtain ⟨-, -, ⟨s3, -⟩, hin, hg, hd, hm, hc⟩ := h
  obtain ⟨-, -, ⟨s3', -⟩, hin', hg', hd', hm', hc'⟩ := h'
  have nx : ∀ i, i < sz → (i + 1) % sz < sz := fun i _ => Nat.mod_lt _ (by omega)
  have nx' : ∀ i, i < sz' → (i + 1) % sz' < sz' := fun i _ => Nat.mod_lt _ (by omega)
  have e0 : co 0 = co' 0 := by
    obtain ⟨i, hi, ei⟩ := hc (co' 0) (co' ((0 + 1) % sz')) (hin' 0 (by omega)).1 (hin' _ (nx' 0 (by omega))).1 (hin' 0 (by omega)).2 (hin' _ (nx' 0 (by omega))).2 (hg' 0 (by omega))
    obtain ⟨j, hj, ej⟩ := hc' (co 0) (co ((0 + 1) % sz)) (hin 0 (by omega)).1 (hin _ (nx 0 (by omega))).1 (hin 0 (by omega)).2 (hin _ (nx 0 (by omega))).2 (hg 0 (by omega))
    have a1 := hm i hi
    have a2 := hm' j hj
    omega
  have step : ∀ i, i < sz → i < sz' → co i = co' i := by
    intro i
    induction i with
    | zero => intro _ _; exact e0
    | succ i ih =>
      intro h1 h2
      have e := ih (by omega) (by omega)
      have g1 := hg i (by omega)
      have g2 := hg' i (by omega)
      rw [Nat.mod_eq_of_lt h1] at g1
      rw [Nat.mod_eq_of_lt h2, ← e] at g2
      exact goOn_uniq g1 g2 (hin _ h1).1 (hin' _ h2).1 (hin _ h1).2 (hin' _ h2).2
  have es : sz = sz' := by
    rcases Nat.lt_trichotomy sz sz' with q | q | q
    · exfalso
      -- at sz the first cycle is back at 0
      have e := step (sz - 1) (by omega) (by omega)
      have g1 := hg (sz - 1) (by omega)
      have g2 := hg' (sz - 1) (by omega)
      rw [show sz - 1 + 1 = sz by omega, Nat.mod_self] at g1
      rw [show sz - 1 + 1 = sz by omega, Nat.mod_eq_of_lt q, ← e] at g2
      have := goOn_uniq g1 g2 (hin 0 (by omega)).1 (hin' sz q).1 (hin 0 (by omega)).2 (hin' sz q).2
      exact hd' 0 sz (by omega) q (by rw [← e0, this])
    · exact q
    · exfalso
      have e := step (sz' - 1) (by omega) (by omega)
      have g1 := hg (sz' - 1) (by omega)
      have g2 := hg' (sz' - 1) (by omega)
      rw [show sz' - 1 + 1 = sz' by omega, Nat.mod_self, ← e] at g2
      rw [show sz' - 1 + 1 = sz' by omega, Nat.mod_eq_of_lt q] at g1
      have := goOn_uniq g2 g1 (hin' 0 (by omega)).1 (hin sz' q).1 (hin' 0 (by omega)).2 (hin sz' q).2
      exact hd 0 sz' (by omega) q (by rw [e0, this])
  exact ⟨es, fun i hi => step i hi (by omega)⟩
/-- rotate -/
theorem f_rotate {σ : Tab} {g fi sz : Nat} {co : Nat → Nat} {P : Tab → Prop} (hs : σ g 16 fi 2 = sz) (h1 : 1 ≤ sz) (h24 : sz ≤ 24) (hc : ∀ i, i < sz → σ g 18 fi i = co i ∧ co i < 24)
    (hP : ∀ (τ : Tab) (low : Nat), low < sz → (∀ i, i < sz → co low ≤ co i) → (∀ g' k' i', ¬ (g' = g ∧ ((k' = 6 ∧ i' = 0) ∨ (k' = 18 ∧ i' = fi))) → τ g' k' i' = σ g' k' i') → (∀ i, i < sz → τ g 18 fi i = co ((low + i) % sz)) → P τ) : wpX6_rotate g fi σ P := by
  have iS : inI (sz : Int) := inI_sm ⟨by omega, by omega⟩
  have lp2 : ∀ (low : Nat), low < sz → (∀ i, i < sz → co low ≤ co i) → ∀ (m k : Nat) (sp : Nat → Int), sz - k = m → k ≤ sz → (∀ i, i < k → sp i = co ((low + i) % sz)) → wlX6_rotate_37 g fi P (m + 1) low k (strow σ g 6 0 sp) := by
    intro low hl hmin m
    have r16 : ∀ sp, strow σ g 6 0 sp g 16 fi 2 = (sz : Int) := fun sp => by rw [strow_ne (fun z => by omega)]; exact hs
    have r18 : ∀ sp, strow σ g 6 0 sp g 18 fi = σ g 18 fi := fun sp => by rw [strow_ne (fun z => by omega)]
    induction m with
    | zero =>
      intro k sp e1 e2 e3
      unfold wlX6_rotate_37
      rw [r16]
      refine ⟨inI_sm ⟨by omega, by omega⟩, iS, fun _ => ⟨⟨by omega, by omega⟩, fun σ5 e5 => ?_⟩, fun z => by omega⟩
      subst e5
      refine hP _ low hl hmin (fun g' k' i' hn => ?_) (fun i hi => ?_)
      · unfold cpW
        rw [strow_ne (fun z => hn ⟨z.1, Or.inr z.2⟩), strow_ne (fun z => hn ⟨z.1, Or.inl z.2⟩)]
      · unfold cpW
        rw [strow_self]
        unfold cpr
        rw [if_pos (by omega), strow_self]
        exact e3 i (by omega)
    | succ m ih =>
      intro k sp e1 e2 e3
      unfold wlX6_rotate_37
      rw [r16, r18]
      have em : ((low : Int) + (k : Int)).tmod (sz : Int) = (((low + k) % sz : Nat) : Int) := by
        rw [Int.tmod_eq_emod_of_nonneg (by omega), ← Int.natCast_add, ← Int.natCast_emod]
      have lt := Nat.mod_lt (low + k) (show 0 < sz by omega)
      rw [em, Int.toNat_natCast, Int.toNat_natCast]
      refine ⟨inI_sm ⟨by omega, by omega⟩, iS, fun z => by omega, fun _ => ⟨inI_sm ⟨by omega, by omega⟩, by omega, ⟨by omega, by omega⟩, ⟨by omega, by omega⟩, fun σ10 e10 => ?_⟩⟩
      have e : σ10 = strow σ g 6 0 (upr sp k (co ((low + k) % sz))) := by
        rw [e10, Int.toNat_natCast, (hc _ lt).1]
        funext g' k' i' j'
        rw [st_app]
        unfold strow upr
        by_cases q : g' = g ∧ k' = 6 ∧ i' = 0
        · obtain ⟨rfl, rfl, rfl⟩ := q
          by_cases q2 : j' = k <;> simp [q2]
        · rw [if_neg (fun z => q ⟨z.1, z.2.1, z.2.2.1⟩), if_neg q, if_neg q]
      rw [e, ic]
      refine ih (k + 1) _ (by omega) (by omega) (fun i hi => ?_)
      unfold upr
      by_cases q : i = k
      · rw [if_pos q, q]
      · rw [if_neg q]; exact e3 i (by omega)
  have lp1 : ∀ (m k low : Nat), sz - k = m → k ≤ sz → low < k → (∀ i, i < k → co low ≤ co i) → wlX6_rotate_4 g fi P (m + 1) low k σ := by
    intro m
    induction m with
    | zero =>
      intro k low e1 e2 e3 e4
      unfold wlX6_rotate_4
      rw [hs]
      refine ⟨inI_sm ⟨by omega, by omega⟩, iS, fun _ => ?_, fun z => by omega⟩
      have e0 : σ = strow σ g 6 0 (σ g 6 0) := by
        funext g' k' i'
        unfold strow
        split
        · rename_i h; obtain ⟨rfl, rfl, rfl⟩ := h; rfl
        · rfl
      have := lp2 low (by omega) (fun i hi => e4 i (by omega)) sz 0 (σ g 6 0) (by omega) (by omega) (fun i hi => absurd hi (Nat.not_lt_zero _))
      rw [← e0] at this
      exact ⟨_, this⟩
    | succ m ih =>
      intro k low e1 e2 e3 e4
      have c1 := hc k (by omega)
      have c2 := hc low (by omega)
      unfold wlX6_rotate_4
      rw [hs, Int.toNat_natCast, Int.toNat_natCast, c1.1, c2.1, ic]
      refine ⟨inI_sm ⟨by omega, by omega⟩, iS, fun z => by omega, fun _ => ⟨⟨by omega, by omega⟩, ⟨by omega, by omega⟩, inI_sm ⟨by omega, by omega⟩, inI_sm ⟨by omega, by omega⟩, fun z => ?_, fun z => ?_⟩⟩
      · refine ih (k + 1) low (by omega) (by omega) (by omega) (fun i hi => ?_)
        by_cases q : i = k
        · subst q; omega
        · exact e4 i (by omega)
      · refine ih (k + 1) k (by omega) (by omega) (by omega) (fun i hi => ?_)
        by_cases q : i = k
        · rw [q]; exact Nat.le_refl _
        · have := e4 i (by omega); omega
  refine ⟨_, lp1 _ 1 0 rfl (by omega) (by decide) (fun i hi => ?_)⟩
  have e : i = 0 := by omega
  rw [e]
  exact Nat.le_refl _
def withinE (σ : Tab) (g g1 k1 i1 : Nat) (x y : Int) : Prop := ∃ k, live σ g k ∧ psame σ g 15 k g1 k1 i1 ∧ tgo σ g k x y
theorem f_within {σ : Tab} {g n g1 k1 i1 : Nat} {x y : Int} {P : Int → Tab → Prop} (hn : n ≤ 24) (hm : 0 ≤ σ g 0 0 12 ∧ σ g 0 0 12 ≤ 128) (hf : flags σ g) (hc : ∀ k, live σ g k → corOK σ g n k ∧ inP σ g 15 k) (hp : inP σ g1 k1 i1) (rx : inI x) (ry : inI y) (h1 : withinE σ g g1 k1 i1 x y → P 1 σ) (h0 : ¬ withinE σ g g1 k1 i1 x y → P 0 σ) : wpX2_within g g1 k1 i1 x y σ P := by
  have iM : inI (σ g 0 0 12) := inI_sm ⟨by omega, by omega⟩
  have lp : ∀ (m k : Nat), (σ g 0 0 12).toNat - k = m → (∀ k', k' < k → ¬ (live σ g k' ∧ psame σ g 15 k' g1 k1 i1 ∧ tgo σ g k' x y)) → (k : Int) ≤ σ g 0 0 12 → wlX2_within_3 g g1 k1 i1 P (m + 1) x y k σ := by
    intro m
    induction m with
    | zero =>
      intro k h2 h3 h4
      unfold wlX2_within_3
      refine ⟨inI_sm ⟨by omega, by omega⟩, iM, fun h => h0 ?_, fun h => by omega⟩
      rintro ⟨k', q⟩
      exact h3 k' (by have := q.1.1; omega) q
    | succ m ih =>
      intro k h2 h3 h4
      unfold wlX2_within_3
      refine ⟨inI_sm ⟨by omega, by omega⟩, iM, fun h => by omega, fun h => ?_⟩
      rw [Int.toNat_natCast, ic]
      have nx : ¬ (live σ g k ∧ psame σ g 15 k g1 k1 i1 ∧ tgo σ g k x y) → wlX2_within_3 g g1 k1 i1 P (m + 1) x y ((k + 1 : Nat) : Int) σ := by
        intro hq
        refine ih (k + 1) (by omega) (fun k' hk' => ?_) (by omega)
        by_cases e : k' = k
        · subst e; exact hq
        · exact h3 k' (by omega)
      have hfk := hf k (by omega)
      refine ⟨⟨by omega, by omega⟩, inI_f hfk, fun z => nx (fun q => by have := q.1.2; omega), fun z => ?_⟩
      have hl : live σ g k := ⟨by omega, by omega⟩
      obtain ⟨hco, hpl⟩ := hc k hl
      obtain ⟨i1', i2', i3'⟩ := corOK_in hn hco
      refine f_same hpl hp (fun q => ?_) (fun q => ?_)
      · refine ⟨⟨by decide, by decide⟩, fun e => absurd e (by decide), fun _ => ⟨⟨by omega, by omega⟩, ?_⟩⟩
        refine f_goes i1' i2' i3' rx ry (fun q2 => ?_) (fun q2 => ?_)
        · exact ⟨⟨by decide, by decide⟩, fun e => absurd e (by decide), fun _ => h1 ⟨k, hl, q, q2⟩⟩
        · exact ⟨⟨by decide, by decide⟩, fun _ => nx (fun z => q2 z.2.2), fun e => absurd rfl e⟩
      · exact ⟨⟨by decide, by decide⟩, fun _ => nx (fun z => q z.2.1), fun e => absurd rfl e⟩
  exact ⟨_, lp _ 0 rfl (fun k' h => absurd h (Nat.not_lt_zero _)) (by omega)⟩
theorem slot_inP {σ : Tab} {g n k : Nat} (hp : PtsOK σ g n) (h : slotOK σ g n k) : inP σ g 15 k := by
  obtain ⟨hn, hB, -⟩ := hp
  obtain ⟨⟨c1, c2, c3⟩, hpl⟩ := h
  obtain ⟨x1, x2, x3, x4⟩ := plOK_bd (hB _ (show (tv σ g k).1 < n by unfold tv; dsimp only; omega)) (hB _ (show (tv σ g k).2.1 < n by unfold tv; dsimp only; omega)) (hB _ (show (tv σ g k).2.2 < n by unfold tv; dsimp only; omega)) hpl
  exact ⟨inL_sm ⟨by omega, by omega⟩, inL_sm ⟨by omega, by omega⟩, inL_sm ⟨by omega, by omega⟩, inL_sm ⟨by omega, by omega⟩⟩
end FH

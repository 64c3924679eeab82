/-! THE MODEL'S public methods: the rest -/
section GK
variable {σ : Tab} {N fc m : Nat} {sz : Nat → Nat} {co : Nat → Nat → Nat} {nn : Nat → V3} {off : Nat → Int}
theorem f_support8 {P : Int → Tab → Prop} {x y z : Int} (h : MB σ N fc sz co nn off m) (ix : inI x) (iy : inI y) (iz : inI z) (h1 : σ 0 23 0 5 = 0 → P 0 (st σ 0 23 0 0 1)) (h2 : σ 0 23 0 5 = 1 → ¬ (wid x ∧ wid y ∧ wid z) → P 0 (st σ 0 23 0 0 2)) (h0 : σ 0 23 0 5 = 1 → wid x → wid y → wid z → ∀ r : Nat, SupR (MP σ) N (icn fc sz co) (x, y, z) r → P r (st σ 0 23 0 0 0)) : wpX8_support x y z σ P := by
  have bad : (σ 0 23 0 5 = 1 → ¬ (wid x ∧ wid y ∧ wid z)) → wlX8_support_37 P x y z (σ 0 23 0 5) 0 σ := by
    intro hn
    unfold wlX8_support_37
    refine f_goes8 (MB_01 h) (Or.inl rfl) (fun _ z => absurd z (by decide)) (fun e _ => ?_) (fun e => ?_)
    · exact ⟨⟨by decide, by decide⟩, fun z => absurd rfl z, fun _ => h2 e (hn e)⟩
    · exact ⟨⟨by decide, by decide⟩, fun z => absurd rfl z, fun _ => h1 e⟩
  unfold wpX8_support
  refine f_within8 ix ⟨by decide, by decide⟩ (fun a => ?_) (fun a => ⟨⟨by decide, by decide⟩, fun _ => bad (fun _ w => a w.1), fun z => absurd rfl z⟩)
  refine ⟨⟨by decide, by decide⟩, fun z => absurd z (by decide), fun _ => ?_⟩
  refine f_within8 iy ⟨by decide, by decide⟩ (fun b => ?_) (fun a => ⟨⟨by decide, by decide⟩, fun _ => bad (fun _ w => a w.2.1), fun z => absurd rfl z⟩)
  refine ⟨⟨by decide, by decide⟩, fun z => absurd z (by decide), fun _ => ?_⟩
  refine f_within8 iz ⟨by decide, by decide⟩ (fun c => ?_) (fun a => ⟨⟨by decide, by decide⟩, fun _ => bad (fun _ w => a w.2.2), fun z => absurd rfl z⟩)
  refine ⟨⟨by decide, by decide⟩, fun z => absurd z (by decide), fun _ => ?_⟩
  unfold wlX8_support_37
  refine f_goes8 (MB_01 h) (Or.inr rfl) (fun e _ => ?_) (fun _ z => absurd z (by decide)) (fun e => ?_)
  · refine ⟨⟨by decide, by decide⟩, fun _ => f_sup54 (MSp_t (MB_1 h e)) a b c (fun r hr => ?_), fun z => absurd (by decide) z⟩
    rw [MP_t] at hr
    exact h0 e a b c r hr
  · exact ⟨⟨by decide, by decide⟩, fun z => absurd rfl z, fun _ => h1 e⟩
theorem f_side8 {P : Int → Tab → Prop} {x y z : Int} (h : MB σ N fc sz co nn off m) (ix : inI x) (iy : inI y) (iz : inI z) (h1 : σ 0 23 0 5 = 0 → P 0 (st σ 0 23 0 0 1)) (h2 : σ 0 23 0 5 = 1 → ¬ (wid x ∧ wid y ∧ wid z) → P 0 (st σ 0 23 0 0 2)) (h0 : σ 0 23 0 5 = 1 → wid x → wid y → wid z → ∀ r, SideR fc nn off (x, y, z) r → P r (st σ 0 23 0 0 0)) : wpX8_side x y z σ P := by
  have bad : (σ 0 23 0 5 = 1 → ¬ (wid x ∧ wid y ∧ wid z)) → wlX8_side_37 P x y z (σ 0 23 0 5) 0 σ := by
    intro hn
    unfold wlX8_side_37
    refine f_goes8 (MB_01 h) (Or.inl rfl) (fun _ z => absurd z (by decide)) (fun e _ => ?_) (fun e => ?_)
    · exact ⟨⟨by decide, by decide⟩, fun z => absurd rfl z, fun _ => h2 e (hn e)⟩
    · exact ⟨⟨by decide, by decide⟩, fun z => absurd rfl z, fun _ => h1 e⟩
  unfold wpX8_side
  refine f_within8 ix ⟨by decide, by decide⟩ (fun a => ?_) (fun a => ⟨⟨by decide, by decide⟩, fun _ => bad (fun _ w => a w.1), fun z => absurd rfl z⟩)
  refine ⟨⟨by decide, by decide⟩, fun z => absurd z (by decide), fun _ => ?_⟩
  refine f_within8 iy ⟨by decide, by decide⟩ (fun b => ?_) (fun a => ⟨⟨by decide, by decide⟩, fun _ => bad (fun _ w => a w.2.1), fun z => absurd rfl z⟩)
  refine ⟨⟨by decide, by decide⟩, fun z => absurd z (by decide), fun _ => ?_⟩
  refine f_within8 iz ⟨by decide, by decide⟩ (fun c => ?_) (fun a => ⟨⟨by decide, by decide⟩, fun _ => bad (fun _ w => a w.2.2), fun z => absurd rfl z⟩)
  refine ⟨⟨by decide, by decide⟩, fun z => absurd z (by decide), fun _ => ?_⟩
  unfold wlX8_side_37
  refine f_goes8 (MB_01 h) (Or.inr rfl) (fun e _ => ?_) (fun _ z => absurd z (by decide)) (fun e => ?_)
  · exact ⟨⟨by decide, by decide⟩, fun _ => f_side51 (MSp_t (MB_1 h e)) a b c (fun r hr => h0 e a b c r hr), fun z => absurd (by decide) z⟩
  · exact ⟨⟨by decide, by decide⟩, fun z => absurd rfl z, fun _ => h1 e⟩
theorem f_steps8 {P : Int → Tab → Prop} {x y : Int} (h : MB σ N fc sz co nn off m) (ix : inI x) (iy : inI y) (h1 : σ 0 23 0 5 = 0 → P 0 (st σ 0 23 0 0 1)) (h2 : σ 0 23 0 5 = 1 → ¬ ((0 ≤ x ∧ x < N ∧ icn fc sz co x.toNat) ∧ 0 ≤ y ∧ y < N ∧ icn fc sz co y.toNat) → P 0 (st σ 0 23 0 0 2)) (h0 : σ 0 23 0 5 = 1 → (0 ≤ x ∧ x < N ∧ icn fc sz co x.toNat) → (0 ≤ y ∧ y < N ∧ icn fc sz co y.toNat) → ∀ (r : Nat) (A : Nat → Int), DstR (dE fc sz co) x.toNat y.toNat r → P r (strow (st σ 0 23 0 0 0) 0 40 0 A)) : wpX8_steps x y σ P := by
  have hb := MB_n h
  have bad : (σ 0 23 0 5 = 1 → ¬ ((0 ≤ x ∧ x < N ∧ icn fc sz co x.toNat) ∧ 0 ≤ y ∧ y < N ∧ icn fc sz co y.toNat)) → wlX8_steps_52 P x y 0 σ := by
    intro hn
    unfold wlX8_steps_52
    refine f_goes8 (MB_01 h) (Or.inl rfl) (fun _ z => absurd z (by decide)) (fun e _ => ?_) (fun e => ?_)
    · exact ⟨⟨by decide, by decide⟩, fun z => absurd rfl z, fun _ => h2 e (hn e)⟩
    · exact ⟨⟨by decide, by decide⟩, fun z => absurd rfl z, fun _ => h1 e⟩
  unfold wpX8_steps
  refine ⟨inI_f (MB_01 h), fun e => bad (fun e' => by omega), fun e => ?_⟩
  have e1 : σ 0 23 0 5 = 1 := by have := MB_01 h; omega
  have hM := MB_1 h e1
  have e7 : σ 0 23 0 7 = N := hM.1
  have hN := hM.2.1
  rw [e7]
  refine ⟨ix, fun z => bad (fun _ w => by have := w.1.1; omega), fun z => ⟨inI_sm ⟨by omega, by omega⟩, fun z2 => bad (fun _ w => by have := w.1.2.1; omega), fun z2 => ⟨iy, fun z3 => bad (fun _ w => by have := w.2.1; omega), fun z3 => ⟨fun z4 => bad (fun _ w => by have := w.2.2.1; omega), fun z4 => ?_⟩⟩⟩⟩
  obtain ⟨a, rfl⟩ := Int.eq_ofNat_of_zero_le (show 0 ≤ x by omega)
  obtain ⟨b, rfl⟩ := Int.eq_ofNat_of_zero_le (show 0 ≤ y by omega)
  rw [Int.toNat_natCast, Int.toNat_natCast] at bad h0
  refine f_isCorner8 hM (by omega) (fun ca => ?_) (fun ca => ⟨⟨by decide, by decide⟩, fun _ => bad (fun _ w => ca w.1.2.2), fun z => absurd rfl z⟩)
  refine ⟨⟨by decide, by decide⟩, fun z => absurd z (by decide), fun _ => ?_⟩
  refine f_isCorner8 hM (by omega) (fun cb => ?_) (fun cb => ⟨⟨by decide, by decide⟩, fun _ => bad (fun _ w => cb w.2.2.2), fun z => absurd rfl z⟩)
  refine ⟨⟨by decide, by decide⟩, fun z => absurd z (by decide), fun _ => ?_⟩
  unfold wlX8_steps_52
  refine f_goes8 (MB_01 h) (Or.inr rfl) (fun _ _ => ?_) (fun _ z => absurd z (by decide)) (fun e => by omega)
  refine ⟨⟨by decide, by decide⟩, fun _ => f_steps70 (MSp_t hM) ca cb (by omega) (by omega) (fun r A hr => ?_), fun z => absurd (by decide) z⟩
  exact h0 e1 ⟨by omega, by omega, ca⟩ ⟨by omega, by omega, cb⟩ r A hr
theorem f_volume8 {P : Int → Tab → Prop} (h : MB σ N fc sz co nn off m) (h1 : σ 0 23 0 5 = 0 → P 0 (st σ 0 23 0 0 1)) (h0 : σ 0 23 0 5 = 1 → P (momI (MP σ) 3 fc sz co) (st σ 0 23 0 0 0)) : wpX8_volume σ P := by
  unfold wpX8_volume
  refine f_goes8 (MB_01 h) (Or.inr rfl) (fun e _ => ?_) (fun _ z => absurd z (by decide)) (fun e => ?_)
  · refine ⟨⟨by decide, by decide⟩, fun z => absurd z (by decide), fun _ => ?_⟩
    refine f_sum (Or.inl ⟨rfl, rfl⟩) (MSp_t (MB_1 h e)) ?_
    rw [MP_t]
    exact h0 e
  · exact ⟨⟨by decide, by decide⟩, fun _ => h1 e, fun z => absurd rfl z⟩
theorem f_centre8 {P : Int → Tab → Prop} {x : Int} (h : MB σ N fc sz co nn off m) (ix : inI x) (h1 : σ 0 23 0 5 = 0 → P 0 (st σ 0 23 0 0 1)) (h2 : σ 0 23 0 5 = 1 → ¬ (0 ≤ x ∧ x ≤ 2) → P 0 (st σ 0 23 0 0 2)) (h0 : σ 0 23 0 5 = 1 → (0 ≤ x ∧ x ≤ 2) → P (momI (MP σ) x.toNat fc sz co) (st σ 0 23 0 0 0)) : wpX8_centre x σ P := by
  have bad : ¬ (0 ≤ x ∧ x ≤ 2) → wlX8_centre_19 P x (σ 0 23 0 5) 0 σ := by
    intro hn
    unfold wlX8_centre_19
    refine f_goes8 (MB_01 h) (Or.inl rfl) (fun _ z => absurd z (by decide)) (fun e _ => ?_) (fun e => ?_)
    · exact ⟨⟨by decide, by decide⟩, fun _ => h2 e hn, fun z => absurd rfl z⟩
    · exact ⟨⟨by decide, by decide⟩, fun _ => h1 e, fun z => absurd rfl z⟩
  unfold wpX8_centre
  refine ⟨ix, fun z => bad (by omega), fun z => ⟨fun w => bad (by omega), fun w => ?_⟩⟩
  unfold wlX8_centre_19
  refine f_goes8 (MB_01 h) (Or.inr rfl) (fun e _ => ?_) (fun _ z => absurd z (by decide)) (fun e => ?_)
  · refine ⟨⟨by decide, by decide⟩, fun z => absurd z (by decide), fun _ => ?_⟩
    refine f_sum (w := x.toNat) (Or.inr ⟨by omega, by omega⟩) (MSp_t (MB_1 h e)) ?_
    rw [MP_t]
    exact h0 e ⟨by omega, by omega⟩
  · exact ⟨⟨by decide, by decide⟩, fun _ => h1 e, fun z => absurd rfl z⟩
theorem f_middle8 {P : UInt64 → Tab → Prop} {x : Int} (h : MB σ N fc sz co nn off m) (ix : inI x) (h1 : σ 0 23 0 5 = 0 → P 0 (st σ 0 23 0 0 1)) (h2 : σ 0 23 0 5 = 1 → ¬ (0 ≤ x ∧ x ≤ 2) → P 0 (st σ 0 23 0 0 2)) (h0 : σ 0 23 0 5 = 1 → (0 ≤ x ∧ x ≤ 2) → P (FP.ddiv (FP.l2d (Int64.ofInt (momI (MP σ) x.toNat fc sz co))) (FP.l2d (Int64.ofInt (4 * momI (MP σ) 3 fc sz co)))) (st σ 0 23 0 0 0)) : wpX8_middle x σ P := by
  have bad : ¬ (0 ≤ x ∧ x ≤ 2) → wlX8_middle_19 P x (σ 0 23 0 5) 0 σ := by
    intro hn
    unfold wlX8_middle_19
    refine f_goes8 (MB_01 h) (Or.inl rfl) (fun _ z => absurd z (by decide)) (fun e _ => ?_) (fun e => ?_)
    · exact ⟨⟨by decide, by decide⟩, fun z => absurd rfl z, fun _ => h2 e hn⟩
    · exact ⟨⟨by decide, by decide⟩, fun z => absurd rfl z, fun _ => h1 e⟩
  unfold wpX8_middle
  refine ⟨ix, fun z => bad (by omega), fun z => ⟨fun w => bad (by omega), fun w => ?_⟩⟩
  unfold wlX8_middle_19
  refine f_goes8 (MB_01 h) (Or.inr rfl) (fun e _ => ?_) (fun _ z => absurd z (by decide)) (fun e => ?_)
  · refine ⟨⟨by decide, by decide⟩, fun _ => ?_, fun z => absurd (by decide) z⟩
    have hM := MB_1 h e
    refine f_sum (w := x.toNat) (Or.inr ⟨by omega, by omega⟩) (MSp_t hM) ?_
    refine f_sum (w := 3) (Or.inl ⟨rfl, rfl⟩) (MSp_t hM) ?_
    rw [MP_t]
    exact ⟨mid_ok (vol_ne hM).2.2, h0 e ⟨by omega, by omega⟩⟩
  · exact ⟨⟨by decide, by decide⟩, fun z => absurd rfl z, fun _ => h1 e⟩
theorem f_count8 {P : Int → Tab → Prop} {x : Int} (h : MB σ N fc sz co nn off m) (ix : inI x) (h1 : ¬ (0 ≤ x ∧ x ≤ 4) → P 0 (st σ 0 23 0 0 1)) (hp : x = 0 → P (σ 0 23 0 1) (st σ 0 23 0 0 0)) (h4 : x = 4 → P (σ 0 23 0 6) (st σ 0 23 0 0 0)) (hn : σ 0 23 0 5 = 0 → (x = 1 ∨ x = 2 ∨ x = 3) → P 0 (st σ 0 23 0 0 0)) (hf : σ 0 23 0 5 = 1 → x = 1 → P fc (st σ 0 23 0 0 0)) (he : σ 0 23 0 5 = 1 → x = 2 → P m (st σ 0 23 0 0 0)) (hc : σ 0 23 0 5 = 1 → x = 3 → P (cnC (icn fc sz co) N) (st σ 0 23 0 0 0)) : wpX8_count x σ P := by
  have bad : ¬ (0 ≤ x ∧ x ≤ 4) → wlX8_count_15 P x 0 σ := by
    intro hn
    unfold wlX8_count_15
    refine f_goes8 (Or.inl rfl) (Or.inr rfl) (fun z => absurd z (by decide)) (fun z => absurd z (by decide)) (fun _ => ?_)
    exact ⟨⟨by decide, by decide⟩, fun z => absurd rfl z, fun _ => h1 hn⟩
  unfold wpX8_count
  refine ⟨ix, fun z => bad (by omega), fun z => ⟨fun w => bad (by omega), fun w => ?_⟩⟩
  unfold wlX8_count_15
  refine f_goes8 (Or.inr rfl) (Or.inr rfl) (fun _ _ => ?_) (fun _ z => absurd z (by decide)) (fun z => absurd z (by decide))
  refine ⟨⟨by decide, by decide⟩, fun _ => ?_, fun z => absurd (by decide) z⟩
  have j : ∀ k, k ≠ 0 → st σ 0 23 0 0 0 0 23 0 k = σ 0 23 0 k := fun k hk => st_j hk
  have fin : ∀ (k : Nat) (c : Int) (p : Int), inI p → inI (σ 0 23 0 7) → σ 0 23 0 7 ≤ p → (σ 0 23 0 5 = 1 → c = cnC (icn fc sz co) N) → wlX8_count_28 P (k + 1) x c p (st σ 0 23 0 0 0) := by
    intro k c p ip i7 hle hcc
    unfold wlX8_count_28
    rw [j 7 (by decide), j 6 (by decide), j 1 (by decide), j 5 (by decide), j 11 (by decide), j 19 (by decide)]
    refine ⟨ip, i7, fun _ => ⟨ix, fun q => h4 (by omega), fun q => ⟨fun q0 => hp q0, fun q0 => ⟨fun q1 => ⟨inI_f (MB_01 h), fun b => hn b (by omega), fun b => ?_⟩, fun q1 => ⟨fun q2 => ⟨inI_f (MB_01 h), fun b => hn b (by omega), fun b => ?_⟩, fun q2 => ⟨fun q3 => ⟨inI_f (MB_01 h), fun b => hn b (by omega), fun b => ?_⟩, fun _ => trivial⟩⟩⟩⟩⟩, fun q => absurd hle q⟩
    · have e : σ 0 23 0 5 = 1 := by have := MB_01 h; omega
      rw [(MB_1 h e).2.2.2.2.2.1.1]
      exact hf e q1
    · have e : σ 0 23 0 5 = 1 := by have := MB_01 h; omega
      rw [(MB_1 h e).2.2.2.2.2.2.2.2.2.2.1]
      exact he e q2
    · have e : σ 0 23 0 5 = 1 := by have := MB_01 h; omega
      rw [hcc e]
      exact hc e q3
  rcases id h with ⟨e, hM⟩ | ⟨e, e7, _, _⟩
  · have h7 : σ 0 23 0 7 = N := hM.1
    have hN := hM.2.1
    refine f_count28 (MSp_t hM) (fun k => fin k _ N (inI_sm ⟨by omega, by omega⟩) (by rw [h7]; exact inI_sm ⟨by omega, by omega⟩) (by omega) (fun _ => rfl))
  · exact ⟨1, fin 0 0 0 ⟨by decide, by decide⟩ (by rw [e7]; exact ⟨by decide, by decide⟩) (by omega) (fun e' => by omega)⟩
end GK

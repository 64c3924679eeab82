/-! THE MODEL'S public methods: what looks at the hull -/
section GJ
theorem tp_bd {a b c : V3} (ha : B93 a) (hb : B93 b) (hc : B93 c) : -805306368 ≤ tp a b c ∧ tp a b c ≤ 805306368 := by
  obtain ⟨a1, a2, a3⟩ := ha
  obtain ⟨b1, b2, b3⟩ := hb
  obtain ⟨c1, c2, c3⟩ := hc
  unfold B9 at *
  have m1 := mul_bd (a := 512) (b := 512) a2 b3 (by decide)
  have m2 := mul_bd (a := 512) (b := 512) a3 b2 (by decide)
  have m3 := mul_bd (a := 512) (b := 512) a3 b1 (by decide)
  have m4 := mul_bd (a := 512) (b := 512) a1 b3 (by decide)
  have m5 := mul_bd (a := 512) (b := 512) a1 b2 (by decide)
  have m6 := mul_bd (a := 512) (b := 512) a2 b1 (by decide)
  have t1 := mul_bd (a := 524288) (b := 512) (x := a.2.1 * b.2.2 - a.2.2 * b.2.1) (by omega) c1 (by decide)
  have t2 := mul_bd (a := 524288) (b := 512) (x := a.2.2 * b.1 - a.1 * b.2.2) (by omega) c2 (by decide)
  have t3 := mul_bd (a := 524288) (b := 512) (x := a.1 * b.2.1 - a.2.1 * b.1) (by omega) c3 (by decide)
  simp only [tp, dt, cr]
  omega
theorem tot_bd {s : Nat → Int} {M : Int} {n : Nat} (h : ∀ i, i < n → - M ≤ s i ∧ s i ≤ M) : - ((n : Int) * M) ≤ tot s n ∧ tot s n ≤ (n : Int) * M := by
  induction n with
  | zero => show - ((0 : Int) * M) ≤ 0 ∧ 0 ≤ (0 : Int) * M; omega
  | succ n ih =>
    have i := ih (fun i hi => h i (by omega))
    have j := h n (by omega)
    have e : ((n + 1 : Nat) : Int) * M = (n : Int) * M + M := by rw [← ic, Int.add_mul, Int.one_mul]
    unfold tot
    rw [e]
    omega
theorem fan_tot {Q : Nat → V3} {w : Nat} {co : Nat → Nat} (n : Nat) : fan Q w co n = tot (fun k => tm Q w (co 0) (co (k + 1)) (co (k + 2))) n := by
  induction n with
  | zero => rfl
  | succ n ih => unfold fan tot; rw [ih]
variable {σ : Tab} {N fc m : Nat} {sz : Nat → Nat} {co : Nat → Nat → Nat} {nn : Nat → V3} {off : Nat → Int}
theorem vol_bd {Q : Nat → V3} (hN : N ≤ 24) (h44 : fc ≤ 44) (hB : ∀ i, i < N → B93 (Q i)) (h : FamOK Q N fc sz co nn off) : momI Q 3 fc sz co ≤ 1000000000000 := by
  have b := tot_bd (s := fun j => fan Q 3 (co j) (sz j - 2)) (M := 22 * 805306368) (n := fc) (fun j hj => by
    obtain ⟨-, -, a3, a4, -⟩ := h.1 j hj
    have t := tot_bd (s := fun k => tm Q 3 (co j 0) (co j (k + 1)) (co j (k + 2))) (M := 805306368) (n := sz j - 2) (fun k hk => by
      have := tp_bd (hB _ (a4 0 (by omega)).1) (hB _ (a4 (k + 1) (by omega)).1) (hB _ (a4 (k + 2) (by omega)).1)
      have e : tm Q 3 (co j 0) (co j (k + 1)) (co j (k + 2)) = tp (Q (co j 0)) (Q (co j (k + 1))) (Q (co j (k + 2))) := by unfold tm wt3; rw [if_pos rfl, Int.mul_one]
      rw [e]
      omega)
    rw [← fan_tot] at t
    omega)
  unfold momI
  omega
theorem vol_ne (h : MSp σ N fc sz co nn off m) : 0 < momI (MP σ) 3 fc sz co ∧ momI (MP σ) 3 fc sz co ≤ 1000000000000 ∧ Int64.ofInt (4 * momI (MP σ) 3 fc sz co) ≠ 0 := by
  obtain ⟨T, H⟩ := Hul_of h.2.2.2.1 h.2.2.2.2.1
  obtain ⟨-, hN, hB, hinj, -, ⟨-, h44, -⟩, -, -, hF, -, -, -⟩ := id h
  have h1 : 1 ≤ fc := by
    obtain ⟨p, _, j, i, hj, _⟩ := icn_ex h
    omega
  have v1 := vol_pos H hinj hN hF h1
  have v2 := vol_bd hN h44 hB hF
  refine ⟨v1, v2, fun z => ?_⟩
  have e := inL_t (x := 4 * momI (MP σ) 3 fc sz co) (inL_sm ⟨by omega, by omega⟩)
  rw [z] at e
  have e0 : (0 : Int64).toInt = 0 := by decide
  rw [e0] at e
  omega
theorem MSp_t {v : Int} (h : MSp σ N fc sz co nn off m) : MSp (st σ 0 23 0 0 v) N fc sz co nn off m := MSp_congr h (fun k h1 h2 => st_k (by omega)) ⟨st_j (by decide), st_j (by decide), st_j (by decide)⟩
theorem MP_t {v : Int} : MP (st σ 0 23 0 0 v) = MP σ := MP_st (by decide)
/-- built or not -/
def MB (σ : Tab) (N fc : Nat) (sz : Nat → Nat) (co : Nat → Nat → Nat) (nn : Nat → V3) (off : Nat → Int) (m : Nat) : Prop := (σ 0 23 0 5 = 1 ∧ MSp σ N fc sz co nn off m) ∨ (σ 0 23 0 5 = 0 ∧ σ 0 23 0 7 = 0 ∧ σ 0 23 0 11 = 0 ∧ σ 0 23 0 19 = 0)
theorem MB_01 (h : MB σ N fc sz co nn off m) : σ 0 23 0 5 = 0 ∨ σ 0 23 0 5 = 1 := by
  rcases h with ⟨e, _⟩ | ⟨e, _⟩
  · exact Or.inr e
  · exact Or.inl e
theorem MB_1 (h : MB σ N fc sz co nn off m) (e : σ 0 23 0 5 = 1) : MSp σ N fc sz co nn off m := by
  rcases h with ⟨_, w⟩ | ⟨e', _⟩
  · exact w
  · omega
theorem MB_n (h : MB σ N fc sz co nn off m) : (0 ≤ σ 0 23 0 7 ∧ σ 0 23 0 7 ≤ 24) ∧ (0 ≤ σ 0 23 0 11 ∧ σ 0 23 0 11 ≤ 44) ∧ (0 ≤ σ 0 23 0 19 ∧ σ 0 23 0 19 ≤ 66) := by
  rcases h with ⟨_, w⟩ | ⟨_, w1, w2, w3⟩
  · obtain ⟨a1, a2, -, -, -, ⟨a3, a4, -⟩, -, -, -, a5, a6, -⟩ := w
    omega
  · omega
theorem f_there {P : Int → Tab → Prop} {x : Int} (h : MB σ N fc sz co nn off m) (hx : inI x) (h1 : 0 ≤ x → x < σ 0 23 0 11 → P 1 σ) (h0 : ¬ (0 ≤ x ∧ x < σ 0 23 0 11) → P 0 σ) : wpX8_there x σ P := by
  have := MB_n h
  unfold wpX8_there
  exact ⟨hx, fun z => h0 (by omega), fun z => ⟨inI_sm ⟨by omega, by omega⟩, fun w => h0 (by omega), fun w => h1 (by omega) (by omega)⟩⟩
theorem f_within8 {P : Int → Tab → Prop} {x y : Int} (hx : inI x) (hy : 0 ≤ y ∧ y ≤ 65536) (h1 : -y ≤ x ∧ x ≤ y → P 1 σ) (h0 : ¬ (-y ≤ x ∧ x ≤ y) → P 0 σ) : wpX8_within x y σ P := by
  unfold wpX8_within
  exact ⟨hx, inI_sm ⟨by omega, by omega⟩, fun z => h0 (by omega), fun z => ⟨inI_sm ⟨by omega, by omega⟩, fun w => h0 (by omega), fun w => h1 (by omega)⟩⟩
/-- which of four -/
def four (x : Int) (a b c d : Int) : Int := if x = 0 then a else if x = 1 then b else if x = 2 then c else d
theorem f_face8 {P : Int → Tab → Prop} {x1 x2 : Int} (h : MB σ N fc sz co nn off m) (i1 : inI x1) (i2 : inI x2) (h1 : σ 0 23 0 5 = 0 → P 0 (st σ 0 23 0 0 1)) (h2 : σ 0 23 0 5 = 1 → ¬ ((0 ≤ x1 ∧ x1 < fc) ∧ 0 ≤ x2 ∧ x2 ≤ 3) → P 0 (st σ 0 23 0 0 2)) (h0 : σ 0 23 0 5 = 1 → (0 ≤ x1 ∧ x1 < fc) → (0 ≤ x2 ∧ x2 ≤ 3) → P (four x2 (sz x1.toNat) (nn x1.toNat).1 (nn x1.toNat).2.1 (nn x1.toNat).2.2) (st σ 0 23 0 0 0)) : wpX8_face x1 x2 σ P := by
  have fcE : σ 0 23 0 5 = 1 → σ 0 23 0 11 = fc := fun e => (MB_1 h e).2.2.2.2.2.1.1
  have bad : (σ 0 23 0 5 = 1 → ¬ ((0 ≤ x1 ∧ x1 < fc) ∧ 0 ≤ x2 ∧ x2 ≤ 3)) → wlX8_face_27 P x1 x2 (σ 0 23 0 5) 0 σ := by
    intro hn
    unfold wlX8_face_27
    refine f_goes8 (MB_01 h) (Or.inl rfl) (fun _ z => absurd z (by decide)) (fun e _ => ?_) (fun e => ?_)
    · exact ⟨⟨by decide, by decide⟩, fun z => absurd rfl z, fun _ => h2 e (hn e)⟩
    · exact ⟨⟨by decide, by decide⟩, fun z => absurd rfl z, fun _ => h1 e⟩
  unfold wpX8_face
  refine f_there h i1 (fun a1 a2 => ?_) (fun a => ?_)
  · refine ⟨⟨by decide, by decide⟩, fun z => absurd z (by decide), fun _ => ⟨i2, fun z => bad (fun _ => by omega), fun z => ⟨fun w => bad (fun _ => by omega), fun w => ?_⟩⟩⟩
    unfold wlX8_face_27
    refine f_goes8 (MB_01 h) (Or.inr rfl) (fun e _ => ?_) (fun _ z => absurd z (by decide)) (fun e => ?_)
    · have hM := MB_1 h e
      have ee := fcE e
      have hk : x1.toNat < fc := by omega
      obtain ⟨o1, o2⟩ := (MSp_od hM).1 _ hk
      obtain ⟨r1, r2, r3, r4, r5⟩ := raw_ok hM hk
      obtain ⟨p1, p2, -⟩ := hM.2.2.2.2.2.2.1 _ hk
      have h44 := hM.2.2.2.2.2.1.2.1
      have res := h0 e ⟨by omega, by omega⟩ ⟨by omega, by omega⟩
      refine ⟨⟨by decide, by decide⟩, fun _ => ⟨⟨by omega, by omega⟩, fun y5 e5 => ?_⟩, fun z => absurd (by decide) z⟩
      have e5 : y5 = σ 0 36 0 x1.toNat := by rw [e5, st_k (by decide)]
      rw [o2] at e5
      have k34 : st σ 0 23 0 0 0 0 34 0 = σ 0 34 0 := st_k (by decide)
      have k30 : st σ 0 23 0 0 0 0 30 0 = σ 0 30 0 := st_k (by decide)
      have k31 : st σ 0 23 0 0 0 0 31 0 = σ 0 31 0 := st_k (by decide)
      have k32 : st σ 0 23 0 0 0 0 32 0 = σ 0 32 0 := st_k (by decide)
      have q1 : σ 0 30 0 (odx σ x1.toNat) = (nn x1.toNat).1 := by rw [← p1]; rfl
      have q2 : σ 0 31 0 (odx σ x1.toNat) = (nn x1.toNat).2.1 := by rw [← p1]; rfl
      have q3 : σ 0 32 0 (odx σ x1.toNat) = (nn x1.toNat).2.2 := by rw [← p1]; rfl
      rw [k34, k30, k31, k32, e5, Int.toNat_natCast, r2, q1, q2, q3]
      unfold four at res
      refine ⟨i2, fun z => ⟨fun z2 => ⟨fun z3 => ⟨⟨by omega, by omega⟩, ?_⟩, fun z3 => ⟨⟨by omega, by omega⟩, ?_⟩⟩, fun z2 => ⟨⟨by omega, by omega⟩, ?_⟩⟩, fun z => ⟨⟨by omega, by omega⟩, ?_⟩⟩
      · rw [if_neg z, if_neg z2, if_neg z3] at res; exact res
      · rw [if_neg z, if_neg z2, if_pos (Decidable.of_not_not z3)] at res; exact res
      · rw [if_neg z, if_pos (Decidable.of_not_not z2)] at res; exact res
      · rw [if_pos (Decidable.of_not_not z)] at res; exact res
    · exact ⟨⟨by decide, by decide⟩, fun z => absurd rfl z, fun _ => h1 e⟩
  · exact ⟨⟨by decide, by decide⟩, fun _ => bad (fun e => by rw [fcE e] at a; omega), fun z => absurd rfl z⟩
theorem f_offset8 {P : Int → Tab → Prop} {x1 : Int} (h : MB σ N fc sz co nn off m) (i1 : inI x1) (h1 : σ 0 23 0 5 = 0 → P 0 (st σ 0 23 0 0 1)) (h2 : σ 0 23 0 5 = 1 → ¬ (0 ≤ x1 ∧ x1 < fc) → P 0 (st σ 0 23 0 0 2)) (h0 : σ 0 23 0 5 = 1 → (0 ≤ x1 ∧ x1 < fc) → P (off x1.toNat) (st σ 0 23 0 0 0)) : wpX8_offset x1 σ P := by
  have fcE : σ 0 23 0 5 = 1 → σ 0 23 0 11 = fc := fun e => (MB_1 h e).2.2.2.2.2.1.1
  unfold wpX8_offset
  refine f_there h i1 (fun a1 a2 => ?_) (fun a => ?_)
  · refine f_goes8 (MB_01 h) (Or.inr rfl) (fun e _ => ?_) (fun _ z => absurd z (by decide)) (fun e => ?_)
    · have hM := MB_1 h e
      have ee := fcE e
      have hk : x1.toNat < fc := by omega
      obtain ⟨o1, o2⟩ := (MSp_od hM).1 _ hk
      obtain ⟨p1, p2, -⟩ := hM.2.2.2.2.2.2.1 _ hk
      have h44 := hM.2.2.2.2.2.1.2.1
      have res := h0 e ⟨by omega, by omega⟩
      have k36 : st σ 0 23 0 0 0 0 36 0 = σ 0 36 0 := st_k (by decide)
      have k33 : st σ 0 23 0 0 0 0 33 0 = σ 0 33 0 := st_k (by decide)
      rw [k36, k33, p2]
      exact ⟨⟨by decide, by decide⟩, fun z => absurd z (by decide), fun _ => ⟨⟨by omega, by omega⟩, ⟨by omega, by omega⟩, res⟩⟩
    · exact ⟨⟨by decide, by decide⟩, fun _ => h1 e, fun z => absurd rfl z⟩
  · refine f_goes8 (MB_01 h) (Or.inl rfl) (fun _ z => absurd z (by decide)) (fun e _ => ?_) (fun e => ?_)
    · exact ⟨⟨by decide, by decide⟩, fun _ => h2 e (by rw [fcE e] at a; omega), fun z => absurd rfl z⟩
    · exact ⟨⟨by decide, by decide⟩, fun _ => h1 e, fun z => absurd rfl z⟩
theorem f_corner8 {P : Int → Tab → Prop} {x1 x2 : Int} (h : MB σ N fc sz co nn off m) (i1 : inI x1) (i2 : inI x2) (h1 : σ 0 23 0 5 = 0 → P 0 (st σ 0 23 0 0 1)) (h2 : σ 0 23 0 5 = 1 → ¬ ((0 ≤ x1 ∧ x1 < fc) ∧ 0 ≤ x2 ∧ x2 < sz x1.toNat) → P 0 (st σ 0 23 0 0 2)) (h0 : σ 0 23 0 5 = 1 → (0 ≤ x1 ∧ x1 < fc) → (0 ≤ x2 ∧ x2 < sz x1.toNat) → P (co x1.toNat x2.toNat) (st σ 0 23 0 0 0)) : wpX8_corner x1 x2 σ P := by
  have fcE : σ 0 23 0 5 = 1 → σ 0 23 0 11 = fc := fun e => (MB_1 h e).2.2.2.2.2.1.1
  have bad : (σ 0 23 0 5 = 1 → ¬ ((0 ≤ x1 ∧ x1 < fc) ∧ 0 ≤ x2 ∧ x2 < sz x1.toNat)) → wlX8_corner_37 P x1 x2 (σ 0 23 0 5) 0 σ := by
    intro hn
    unfold wlX8_corner_37
    refine f_goes8 (MB_01 h) (Or.inl rfl) (fun _ z => absurd z (by decide)) (fun e _ => ?_) (fun e => ?_)
    · exact ⟨⟨by decide, by decide⟩, fun z => absurd rfl z, fun _ => h2 e (hn e)⟩
    · exact ⟨⟨by decide, by decide⟩, fun z => absurd rfl z, fun _ => h1 e⟩
  unfold wpX8_corner
  refine f_there h i1 (fun a1 a2 => ?_) (fun a => ?_)
  · have e : σ 0 23 0 5 = 1 := by
      rcases h with ⟨w, _⟩ | ⟨_, _, w, _⟩
      · exact w
      · omega
    have hM := MB_1 h e
    have ee := fcE e
    have hk : x1.toNat < fc := by omega
    obtain ⟨o1, o2⟩ := (MSp_od hM).1 _ hk
    obtain ⟨r1, r2, r3, r4, r5⟩ := raw_ok hM hk
    have h44 := hM.2.2.2.2.2.1.2.1
    have hN := hM.2.1
    rw [show (σ 0 36 0 x1.toNat).toNat = odx σ x1.toNat from rfl, r2]
    refine ⟨⟨by decide, by decide⟩, fun z => absurd z (by decide), fun _ => ⟨i2, fun z => bad (fun _ => by omega), fun z => ⟨⟨by omega, by omega⟩, ⟨by omega, by omega⟩, inI_sm ⟨by omega, by omega⟩, fun w => bad (fun _ => by omega), fun w => ?_⟩⟩⟩
    unfold wlX8_corner_37
    refine f_goes8 (MB_01 h) (Or.inr rfl) (fun _ _ => ?_) (fun _ z => absurd z (by decide)) (fun e' => by omega)
    have res := h0 e ⟨by omega, by omega⟩ ⟨by omega, by omega⟩
    have k36 : st σ 0 23 0 0 0 0 36 0 = σ 0 36 0 := st_k (by decide)
    have k35 : st σ 0 23 0 0 0 0 35 0 = σ 0 35 0 := st_k (by decide)
    have rr := (r5 x2.toNat (by omega)).2.1
    rw [k36, k35, o2, show (24 * ((odx σ x1.toNat : Nat) : Int) + x2).toNat = 24 * odx σ x1.toNat + x2.toNat by omega, rr]
    exact ⟨⟨by decide, by decide⟩, fun _ => ⟨⟨by omega, by omega⟩, ⟨by omega, by omega⟩, res⟩, fun z => absurd (by decide) z⟩
  · exact ⟨⟨by decide, by decide⟩, fun _ => bad (fun e => by rw [fcE e] at a; omega), fun z => absurd rfl z⟩
theorem f_edge8 {P : Int → Tab → Prop} {x1 x2 : Int} (h : MB σ N fc sz co nn off m) (i1 : inI x1) (i2 : inI x2) (h1 : σ 0 23 0 5 = 0 → P 0 (st σ 0 23 0 0 1)) (h2 : σ 0 23 0 5 = 1 → ¬ ((0 ≤ x1 ∧ x1 < m) ∧ 0 ≤ x2 ∧ x2 ≤ 3) → P 0 (st σ 0 23 0 0 2)) (h0 : σ 0 23 0 5 = 1 → (0 ≤ x1 ∧ x1 < m) → (0 ≤ x2 ∧ x2 ≤ 3) → P (four x2 ((σ 0 37 0 x1.toNat).tdiv 32) ((σ 0 37 0 x1.toNat).tmod 32) (σ 0 38 0 x1.toNat) (σ 0 39 0 x1.toNat)) (st σ 0 23 0 0 0)) : wpX8_edge x1 x2 σ P := by
  have mE : σ 0 23 0 5 = 1 → σ 0 23 0 19 = m := fun e => (MB_1 h e).2.2.2.2.2.2.2.2.2.2.1
  have hb := MB_n h
  have bad : (σ 0 23 0 5 = 1 → ¬ ((0 ≤ x1 ∧ x1 < m) ∧ 0 ≤ x2 ∧ x2 ≤ 3)) → wlX8_edge_31 P x1 x2 (σ 0 23 0 5) 0 σ := by
    intro hn
    unfold wlX8_edge_31
    refine f_goes8 (MB_01 h) (Or.inl rfl) (fun _ z => absurd z (by decide)) (fun e _ => ?_) (fun e => ?_)
    · exact ⟨⟨by decide, by decide⟩, fun z => absurd rfl z, fun _ => h2 e (hn e)⟩
    · exact ⟨⟨by decide, by decide⟩, fun z => absurd rfl z, fun _ => h1 e⟩
  unfold wpX8_edge
  refine ⟨i1, fun z => bad (fun _ => by omega), fun z => ⟨inI_sm ⟨by omega, by omega⟩, fun w => bad (fun e => by rw [mE e] at w; omega), fun w => ⟨i2, fun w2 => bad (fun _ => by omega), fun w2 => ⟨fun w3 => bad (fun _ => by omega), fun w3 => ?_⟩⟩⟩⟩
  unfold wlX8_edge_31
  refine f_goes8 (MB_01 h) (Or.inr rfl) (fun e _ => ?_) (fun _ z => absurd z (by decide)) (fun e => ?_)
  · have hM := MB_1 h e
    have ee := mE e
    have hk : x1.toNat < m := by omega
    obtain ⟨x, y, q1, q2, q4, q5, q6, q7⟩ := MSp_edge hM hk
    have hN := hM.2.1
    have res := h0 e ⟨by omega, by omega⟩ ⟨by omega, by omega⟩
    have k37 : st σ 0 23 0 0 0 0 37 0 = σ 0 37 0 := st_k (by decide)
    have k38 : st σ 0 23 0 0 0 0 38 0 = σ 0 38 0 := st_k (by decide)
    have k39 : st σ 0 23 0 0 0 0 39 0 = σ 0 39 0 := st_k (by decide)
    rw [k37, k38, k39]
    have i37 : inI (σ 0 37 0 x1.toNat) := by rw [q5]; exact inI_sm ⟨by omega, by omega⟩
    unfold four at res
    refine ⟨⟨by decide, by decide⟩, fun _ => ⟨i2, fun z => ⟨fun z2 => ⟨fun z3 => ⟨⟨by omega, by omega⟩, ?_⟩, fun z3 => ⟨⟨by omega, by omega⟩, ?_⟩⟩, fun z2 => ⟨⟨by omega, by omega⟩, i37, ?_⟩⟩, fun z => ⟨⟨by omega, by omega⟩, i37, ?_⟩⟩, fun z => absurd (by decide) z⟩
    · rw [if_neg z, if_neg z2, if_neg z3] at res; exact res
    · rw [if_neg z, if_neg z2, if_pos (Decidable.of_not_not z3)] at res; exact res
    · rw [if_neg z, if_pos (Decidable.of_not_not z2)] at res; exact res
    · rw [if_pos (Decidable.of_not_not z)] at res; exact res
  · exact ⟨⟨by decide, by decide⟩, fun z => absurd rfl z, fun _ => h1 e⟩
end GJ

/-! THE BUILDER'S walk, and side -/
section GF
/-- the two rows that a walk writes -/
def T2 (σ : Tab) (g : Nat) (D R : Nat → Int) : Tab := strow (strow σ g 7 0 D) g 8 0 R
variable {σ : Tab} {g : Nat} {D R : Nat → Int}
theorem T2_7 : T2 σ g D R g 7 0 = D := by unfold T2; rw [strow_ne (fun z => by omega), strow_self]
theorem T2_8 : T2 σ g D R g 8 0 = R := by unfold T2; rw [strow_self]
theorem T2_o {g' k' i' : Nat} (h : ¬ (g' = g ∧ (k' = 7 ∨ k' = 8) ∧ i' = 0)) : T2 σ g D R g' k' i' = σ g' k' i' := by
  unfold T2; rw [strow_ne (fun z => h ⟨z.1, Or.inr z.2.1, z.2.2⟩), strow_ne (fun z => h ⟨z.1, Or.inl z.2.1, z.2.2⟩)]
theorem T2_s8 (j : Nat) (x : Int) : st (T2 σ g D R) g 8 0 j x = T2 σ g D (upr R j x) := by unfold T2; rw [strow_st]
theorem T2_s7 (j : Nat) (x : Int) : st (T2 σ g D R) g 7 0 j x = T2 σ g (upr D j x) R := by
  funext g' k' i' j'
  rw [st_app]
  unfold T2 strow upr
  by_cases h : g' = g ∧ k' = 7 ∧ i' = 0
  · obtain ⟨rfl, rfl, rfl⟩ := h
    by_cases e : j' = j <;> simp [e]
  · rw [if_neg (fun z => h ⟨z.1, z.2.1, z.2.2.1⟩), if_neg h, if_neg h]
theorem T2_id (σ : Tab) (g : Nat) : T2 σ g (σ g 7 0) (σ g 8 0) = σ := by
  unfold T2
  rw [strow_id, strow_id]
def inQ (R : Nat → Int) (s v : Nat) : Prop := ∃ k, k < s ∧ R k = (v : Int)
/-- the queue of a walk -/
def BQ (E : Nat → Nat → Prop) (a : Nat) (D R : Nat → Int) (s : Nat) : Prop :=
  (1 ≤ s ∧ s ≤ 24) ∧ (∀ k, k < s → 0 ≤ R k ∧ R k < 24) ∧ (∀ i j, i < j → j < s → R i ≠ R j) ∧
  (∀ k, k < s → 0 ≤ D (R k).toNat ∧ D (R k).toNat ≤ k ∧ pth E a (D (R k).toNat).toNat (R k).toNat) ∧
  (∀ v, v < 24 → -1 ≤ D v ∧ (0 ≤ D v → inQ R s v)) ∧ (∀ i j, i < j → j < s → D (R i).toNat ≤ D (R j).toNat) ∧ D a = 0
def prc (E : Nat → Nat → Prop) (D R : Nat → Int) (h : Nat) : Prop := ∀ k, k < h → ∀ b, b < 24 → E (R k).toNat b → 0 ≤ D b ∧ D b ≤ D (R k).toNat + 1
def prt (E : Nat → Nat → Prop) (D R : Nat → Int) (h b : Nat) : Prop := ∀ b', b' < b → E (R h).toNat b' → 0 ≤ D b' ∧ D b' ≤ D (R h).toNat + 1
def nea (D R : Nat → Int) (s h : Nat) : Prop := ∀ k, k < s → D (R k).toNat ≤ D (R h).toNat + 1
variable {E : Nat → Nat → Prop} {a : Nat}
theorem BQ_room {s b : Nat} (hQ : BQ E a D R s) (hb : b < 24) (hD : D b < 0) : s < 24 := by
  obtain ⟨h1, h2, h3, h4, h5, h6, h7⟩ := hQ
  have := pigeon_out s 1 24 (fun k => (R k).toNat) (fun _ => b) (fun k hk => by have := h2 k hk; omega) (fun i j hij hj e => by
    have a1 := h2 i (by omega)
    have a2 := h2 j hj
    exact h3 i j hij hj (by omega)) (fun _ _ => hb) (fun i j h1 h2 => by omega) (fun i j hi _ e => by
    have := (h4 i hi).1
    rw [e] at this
    omega)
  omega
theorem BQ_ins {s h b : Nat} (hQ : BQ E a D R s) (hh : h < s) (hP : prc E D R h) (hT : prt E D R h b) (hN : nea D R s h) (hb : b < 24) (hD : D b < 0) (hE : E (R h).toNat b) :
    BQ E a (upr D b (D (R h).toNat + 1)) (upr R s b) (s + 1) ∧ prc E (upr D b (D (R h).toNat + 1)) (upr R s b) h ∧ prt E (upr D b (D (R h).toNat + 1)) (upr R s b) h (b + 1) ∧ nea (upr D b (D (R h).toNat + 1)) (upr R s b) (s + 1) h := by
  have room := BQ_room hQ hb hD
  obtain ⟨h1, h2, h3, h4, h5, h6, h7⟩ := hQ
  have uR : ∀ k, k < s → upr R s b k = R k := fun k hk => by unfold upr; rw [if_neg (by omega)]
  have uRs : upr R s b s = b := by unfold upr; rw [if_pos rfl]
  have nb : ∀ k, k < s → (R k).toNat ≠ b := fun k hk e => by have := (h4 k hk).1; rw [e] at this; omega
  have uD : ∀ k, k < s → upr D b (D (R h).toNat + 1) (R k).toNat = D (R k).toNat := fun k hk => by unfold upr; rw [if_neg (nb k hk)]
  have uDb : upr D b (D (R h).toNat + 1) b = D (R h).toNat + 1 := by unfold upr; rw [if_pos rfl]
  have hd := h4 h hh
  have uV : ∀ v, v ≠ b → upr D b (D (R h).toNat + 1) v = D v := fun v hv => by unfold upr; rw [if_neg hv]
  refine ⟨⟨⟨by omega, by omega⟩, fun k hk => ?_, fun i j hij hj => ?_, fun k hk => ?_, fun v hv => ?_, fun i j hij hj => ?_, ?_⟩, fun k hk c hc hE' => ?_, fun c hc hE' => ?_, fun k hk => ?_⟩
  · by_cases e : k = s
    · subst e; rw [uRs]; omega
    · rw [uR k (by omega)]; exact h2 k (by omega)
  · rw [uR i (by omega)]
    by_cases e : j = s
    · subst e
      rw [uRs]
      intro z
      exact nb i (by omega) (by omega)
    · rw [uR j (by omega)]; exact h3 i j hij (by omega)
  · by_cases e : k = s
    · subst e
      rw [uRs, Int.toNat_natCast, uDb]
      refine ⟨by omega, by omega, ?_⟩
      have e2 : (D (R h).toNat + 1).toNat = (D (R h).toNat).toNat + 1 := by omega
      rw [e2]
      exact ⟨_, hd.2.2, hE⟩
    · rw [uR k (by omega), uD k (by omega)]; exact h4 k (by omega)
  · by_cases e : v = b
    · subst e
      rw [uDb]
      exact ⟨by omega, fun _ => ⟨s, by omega, uRs⟩⟩
    · rw [uV v e]
      refine ⟨(h5 v hv).1, fun z => ?_⟩
      obtain ⟨k, hk, ek⟩ := (h5 v hv).2 z
      exact ⟨k, by omega, by rw [uR k hk]; exact ek⟩
  · rw [uR i (by omega), uD i (by omega)]
    by_cases e : j = s
    · subst e
      rw [uRs, Int.toNat_natCast, uDb]
      exact hN i (by omega)
    · rw [uR j (by omega), uD j (by omega)]; exact h6 i j hij (by omega)
  · rw [uV a (fun e => by rw [e] at h7; omega)]; exact h7
  · rw [uR k (by omega), uD k (by omega)]
    rw [uR k (by omega)] at hE'
    have := hP k hk c hc hE'
    rw [uV c (fun e => by rw [e] at this; omega)]
    exact this
  · rw [uR h hh, uD h hh]
    rw [uR h hh] at hE'
    by_cases e : c = b
    · subst e; rw [uDb]; omega
    · rw [uV c e]; exact hT c (by omega) hE'
  · rw [uR h hh, uD h hh]
    by_cases e : k = s
    · subst e; rw [uRs, Int.toNat_natCast, uDb]; omega
    · rw [uR k (by omega), uD k (by omega)]; exact hN k (by omega)
theorem BQ_end {s : Nat} (hE : ∀ x y, E x y → y < 24) (ha : a < 24) (hQ : BQ E a D R s) (hP : prc E D R s) {v r : Nat} (hr : DstR E a v r) : D v = r := by
  obtain ⟨h1, h2, h3, h4, h5, h6, h7⟩ := hQ
  have all : ∀ n v, pth E a n v → v < 24 ∧ 0 ≤ D v ∧ D v ≤ n := by
    intro n
    induction n with
    | zero =>
      intro v hv
      have : v = a := hv
      subst this
      exact ⟨ha, by omega, by omega⟩
    | succ n ih =>
      rintro c ⟨b, hb, hE'⟩
      obtain ⟨i1, i2, i3⟩ := ih b hb
      obtain ⟨k, hk, ek⟩ := (h5 b i1).2 i2
      have eb : (R k).toNat = b := by omega
      have := hP k hk c (hE b c hE') (by rw [eb]; exact hE')
      rw [eb] at this
      exact ⟨hE b c hE', by omega, by omega⟩
  obtain ⟨i1, i2, i3⟩ := all r v hr.1
  obtain ⟨k, hk, ek⟩ := (h5 v i1).2 i2
  have eb : (R k).toNat = v := by omega
  have hp := (h4 k hk).2.2
  rw [eb] at hp
  rcases Nat.lt_or_ge (D v).toNat r with w | w
  · exact absurd hp (hr.2 _ w)
  · omega
theorem f_walk {P : Tab → Prop} (hE : ∀ x y, E x y → y < 24) (ha : a < 24) (hJ : ∀ x y, x < 24 → y < 24 → (σ g 11 x y = 0 ∨ σ g 11 x y = 1) ∧ (σ g 11 x y = 1 ↔ E x y)) (hP : ∀ D R : Nat → Int, (∀ v r : Nat, DstR E a v r → D v = (r : Int)) → P (T2 σ g D R)) : wpX2_walk g a σ P := by
  have o11 : ∀ D R i, T2 σ g D R g 11 i = σ g 11 i := fun D R i => T2_o (fun z => by omega)
  have lp39 : ∀ (q h s : Nat) (D R : Nat → Int), 24 - h = q → h ≤ s → BQ E a D R s → prc E D R h → (h < s → nea D R s h) → wlX2_walk_39 g P (q + 1) s h (T2 σ g D R) := by
    intro q
    induction q with
    | zero =>
      intro h s D R e1 e2 hQ hPr hN
      have := hQ.1
      have : h = s := by omega
      subst this
      unfold wlX2_walk_39
      exact ⟨inI_sm ⟨by omega, by omega⟩, inI_sm ⟨by omega, by omega⟩, fun _ => hP D R (fun v r hr => BQ_end hE ha hQ hPr hr), fun z => by omega⟩
    | succ q ih =>
      intro h s D R e1 e2 hQ hPr hN
      have hs := hQ.1
      unfold wlX2_walk_39
      refine ⟨inI_sm ⟨by omega, by omega⟩, inI_sm ⟨by omega, by omega⟩, fun z => ?_, fun z => ⟨24 - 0 + 1, ?_⟩⟩
      · have : h = s := by omega
        subst this
        exact hP D R (fun v r hr => BQ_end hE ha hQ hPr hr)
      have inner : ∀ (e b s : Nat) (D R : Nat → Int), 24 - b = e → b ≤ 24 → h < s → BQ E a D R s → prc E D R h → prt E D R h b → nea D R s h → wlX2_walk_47 g P (fun x2 x3 τ => wlX2_walk_39 g P (q + 1) x2 x3 τ) (e + 1) s h b (T2 σ g D R) := by
        intro e
        induction e with
        | zero =>
          intro b s D R g1 g2 g3 hQ hPr hT hN
          unfold wlX2_walk_47
          rw [ic]
          refine ⟨inI_sm ⟨by omega, by omega⟩, fun _ => ih (h + 1) s D R (by omega) (by omega) hQ (fun k hk c hc hE' => ?_) (fun hlt k hk => ?_), fun z => by omega⟩
          · by_cases ee : k = h
            · subst ee; exact hT c (by omega) hE'
            · exact hPr k (by omega) c hc hE'
          · have := hN k hk
            have := hQ.2.2.2.2.2.1 h (h + 1) (by omega) hlt
            omega
        | succ e ihe =>
          intro b s D R g1 g2 g3 hQ hPr hT hN
          obtain ⟨q1, q2, q3, q4, q5, q6, q7⟩ := id hQ
          have rh := q2 h g3
          have jb := hJ (R h).toNat b (by omega) (by omega)
          have db := q5 b (by omega)
          have dbI : inI (D b) := by
            by_cases z : 0 ≤ D b
            · obtain ⟨k, hk, ek⟩ := db.2 z
              have := (q4 k hk).2.1
              rw [show (R k).toNat = b by omega] at this
              exact inI_sm ⟨by omega, by omega⟩
            · exact inI_sm ⟨by omega, by omega⟩
          unfold wlX2_walk_47
          rw [ic, ic, Int.toNat_natCast, Int.toNat_natCast, T2_8, T2_7, o11]
          refine ⟨inI_sm ⟨by omega, by omega⟩, fun z => by omega, fun _ => ⟨⟨by omega, by omega⟩, rh, ⟨by omega, by omega⟩, inI_f jb.1, fun z => ?_, fun z => ⟨dbI, fun w => ?_, fun w => ?_⟩⟩⟩
          · refine ihe (b + 1) s D R (by omega) (by omega) g3 hQ hPr (fun c hc hE' => ?_) hN
            by_cases ee : c = b
            · subst ee
              have := jb.2.mpr hE'
              omega
            · exact hT c (by omega) hE'
          · have hE' : E (R h).toNat b := jb.2.mp (by have := jb.1; omega)
            have room := BQ_room hQ (by omega) w
            obtain ⟨n1, n2, n3, n4⟩ := BQ_ins hQ g3 hPr hT hN (by omega) w hE'
            intro σ10 e10
            refine ⟨⟨by omega, by omega⟩, fun σ12 e12 => ?_⟩
            rw [e12, e10, T2_s7, Int.toNat_natCast, T2_s8]
            exact ihe (b + 1) (s + 1) _ _ (by omega) (by omega) (by omega) n1 n2 n3 n4
          · refine ihe (b + 1) s D R (by omega) (by omega) g3 hQ hPr (fun c hc hE' => ?_) hN
            by_cases ee : c = b
            · subst ee
              obtain ⟨k, hk, ek⟩ := db.2 (by omega)
              have := hN k hk
              rw [show (R k).toNat = c by omega] at this
              exact ⟨by omega, this⟩
            · exact hT c (by omega) hE'
      exact inner _ 0 s D R rfl (by omega) (by omega) hQ hPr (fun c hc => absurd hc (Nat.not_lt_zero _)) (hN (by omega))
  have lp2 : ∀ (q x : Nat) (D : Nat → Int), 24 - x = q → x ≤ 24 → (∀ i, i < x → D i = -1) → wlX2_walk_2 g P (q + 1) a x (T2 σ g D (σ g 8 0)) := by
    intro q
    induction q with
    | zero =>
      intro x D e1 e2 hD
      have : x = 24 := by omega
      subst this
      unfold wlX2_walk_2
      refine ⟨⟨by decide, by decide⟩, fun _ => ⟨⟨by omega, by omega⟩, fun σ4 e4 σ5 e5 => ⟨25, ?_⟩⟩, fun z => absurd (by decide) z⟩
      rw [e5, e4, Int.toNat_natCast, T2_s7, T2_s8]
      have uD : ∀ v, v < 24 → upr D a 0 v = if v = a then 0 else -1 := by
        intro v hv
        unfold upr
        by_cases e : v = a
        · rw [if_pos e, if_pos e]
        · rw [if_neg e, if_neg e]; exact hD v hv
      have uR : upr (σ g 8 0) 0 a 0 = a := by unfold upr; rw [if_pos rfl]
      have k0 : ∀ k, k < 1 → upr (σ g 8 0) 0 a k = a := fun k hk => by rw [show k = 0 by omega]; exact uR
      have Da : upr D a 0 a = 0 := by unfold upr; rw [if_pos rfl]
      refine lp39 24 0 1 _ _ (by omega) (by omega) ⟨⟨by omega, by omega⟩, fun k hk => by rw [k0 k hk]; omega, fun i j hij hj => by omega, fun k hk => ?_, fun v hv => ?_, fun i j hij hj => by omega, Da⟩ (fun k hk => absurd hk (Nat.not_lt_zero _)) (fun _ k hk => ?_)
      · rw [k0 k hk, Int.toNat_natCast, Da]
        exact ⟨by omega, by omega, rfl⟩
      · rw [uD v hv]
        by_cases e : v = a
        · rw [if_pos e]; exact ⟨by decide, fun _ => ⟨0, by omega, by rw [uR, e]⟩⟩
        · rw [if_neg e]; exact ⟨by decide, fun z => absurd z (by decide)⟩
      · rw [k0 k hk, uR]; omega
    | succ q ih =>
      intro x D e1 e2 hD
      unfold wlX2_walk_2
      rw [ic, Int.toNat_natCast]
      refine ⟨inI_sm ⟨by omega, by omega⟩, fun z => by omega, fun _ => ⟨⟨by omega, by omega⟩, fun σ8 e8 => ?_⟩⟩
      rw [e8, Int.toNat_natCast, T2_s7]
      refine ih (x + 1) _ (by omega) (by omega) (fun i hi => ?_)
      unfold upr
      by_cases e : i = x
      · rw [if_pos e]
      · rw [if_neg e]; exact hD i (by omega)
  have := lp2 _ 0 (σ g 7 0) rfl (by omega) (fun i hi => absurd hi (Nat.not_lt_zero _))
  rw [T2_id] at this
  exact ⟨_, this⟩
end GF

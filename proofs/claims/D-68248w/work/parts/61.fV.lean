/-! THE MODEL: solid, build -/
section FV
theorem f_goes8 {σ : Tab} {P : Int → Tab → Prop} {x y : Int} (hx : x = 0 ∨ x = 1) (hy : y = 0 ∨ y = 1) (h1 : x = 1 → y = 1 → P 1 (st σ 0 23 0 0 0)) (h2 : x = 1 → y = 0 → P 0 (st σ 0 23 0 0 2)) (h3 : x = 0 → P 0 (st σ 0 23 0 0 1)) : wpX8_goes x y σ P := by
  unfold wpX8_goes
  refine ⟨inI_f hx, fun w => ⟨inI_f hy, fun z => ?_, fun z => ?_⟩, fun w => ?_⟩
  · intro σ1 e1
    rw [e1, st_same]
    exact ⟨⟨by decide, by decide⟩, fun q => absurd rfl q, fun _ => h1 (by omega) (by omega)⟩
  · intro σ1 e1
    rw [e1, st_same]
    exact ⟨⟨by decide, by decide⟩, fun _ => h2 (by omega) (by have := Decidable.of_not_not z; omega), fun q => absurd (by decide) q⟩
  · intro σ1 e1
    rw [e1, st_same]
    exact ⟨⟨by decide, by decide⟩, fun _ => h3 (by have := Decidable.of_not_not w; omega), fun q => absurd (by decide) q⟩
def sol4 (Q : Nat → V3) (n : Nat) : Prop := ∃ a b c d, a < b ∧ b < c ∧ c < d ∧ d < n ∧ VV Q a b c d ≠ 0
theorem sol4_of {Q : Nat → V3} {n : Nat} (h : ¬ sol4 Q n) : ∀ a b c d, a < n → b < n → c < n → d < n → VV Q a b c d = 0 := by
  have s0 : ∀ a b c d, a < b → b < c → c < d → d < n → VV Q a b c d = 0 := by
    intro a b c d h1 h2 h3 h4
    rcases Decidable.em (VV Q a b c d = 0) with q | q
    · exact q
    · exact absurd ⟨a, b, c, d, h1, h2, h3, h4, q⟩ h
  have w12 : ∀ a b c d, VV Q b a c d = 0 → VV Q a b c d = 0 := fun a b c d q => by rw [VV_sw] at q; omega
  have w23 : ∀ a b c d, VV Q a c b d = 0 → VV Q a b c d = 0 := fun a b c d q => by
    have e : VV Q a c b d = - VV Q a b c d := by simp only [VV, tp, dt, cr, sb]; grind
    omega
  have w34 : ∀ a b c d, VV Q a b d c = 0 → VV Q a b c d = 0 := fun a b c d q => by rw [VV_as]; omega
  have s1 : ∀ a b c d, a < b → b < c → c < n → d < n → VV Q a b c d = 0 := by
    intro a b c d h1 h2 h3 h4
    rcases Nat.lt_trichotomy d a with q | q | q
    · exact w34 _ _ _ _ (w23 _ _ _ _ (w12 _ _ _ _ (s0 d a b c q h1 h2 h3)))
    · rw [q]; exact VV_s1 _ _ _ _
    · rcases Nat.lt_trichotomy d b with q2 | q2 | q2
      · exact w34 _ _ _ _ (w23 _ _ _ _ (s0 a d b c q q2 h2 h3))
      · rw [q2]; exact VV_s2 _ _ _ _
      · rcases Nat.lt_trichotomy d c with q3 | q3 | q3
        · exact w34 _ _ _ _ (s0 a b d c h1 q2 q3 h3)
        · rw [q3]; exact VV_s4 _ _ _ _
        · exact s0 a b c d h1 h2 q3 h4
  have s2 : ∀ a b c d, a < b → b < n → c < n → d < n → VV Q a b c d = 0 := by
    intro a b c d h1 h2 h3 h4
    rcases Nat.lt_trichotomy c a with q | q | q
    · exact w23 _ _ _ _ (w12 _ _ _ _ (s1 c a b d q h1 h2 h4))
    · rw [q, ← VV_rot, ← VV_rot]; exact VV_d1 _ _ _ _
    · rcases Nat.lt_trichotomy c b with q2 | q2 | q2
      · exact w23 _ _ _ _ (s1 a c b d q q2 h2 h4)
      · rw [q2, ← VV_rot]; exact VV_d1 _ _ _ _
      · exact s1 a b c d h1 q2 h3 h4
  intro a b c d h1 h2 h3 h4
  rcases Nat.lt_trichotomy a b with q | q | q
  · exact s2 a b c d q h2 h3 h4
  · rw [q]; exact VV_d1 _ _ _ _
  · exact w12 _ _ _ _ (s2 b a c d q h1 h3 h4)
variable {σ : Tab} {n : Nat}
theorem f_volumeOf {P : Int → Tab → Prop} {x y z w : Nat} (hn : n ≤ 24) (hB : ∀ i, i < n → B93 (CP σ i)) (hx : x < n) (hy : y < n) (hz : z < n) (hw : w < n) (hP : inL (VV (CP σ) x y z w) → P (VV (CP σ) x y z w) σ) : wpX8_volumeOf x y z w σ P := by
  obtain ⟨⟨a1, a2⟩, ⟨a3, a4⟩, a5, a6⟩ := hB x hx
  obtain ⟨⟨b1, b2⟩, ⟨b3, b4⟩, b5, b6⟩ := hB y hy
  obtain ⟨⟨c1, c2⟩, ⟨c3, c4⟩, c5, c6⟩ := hB z hz
  obtain ⟨⟨d1, d2⟩, ⟨d3, d4⟩, d5, d6⟩ := hB w hw
  simp only [CP] at a1 a2 a3 a4 a5 a6 b1 b2 b3 b4 b5 b6 c1 c2 c3 c4 c5 c6 d1 d2 d3 d4 d5 d6
  unfold wpX8_volumeOf
  rw [Int.toNat_natCast, Int.toNat_natCast, Int.toNat_natCast, Int.toNat_natCast]
  refine ⟨⟨by omega, by omega⟩, ⟨by omega, by omega⟩, inI_sm ⟨by omega, by omega⟩, fun y4 e4 => ⟨inI_sm ⟨by omega, by omega⟩, fun y6 e6 => ⟨inI_sm ⟨by omega, by omega⟩, fun y8 e8 => ⟨⟨by omega, by omega⟩, inI_sm ⟨by omega, by omega⟩, fun y11 e11 => ⟨inI_sm ⟨by omega, by omega⟩, fun y13 e13 => ⟨inI_sm ⟨by omega, by omega⟩, fun y15 e15 => ⟨⟨by omega, by omega⟩, inI_sm ⟨by omega, by omega⟩, fun y18 e18 => ⟨inI_sm ⟨by omega, by omega⟩, fun y20 e20 => ⟨inI_sm ⟨by omega, by omega⟩, fun y22 e22 => ?_⟩⟩⟩⟩⟩⟩⟩⟩⟩
  have e : (y6 * y15 - y8 * y13) * y18 + (y8 * y11 - y4 * y15) * y20 + (y4 * y13 - y6 * y11) * y22 = VV (CP σ) x y z w := by
    simp only [VV, tp, dt, cr, sb, CP, e4, e6, e8, e11, e13, e15, e18, e20, e22]
  rw [e]
  apply hP
  rw [← e]
  have r4 : -1024 ≤ y4 ∧ y4 ≤ 1024 := by omega
  have r6 : -1024 ≤ y6 ∧ y6 ≤ 1024 := by omega
  have r8 : -1024 ≤ y8 ∧ y8 ≤ 1024 := by omega
  have r11 : -1024 ≤ y11 ∧ y11 ≤ 1024 := by omega
  have r13 : -1024 ≤ y13 ∧ y13 ≤ 1024 := by omega
  have r15 : -1024 ≤ y15 ∧ y15 ≤ 1024 := by omega
  have r18 : -1024 ≤ y18 ∧ y18 ≤ 1024 := by omega
  have r20 : -1024 ≤ y20 ∧ y20 ≤ 1024 := by omega
  have r22 : -1024 ≤ y22 ∧ y22 ≤ 1024 := by omega
  have m1 := mul_bd r6 r15 (by decide)
  have m2 := mul_bd r8 r13 (by decide)
  have m3 := mul_bd r8 r11 (by decide)
  have m4 := mul_bd r4 r15 (by decide)
  have m5 := mul_bd r4 r13 (by decide)
  have m6 := mul_bd r6 r11 (by decide)
  have t1 := mul_bd (a := 2097152) (b := 1024) (x := y6 * y15 - y8 * y13) (by omega) r18 (by decide)
  have t2 := mul_bd (a := 2097152) (b := 1024) (x := y8 * y11 - y4 * y15) (by omega) r20 (by decide)
  have t3 := mul_bd (a := 2097152) (b := 1024) (x := y4 * y13 - y6 * y11) (by omega) r22 (by decide)
  exact inL_sm ⟨by omega, by omega⟩
def nA (Q : Nat → V3) (n a : Nat) : Prop := ∀ x y z w, x < a → x < y → y < z → z < w → w < n → VV Q x y z w = 0
def nB (Q : Nat → V3) (n a b : Nat) : Prop := ∀ y z w, a < y → y < b → y < z → z < w → w < n → VV Q a y z w = 0
def nC (Q : Nat → V3) (n a b c : Nat) : Prop := ∀ z w, b < z → z < c → z < w → w < n → VV Q a b z w = 0
def nD (Q : Nat → V3) (a b c d : Nat) : Prop := ∀ w, c < w → w < d → VV Q a b c w = 0
theorem f_solid {P : Int → Tab → Prop} (hn : n ≤ 24) (hpts : σ 0 23 0 1 = n) (hB : ∀ i, i < n → B93 (CP σ i)) (h1 : sol4 (CP σ) n → P 1 σ) (h0 : ¬ sol4 (CP σ) n → P 0 σ) : wpX8_solid σ P := by
  have iN : inI (n : Int) := inI_sm ⟨by omega, by omega⟩
  have i01 : ∀ {A B : Prop} {f : Int}, ((f = 1 ∧ A) ∨ (f = 0 ∧ B)) → f = 0 ∨ f = 1 := by
    intro A B f h
    rcases h with ⟨z, _⟩ | ⟨z, _⟩
    · exact Or.inr z
    · exact Or.inl z
  have lp4 : ∀ (q a : Nat) (f : Int), n - a = q → a ≤ n → ((f = 1 ∧ sol4 (CP σ) n) ∨ (f = 0 ∧ nA (CP σ) n a)) → wlX8_solid_4 P (q + 1) f a σ := by
    intro q
    induction q with
    | zero =>
      intro a f e1 e2 e3
      unfold wlX8_solid_4
      rw [hpts]
      refine ⟨inI_sm ⟨by omega, by omega⟩, iN, fun _ => ⟨i01 e3, ?_⟩, fun z => by omega⟩
      rcases e3 with ⟨z, w⟩ | ⟨z, w⟩
      · rw [z]; exact h1 w
      · rw [z]; exact h0 (fun ⟨x, y, z', w', q1, q2, q3, q4, q5⟩ => q5 (w x y z' w' (by omega) q1 q2 q3 q4))
    | succ q ih4 =>
      intro a f e1 e2 e3
      unfold wlX8_solid_4
      rw [hpts, ic]
      refine ⟨inI_sm ⟨by omega, by omega⟩, iN, fun z => by omega, fun _ => ⟨n - (a + 1) + 1, ?_⟩⟩
      have lp16 : ∀ (q' b : Nat) (f : Int), n - b = q' → a < b → b ≤ n → ((f = 1 ∧ sol4 (CP σ) n) ∨ (f = 0 ∧ nA (CP σ) n a ∧ nB (CP σ) n a b)) → wlX8_solid_16 P (fun x1 x2 τ => wlX8_solid_4 P (q + 1) x1 x2 τ) (q' + 1) f a b σ := by
        intro q'
        induction q' with
        | zero =>
          intro b f g1 g2 g3 g4
          unfold wlX8_solid_16
          rw [hpts, ic]
          refine ⟨inI_sm ⟨by omega, by omega⟩, iN, fun _ => ih4 (a + 1) f (by omega) (by omega) ?_, fun z => by omega⟩
          rcases g4 with w | ⟨z, w1, w2⟩
          · exact Or.inl w
          · refine Or.inr ⟨z, fun x y z' w' p1 p2 p3 p4 p5 => ?_⟩
            by_cases e : x = a
            · subst e; exact w2 y z' w' p2 (by omega) p3 p4 p5
            · exact w1 x y z' w' (by omega) p2 p3 p4 p5
        | succ q' ih16 =>
          intro b f g1 g2 g3 g4
          unfold wlX8_solid_16
          rw [hpts, ic]
          refine ⟨inI_sm ⟨by omega, by omega⟩, iN, fun z => by omega, fun _ => ⟨n - (b + 1) + 1, ?_⟩⟩
          have lp29 : ∀ (q'' c : Nat) (f : Int), n - c = q'' → b < c → c ≤ n → ((f = 1 ∧ sol4 (CP σ) n) ∨ (f = 0 ∧ nA (CP σ) n a ∧ nB (CP σ) n a b ∧ nC (CP σ) n a b c)) → wlX8_solid_29 P (fun x1 x2 τ => wlX8_solid_4 P (q + 1) x1 x2 τ) (fun x1 x2 x3 τ => wlX8_solid_16 P (fun x1 x2 τ => wlX8_solid_4 P (q + 1) x1 x2 τ) (q' + 1) x1 x2 x3 τ) (q'' + 1) f a b c σ := by
            intro q''
            induction q'' with
            | zero =>
              intro c f k1 k2 k3 k4
              unfold wlX8_solid_29
              rw [hpts, ic]
              refine ⟨inI_sm ⟨by omega, by omega⟩, iN, fun _ => ih16 (b + 1) f (by omega) (by omega) (by omega) ?_, fun z => by omega⟩
              rcases k4 with w | ⟨z, w1, w2, w3⟩
              · exact Or.inl w
              · refine Or.inr ⟨z, w1, fun y z' w' p1 p2 p3 p4 p5 => ?_⟩
                by_cases e : y = b
                · subst e; exact w3 z' w' p3 (by omega) p4 p5
                · exact w2 y z' w' p1 (by omega) p3 p4 p5
            | succ q'' ih29 =>
              intro c f k1 k2 k3 k4
              unfold wlX8_solid_29
              rw [hpts, ic]
              refine ⟨inI_sm ⟨by omega, by omega⟩, iN, fun z => by omega, fun _ => ⟨n - (c + 1) + 1, ?_⟩⟩
              have lp44 : ∀ (r d : Nat) (f : Int), n - d = r → c < d → d ≤ n → ((f = 1 ∧ sol4 (CP σ) n) ∨ (f = 0 ∧ nA (CP σ) n a ∧ nB (CP σ) n a b ∧ nC (CP σ) n a b c ∧ nD (CP σ) a b c d)) → wlX8_solid_44 P (fun x1 x2 τ => wlX8_solid_4 P (q + 1) x1 x2 τ) (fun x1 x2 x3 τ => wlX8_solid_16 P (fun x1 x2 τ => wlX8_solid_4 P (q + 1) x1 x2 τ) (q' + 1) x1 x2 x3 τ) (fun x1 x2 x3 x4 τ => wlX8_solid_29 P (fun x1 x2 τ => wlX8_solid_4 P (q + 1) x1 x2 τ) (fun x1 x2 x3 τ => wlX8_solid_16 P (fun x1 x2 τ => wlX8_solid_4 P (q + 1) x1 x2 τ) (q' + 1) x1 x2 x3 τ) (q'' + 1) x1 x2 x3 x4 τ) (r + 1) f a b c d σ := by
                intro r
                induction r with
                | zero =>
                  intro d f l1 l2 l3 l4
                  have hf := i01 l4
                  unfold wlX8_solid_44
                  rw [hpts, ic]
                  refine ⟨inI_sm ⟨by omega, by omega⟩, iN, fun _ => ih29 (c + 1) f (by omega) (by omega) (by omega) ?_, fun z => by omega⟩
                  rcases l4 with w | ⟨z, w1, w2, w3, w4⟩
                  · exact Or.inl w
                  · refine Or.inr ⟨z, w1, w2, fun z' w' p1 p2 p3 p4 => ?_⟩
                    by_cases e : z' = c
                    · subst e; exact w4 w' p3 (by omega)
                    · exact w3 z' w' p1 (by omega) p3 p4
                | succ r ih44 =>
                  intro d f l1 l2 l3 l4
                  have hf := i01 l4
                  unfold wlX8_solid_44
                  rw [hpts, ic, ic]
                  refine ⟨inI_sm ⟨by omega, by omega⟩, iN, fun z => by omega, fun _ => ⟨inI_f hf, fun z => ih29 (c + 1) f (by omega) (by omega) (by omega) ?_, fun z => ?_⟩⟩
                  · rcases l4 with w | ⟨z', _⟩
                    · exact Or.inl w
                    · exact absurd z' z
                  · refine f_volumeOf hn hB (by omega) (by omega) (by omega) (by omega) (fun hv => ⟨hv, fun hz => ?_, fun hz => ?_⟩)
                    · refine ih44 (d + 1) 0 (by omega) (by omega) (by omega) ?_
                      rcases l4 with ⟨z', _⟩ | ⟨_, w1, w2, w3, w4⟩
                      · omega
                      · refine Or.inr ⟨rfl, w1, w2, w3, fun w' p1 p2 => ?_⟩
                        by_cases e : w' = d
                        · subst e; exact hz
                        · exact w4 w' p1 (by omega)
                    · exact ih44 (d + 1) 1 (by omega) (by omega) (by omega) (Or.inl ⟨rfl, a, b, c, d, by omega, by omega, by omega, by omega, hz⟩)
              refine lp44 _ (c + 1) f rfl (by omega) (by omega) ?_
              rcases k4 with w | ⟨z, w1, w2, w3⟩
              · exact Or.inl w
              · exact Or.inr ⟨z, w1, w2, w3, fun w' p1 p2 => by omega⟩
          refine lp29 _ (b + 1) f rfl (by omega) (by omega) ?_
          rcases g4 with w | ⟨z, w1, w2⟩
          · exact Or.inl w
          · exact Or.inr ⟨z, w1, w2, fun z' w' p1 p2 => by omega⟩
      refine lp16 _ (a + 1) f rfl (by omega) (by omega) ?_
      rcases e3 with w | ⟨z, w1⟩
      · exact Or.inl w
      · exact Or.inr ⟨z, w1, fun y z' w' p1 p2 => by omega⟩
  exact ⟨_, lp4 _ 0 0 rfl (by omega) (Or.inr ⟨rfl, fun x y z w p => absurd p (Nat.not_lt_zero _)⟩)⟩
end FV

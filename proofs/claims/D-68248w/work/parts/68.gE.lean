/-! STEPS along edges: paths, and the model's table of them -/
section GE
def pth (E : Nat → Nat → Prop) (a : Nat) : Nat → Nat → Prop
  | 0 => fun b => b = a
  | n + 1 => fun c => ∃ b, pth E a n b ∧ E b c
def DstR (E : Nat → Nat → Prop) (a b r : Nat) : Prop := pth E a r b ∧ ∀ n, n < r → ¬ pth E a n b
variable {E : Nat → Nat → Prop} {a : Nat}
theorem dst_ex {b n : Nat} (h : pth E a n b) : ∃ r, DstR E a b r := by
  induction n using Nat.strongRecOn with
  | ind n ih =>
    rcases Classical.em (∃ n', n' < n ∧ pth E a n' b) with ⟨n', h1, h2⟩ | w
    · exact ih n' h1 h2
    · exact ⟨n, h, fun n' h1 h2 => w ⟨n', h1, h2⟩⟩
theorem dst_uniq {b r r' : Nat} (h : DstR E a b r) (h' : DstR E a b r') : r = r' := by
  rcases Nat.lt_trichotomy r r' with q | q | q
  · exact absurd h.1 (h'.2 r q)
  · exact q
  · exact absurd h'.1 (h.2 r' q)
theorem dst_pre {c n : Nat} (h : DstR E a c (n + 1)) : ∃ b, DstR E a b n ∧ E b c := by
  obtain ⟨⟨b, h1, h2⟩, h3⟩ := h
  exact ⟨b, ⟨h1, fun k hk hp => h3 (k + 1) (by omega) ⟨b, hp, h2⟩⟩, h2⟩
theorem dst_lt {N b r : Nat} (hE : ∀ x y, E x y → y < N) (ha : a < N) (h : DstR E a b r) : r < N := by
  have all : ∀ k i, i + k = r → ∃ v, DstR E a v i := by
    intro k
    induction k with
    | zero => intro i hi; exact ⟨b, by rw [show i = r by omega]; exact h⟩
    | succ k ih =>
      intro i hi
      obtain ⟨v, hv⟩ := ih (i + 1) (by omega)
      obtain ⟨w, hw, _⟩ := dst_pre hv
      exact ⟨w, hw⟩
  have ex : ∀ i, i < r + 1 → ∃ v, DstR E a v i := fun i hi => all (r - i) i (by omega)
  have sp := fun i (hi : i < r + 1) => Classical.epsilon_spec (ex i hi)
  have lt : ∀ v i, DstR E a v i → v < N := by
    intro v i hv
    cases i with
    | zero => have : v = a := hv.1; omega
    | succ i => obtain ⟨w, _, hw⟩ := hv.1; exact hE w v hw
  have := pigeon_out (r + 1) 0 N (fun i => Classical.epsilon (fun v => DstR E a v i)) (fun _ => 0) (fun i hi => lt _ i (sp i hi)) (fun i j hij hj e => by
    have h1 := sp i (by omega)
    have h2 := sp j hj
    rw [← e] at h2
    have := dst_uniq h1 h2
    omega) (fun i hi => absurd hi (Nat.not_lt_zero _)) (fun i j _ hj => absurd hj (Nat.not_lt_zero _)) (fun i j _ hj => absurd hj (Nat.not_lt_zero _))
  omega
theorem pth_cons {b c n : Nat} (h : E a b) (hp : pth E b n c) : pth E a (n + 1) c := by
  induction n generalizing c with
  | zero =>
    have : c = b := hp
    subst this
    exact ⟨a, rfl, h⟩
  | succ n ih =>
    obtain ⟨d, h1, h2⟩ := hp
    exact ⟨d, ih h1, h2⟩
/-- climbing: a way from any corner to the one that lies farthest -/
theorem climb {Q : Nat → V3} {N : Nat} {T : Nat → Nat → Nat → Prop} (H : Hul Q N (fun q => q < N) T) (hinj : ∀ a b, a < N → b < N → Q a = Q b → a = b) (F : Nat → Prop) (hv : V3) (b : Nat) (hb : ∀ q, q < N → q ≠ b → dt hv (Q q) < dt hv (Q b)) (hbN : b < N)
    (hF : ∀ u w, vtx T u → F u → Eg Q (fun q => q < N) u w → dt hv (Q u) < dt hv (Q w) → F w) : ∀ (k v : Nat), (dt hv (Q b) - dt hv (Q v)).toNat = k → vtx T v → F v → ∃ n, pth (fun x y => Eg Q (fun q => q < N) x y ∧ F y) v n b := by
  intro k
  induction k using Nat.strongRecOn with
  | ind k ih =>
    intro v hk hvt hFv
    by_cases e : v = b
    · exact ⟨0, e.symm⟩
    · have hvN : v < N := by obtain ⟨x, y, t⟩ := hvt; exact H.bd (H.mem t)
      have l1 := hb v hvN e
      rcases Classical.em (∃ w, Eg Q (fun q => q < N) v w ∧ dt hv (Q v) < dt hv (Q w)) with ⟨w, h1, h2⟩ | hno
      · have hwt := (H.Eg_vtx hinj h1).2
        have hwN : w < N := by obtain ⟨x, y, t⟩ := hwt; exact H.bd (H.mem t)
        have l2 : dt hv (Q w) ≤ dt hv (Q b) := by
          by_cases e2 : w = b
          · rw [e2]; omega
          · have := hb w hwN e2; omega
        have hFw := hF v w hvt hFv h1 h2
        obtain ⟨n, hn⟩ := ih (dt hv (Q b) - dt hv (Q w)).toNat (by omega) w rfl hwt hFw
        exact ⟨n + 1, pth_cons ⟨h1, hFw⟩ hn⟩
      · have := H.lgE hinj hvt hv (fun w hw => Int.not_lt.mp (fun z => hno ⟨w, hw, z⟩)) hbN
        omega
variable {σ : Tab} {N fc m : Nat} {sz : Nat → Nat} {co : Nat → Nat → Nat} {nn : Nat → V3} {off : Nat → Int}
theorem pth_mono {E E' : Nat → Nat → Prop} (h : ∀ x y, E x y → E' x y) {n b : Nat} (hp : pth E a n b) : pth E' a n b := by
  induction n generalizing b with
  | zero => exact hp
  | succ n ih =>
    obtain ⟨d, h1, h2⟩ := hp
    exact ⟨d, ih h1, h _ _ h2⟩
theorem conn (h : MSp σ N fc sz co nn off m) {a b : Nat} (ha : icn fc sz co a) (hb : icn fc sz co b) : ∃ n, pth (dE fc sz co) a n b := by
  obtain ⟨T, H⟩ := Hul_of h.2.2.2.1 h.2.2.2.2.1
  have hinj := h.2.2.2.1
  have hF := h.2.2.2.2.2.2.2.2.1
  have va := (icn_vtx H hinj hF).mp ha
  have vb := (icn_vtx H hinj hF).mp hb
  obtain ⟨x, y, t⟩ := vb
  obtain ⟨k, hk⟩ := H.ext t
  obtain ⟨n, hn⟩ := climb H hinj (fun _ => True) k b (fun q hq hne => hk q hq hne) (H.bd (H.mem t)) (fun _ _ _ _ _ _ => trivial) _ a rfl va trivial
  exact ⟨n, pth_mono (fun x y hxy => (Fam_dE hF).mpr hxy.1) hn⟩
/-- the model's table of steps: sound, and good up to k -/
def SB (E : Nat → Nat → Prop) (a N : Nat) (A : Nat → Int) : Prop := ∀ p, p < N → 0 ≤ A p ∧ A p ≤ 99 ∧ (A p < 99 → pth E a (A p).toNat p)
def CB (E : Nat → Nat → Prop) (a N k : Nat) (A : Nat → Int) : Prop := ∀ p, p < N → ∀ n, n ≤ k → pth E a n p → A p ≤ n
theorem relax {A : Nat → Int} {x y : Nat} {v : Int} (hS : SB E a N A) (hx : x < N) (hy : y < N) (hE : E y x) (hv : v = A x ∨ (v = A y + 1 ∧ v < A x)) : SB E a N (upr A x v) ∧ ∀ p, upr A x v p ≤ A p := by
  have b1 := hS x hx
  have b2 := hS y hy
  constructor
  · intro p hp
    unfold upr
    by_cases e : p = x
    · subst e
      rw [if_pos rfl]
      rcases hv with w | ⟨w1, w2⟩
      · rw [w]; exact b1
      · refine ⟨by omega, by omega, fun _ => ?_⟩
        have q := b2.2.2 (by omega)
        have e : v.toNat = (A y).toNat + 1 := by omega
        rw [e]
        exact ⟨y, q, hE⟩
    · rw [if_neg e]; exact hS p hp
  · intro p
    unfold upr
    by_cases e : p = x
    · subst e
      rw [if_pos rfl]
      omega
    · rw [if_neg e]; omega
theorem CB_le {k : Nat} {A A' : Nat → Int} (h : CB E a N k A) (hle : ∀ p, A' p ≤ A p) : CB E a N k A' := fun p hp n hn hpt => Int.le_trans (hle p) (h p hp n hn hpt)
def eOK (σ : Tab) (E : Nat → Nat → Prop) (a k e : Nat) (A : Nat → Int) : Prop := ∀ e', e' < e → ∀ x y : Nat, σ 0 37 0 e' = 32 * x + y → y < 32 → (∀ n, n ≤ k → pth E a n x → A y ≤ n + 1) ∧ ∀ n, n ≤ k → pth E a n y → A x ≤ n + 1
theorem f_steps70 {P : Int → Tab → Prop} {b : Nat} (h : MSp σ N fc sz co nn off m) (ha : icn fc sz co a) (hb : icn fc sz co b) (haN : a < N) (hbN : b < N) (hP : ∀ (r : Nat) (A : Nat → Int), DstR (dE fc sz co) a b r → P r (strow σ 0 40 0 A)) : ∃ k, wlX8_steps_70 P k a b 0 σ := by
  have hN := h.2.1
  have hF := h.2.2.2.2.2.2.2.2.1
  have hm : σ 0 23 0 19 = m ∧ m ≤ 66 := ⟨h.2.2.2.2.2.2.2.2.2.2.1, h.2.2.2.2.2.2.2.2.2.1⟩
  have hinj := h.2.2.2.1
  obtain ⟨T, H⟩ := Hul_of h.2.2.2.1 h.2.2.2.2.1
  have iN : inI (N : Int) := inI_sm ⟨by omega, by omega⟩
  have iM : inI (m : Int) := inI_sm ⟨by omega, by omega⟩
  have o23 : ∀ A, strow σ 0 40 0 A 0 23 0 = σ 0 23 0 := fun A => strow_ne (fun z => by omega)
  have o37 : ∀ A, strow σ 0 40 0 A 0 37 0 = σ 0 37 0 := fun A => strow_ne (fun z => by omega)
  -- the passes
  have lp107 : ∀ (q k : Nat) (A : Nat → Int), N - k = q → k ≤ N → SB (dE fc sz co) a N A → CB (dE fc sz co) a N k A → wlX8_steps_107 P (q + 1) b k (strow σ 0 40 0 A) := by
    intro q
    induction q with
    | zero =>
      intro k A e1 e2 hS hC
      have : k = N := by omega
      subst this
      unfold wlX8_steps_107
      rw [o23, h.1, Int.toNat_natCast, strow_self]
      refine ⟨iN, iN, fun _ => ⟨⟨by omega, by omega⟩, ?_⟩, fun z => by omega⟩
      obtain ⟨n, hn⟩ := conn h ha hb
      obtain ⟨r, hr⟩ := dst_ex hn
      have hlt := dst_lt (N := k) (fun x y d => (dE_lt hF d).2.1) haN hr
      have u := hC b hbN r (by omega) hr.1
      obtain ⟨s1, s2, s3⟩ := hS b hbN
      have s4 := s3 (by omega)
      have e : A b = r := by
        rcases Nat.lt_or_ge (A b).toNat r with w | w
        · exact absurd s4 (hr.2 _ w)
        · omega
      rw [e]
      exact hP r A hr
    | succ q ih =>
      intro k A e1 e2 hS hC
      unfold wlX8_steps_107
      rw [o23, h.1]
      refine ⟨inI_sm ⟨by omega, by omega⟩, iN, fun z => by omega, fun _ => ⟨m - 0 + 1, ?_⟩⟩
      have inner : ∀ (r e : Nat) (A : Nat → Int), m - e = r → e ≤ m → SB (dE fc sz co) a N A → CB (dE fc sz co) a N k A → eOK σ (dE fc sz co) a k e A → wlX8_steps_119 P (fun x2 x4 τ => wlX8_steps_107 P (q + 1) x2 x4 τ) (r + 1) b k e (strow σ 0 40 0 A) := by
        intro r
        induction r with
        | zero =>
          intro e A g1 g2 hS hC hO
          unfold wlX8_steps_119
          rw [o23, hm.1, ic]
          refine ⟨inI_sm ⟨by omega, by omega⟩, iM, fun _ => ih (k + 1) A (by omega) (by omega) hS (fun p hp n hn hpt => ?_), fun z => by omega⟩
          by_cases en : n ≤ k
          · exact hC p hp n en hpt
          · have en : n = k + 1 := by omega
            subst en
            obtain ⟨c, hc, hd⟩ := hpt
            obtain ⟨b1, b2, b3⟩ := dE_lt hF hd
            obtain ⟨-, -, -, -, -, -, -, -, -, -, -, hE⟩ := id h
            rcases Nat.lt_or_gt_of_ne b3 with w | w
            · obtain ⟨e', he', ee⟩ := hE.2.2 c p w b2 (by omega) hd
              exact (hO e' (by omega) c p ee (by omega)).1 k (Nat.le_refl _) hc
            · obtain ⟨e', he', ee⟩ := hE.2.2 p c w b1 (by omega) (dE_sym H hinj hF hd)
              exact (hO e' (by omega) p c ee (by omega)).2 k (Nat.le_refl _) hc
        | succ r ihr =>
          intro e A g1 g2 hS hC hO
          obtain ⟨x, y, q1, q2, q4, q5, q6, q7⟩ := MSp_edge h (show e < m by omega)
          have hxN : x < N := by omega
          have bx := hS x hxN
          have bY := hS y q2
          have fin : ∀ v1, (v1 = A x ∨ (v1 = A y + 1 ∧ v1 < A x)) → v1 ≤ A y + 1 → wlX8_steps_196 P (fun x2 x4 τ => wlX8_steps_107 P (q + 1) x2 x4 τ) (fun x2 x4 x5 τ => wlX8_steps_119 P (fun x2 x4 τ => wlX8_steps_107 P (q + 1) x2 x4 τ) (r + 1) x2 x4 x5 τ) b k e x y x v1 (strow σ 0 40 0 A) := by
            intro v1 hv1 hv1'
            obtain ⟨S1, L1⟩ := relax hS hxN q2 (dE_sym H hinj hF q4) hv1
            have b1x := S1 x hxN
            have b1y := S1 y q2
            have ux : upr A x v1 x = v1 := by unfold upr; rw [if_pos rfl]
            unfold wlX8_steps_196
            rw [Int.toNat_natCast, Int.toNat_natCast]
            refine ⟨⟨by omega, by omega⟩, fun σ2 e2' => ?_⟩
            rw [e2', strow_st, strow_self, ic]
            have fin2 : ∀ v2, (v2 = upr A x v1 y ∨ (v2 = upr A x v1 x + 1 ∧ v2 < upr A x v1 y)) → v2 ≤ upr A x v1 x + 1 → wlX8_steps_119 P (fun x2 x4 τ => wlX8_steps_107 P (q + 1) x2 x4 τ) (r + 1) b k ((e + 1 : Nat) : Int) (strow σ 0 40 0 (upr (upr A x v1) y v2)) := by
              intro v2 hv2 hv2'
              obtain ⟨S2, L2⟩ := relax S1 q2 hxN q4 hv2
              have L : ∀ p, upr (upr A x v1) y v2 p ≤ A p := fun p => Int.le_trans (L2 p) (L1 p)
              refine ihr (e + 1) _ (by omega) (by omega) S2 (CB_le hC L) (fun e' he' x' y' ee hy' => ?_)
              by_cases z : e' = e
              · subst z
                have ex : x' = x := by omega
                have ey : y' = y := by omega
                subst ex
                subst ey
                have uy : upr (upr A x' v1) y' v2 y' = v2 := by unfold upr; rw [if_pos rfl]
                have ux2 : upr (upr A x' v1) y' v2 x' ≤ v1 := by have q := L2 x'; rw [ux] at q; exact q
                refine ⟨fun n hn hp => ?_, fun n hn hp => ?_⟩
                · rw [uy]
                  have := hC x' hxN n hn hp
                  have := L1 x'
                  omega
                · have := hC y' q2 n hn hp
                  omega
              · obtain ⟨o1, o2⟩ := hO e' (by omega) x' y' ee hy'
                exact ⟨fun n hn hp => Int.le_trans (L _) (o1 n hn hp), fun n hn hp => Int.le_trans (L _) (o2 n hn hp)⟩
            refine ⟨⟨by omega, by omega⟩, ⟨by omega, by omega⟩, inI_sm ⟨by omega, by omega⟩, inI_sm ⟨by omega, by omega⟩, fun z σ8 e8 => ?_, fun z σ9 e9 => ?_⟩
            · rw [e8, strow_st]
              exact fin2 _ (Or.inl rfl) z
            · rw [e9, strow_st]
              exact fin2 _ (Or.inr ⟨rfl, by omega⟩) (by omega)
          unfold wlX8_steps_119
          rw [o23, hm.1, o37, strow_self, Int.toNat_natCast, q6, q7]
          refine ⟨inI_sm ⟨by omega, by omega⟩, iM, fun z => by omega, fun _ => ⟨⟨by omega, by omega⟩, inI_sm ⟨by omega, by omega⟩, fun y6 e6 => ⟨inI_sm ⟨by omega, by omega⟩, fun y8 e8 => ?_⟩⟩⟩
          rw [e6, e8, Int.toNat_natCast, Int.toNat_natCast]
          exact ⟨⟨by omega, by omega⟩, ⟨by omega, by omega⟩, inI_sm ⟨by omega, by omega⟩, inI_sm ⟨by omega, by omega⟩, fun z => fin _ (Or.inl rfl) z, fun z => fin _ (Or.inr ⟨rfl, by omega⟩) (by omega)⟩
      exact inner _ 0 A rfl (by omega) hS hC (fun e' he' => absurd he' (Nat.not_lt_zero _))
  have lp70 : ∀ (q p : Nat) (A : Nat → Int), N - p = q → p ≤ N → (∀ i, i < p → A i = if i = a then 0 else 99) → wlX8_steps_70 P (q + 1) a b p (strow σ 0 40 0 A) := by
    intro q
    induction q with
    | zero =>
      intro p A e1 e2 hA
      have : p = N := by omega
      subst this
      unfold wlX8_steps_70
      rw [o23, h.1]
      refine ⟨iN, iN, fun _ => ⟨_, lp107 _ 0 A rfl (by omega) (fun i hi => ?_) (fun i hi n hn hp => ?_)⟩, fun z => by omega⟩
      · rw [hA i hi]
        by_cases e : i = a
        · rw [if_pos e]; exact ⟨by decide, by decide, fun _ => e⟩
        · rw [if_neg e]; exact ⟨by decide, by decide, fun z => absurd z (by decide)⟩
      · have : n = 0 := by omega
        subst this
        have e : i = a := hp
        rw [hA i hi, if_pos e]
        exact Int.le_refl _
    | succ q ih =>
      intro p A e1 e2 hA
      unfold wlX8_steps_70
      rw [o23, h.1, ic, Int.toNat_natCast]
      refine ⟨inI_sm ⟨by omega, by omega⟩, iN, fun z => by omega, fun _ => ⟨inI_sm ⟨by omega, by omega⟩, fun z => ⟨⟨by omega, by omega⟩, fun σ8 e8 => ?_⟩, fun z => ⟨⟨by omega, by omega⟩, fun σ8 e8 => ?_⟩⟩⟩
      · rw [e8, strow_st]
        refine ih (p + 1) _ (by omega) (by omega) (fun i hi => ?_)
        unfold upr
        by_cases e : i = p
        · rw [if_pos e, if_neg (by omega)]
        · rw [if_neg e]; exact hA i (by omega)
      · rw [e8, strow_st]
        refine ih (p + 1) _ (by omega) (by omega) (fun i hi => ?_)
        unfold upr
        by_cases e : i = p
        · rw [if_pos e, if_pos (by have := Decidable.of_not_not z; omega)]
        · rw [if_neg e]; exact hA i (by omega)
  have := lp70 _ 0 (σ 0 40 0) rfl (by omega) (fun i hi => absurd hi (Nat.not_lt_zero _))
  rw [strow_id] at this
  exact ⟨_, this⟩
end GE

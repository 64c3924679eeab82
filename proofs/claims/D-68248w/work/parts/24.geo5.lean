/-! GEOMETRY 5: one cycle a face; a plane by its points; the graph of the corners -/
section Geo5
variable {P : Nat → V3} {N : Nat} {S : Nat → Prop} {tri : Nat → Nat → Nat → Prop} {n : V3} {c : Int}
/-- a corner of a face -/
def crn (P : Nat → V3) (tri : Nat → Nat → Nat → Prop) (n : V3) (c : Int) (v : Nat) : Prop := vtx tri v ∧ dt n (P v) = c
theorem Hul.crn_mem (H : Hul P N S tri) {v : Nat} (h : crn P tri n c v) : S v := by
  obtain ⟨⟨a, b, t⟩, _⟩ := h
  exact H.mem t
theorem Hul.crn_next (H : Hul P N S tri) (hF : Fac P S n c) {v : Nat} (h : crn P tri n c v) : ∃ x, crn P tri n c x ∧ goOn P S n c v x := by
  obtain ⟨⟨a, b, t⟩, hv⟩ := h
  obtain ⟨x, y, h1, h2, _, h4, _⟩ := H.goOn_first hF t hv
  exact ⟨x, ⟨⟨_, _, H.rot h1⟩, h2⟩, h4⟩
/-- the way around a face, by any function that follows it -/
theorem Hul.crn_orbit (H : Hul P N S tri) (hF : Fac P S n c) (f : Nat → Nat) (hf : ∀ v, crn P tri n c v → crn P tri n c (f v) ∧ goOn P S n c v (f v)) {s : Nat} (hs : crn P tri n c s) : ∃ m, 0 < m ∧ m ≤ N ∧ itf f m s = s ∧ (∀ i j, i < j → j < m → itf f i s ≠ itf f j s) ∧ ∀ w, crn P tri n c w → ∃ i, i < m ∧ itf f i s = w := by
  have hcl : ∀ a, crn P tri n c a → crn P tri n c (f a) := fun a h => (hf a h).1
  have hin : ∀ a b, crn P tri n c a → crn P tri n c b → f a = f b → a = b := fun a b ha hb e => by
    have h1 := (hf a ha).2
    have h2 := (hf b hb).2
    rw [e] at h1
    exact goOn_inj h1 h2 (H.crn_mem ha) (H.crn_mem hb) ha.2 hb.2
  obtain ⟨m0, hm0, hmN, hm1⟩ := orbit (f := f) (D := crn P tri n c) (N := N) (fun a h => H.bd (H.crn_mem h)) hcl hin hs
  -- the least one
  obtain ⟨m, ⟨hm, hme⟩, hml⟩ : ∃ m, (0 < m ∧ itf f m s = s) ∧ ∀ k, 0 < k ∧ itf f k s = s → m ≤ k := by
    obtain ⟨m, h1, h2⟩ := pk_least (fun m => 0 < m ∧ itf f m s = s) ⟨m0, hm0, hm1⟩
    exact ⟨m, h1, fun k hk => Nat.le_of_not_lt fun q => h2 k q hk⟩
  refine ⟨m, hm, Nat.le_trans (hml m0 ⟨hm0, hm1⟩) hmN, hme, ?_, ?_⟩
  · intro i j hij hj e
    have e1 : itf f j s = itf f i (itf f (j - i) s) := by rw [← itf_add]; congr 1; omega
    rw [e1] at e
    have e2 := itf_inj hcl hin hs (itf_dom hcl hs _) i e
    have := hml (j - i) ⟨by omega, e2.symm⟩
    omega
  · intro w hw
    obtain ⟨⟨a, b, tw⟩, hwc⟩ := hw
    obtain ⟨k, hk⟩ := H.ext tw
    obtain ⟨v, ⟨i, hi, hv⟩, hv2⟩ := top_of (fun q => dt k (P q)) (fun q => ∃ i, i < m ∧ itf f i s = q) N (fun q ⟨i, _, h⟩ => by rw [← h]; exact H.bd (H.crn_mem (itf_dom hcl hs i))) ⟨s, 0, hm, rfl⟩
    by_cases e : v = w
    · exact ⟨i, hi, by rw [hv, e]⟩
    · exfalso
      have cv : crn P tri n c v := hv ▸ itf_dom hcl hs i
      -- the one behind v and the one ahead of it
      obtain ⟨j, hj, hjv⟩ : ∃ j, j < m ∧ f (itf f j s) = v := by
        by_cases z : i = 0
        · refine ⟨m - 1, by omega, ?_⟩
          show itf f (m - 1 + 1) s = v
          rw [show m - 1 + 1 = m by omega, hme, ← hv, z]
          rfl
        · refine ⟨i - 1, by omega, ?_⟩
          show itf f (i - 1 + 1) s = v
          rw [show i - 1 + 1 = i by omega, hv]
      have cj := itf_dom hcl hs j
      have g1 := (hf _ cj).2
      rw [hjv] at g1
      have g2 := (hf v cv).2
      have n1 : ∃ i, i < m ∧ itf f i s = f v := by
        by_cases z : i + 1 = m
        · exact ⟨0, hm, by show s = f v; rw [← hv]; show s = itf f (i + 1) s; rw [z, hme]⟩
        · exact ⟨i + 1, by omega, by show f (itf f i s) = f v; rw [hv]⟩
      have h1 := goOn_cone hF (H.crn_mem cj) (H.crn_mem (hcl v cv)) cj.2 cv.2 (hcl v cv).2 g1 g2 k (hv2 _ n1) (hv2 _ ⟨j, hj, rfl⟩) (H.mem tw) hwc
      have h2 := hk v (H.crn_mem cv) e
      omega
theorem Hul.crn_prev (H : Hul P N S tri) (hF : Fac P S n c) {v : Nat} (h : crn P tri n c v) : ∃ x, crn P tri n c x ∧ goOn P S n c x v := by
  have fs : ∀ v, crn P tri n c v → crn P tri n c (Classical.epsilon (fun x => crn P tri n c x ∧ goOn P S n c v x)) ∧ goOn P S n c v (Classical.epsilon (fun x => crn P tri n c x ∧ goOn P S n c v x)) := fun v hv => Classical.epsilon_spec (H.crn_next hF hv)
  obtain ⟨m, hm, _, hme, _, _⟩ := H.crn_orbit hF (fun v => Classical.epsilon (fun x => crn P tri n c x ∧ goOn P S n c v x)) fs h
  have hd := itf_dom (f := fun v => Classical.epsilon (fun x => crn P tri n c x ∧ goOn P S n c v x)) (D := crn P tri n c) (fun a h => (fs a h).1) h (m - 1)
  refine ⟨_, hd, ?_⟩
  have h1 := (fs _ hd).2
  have e : itf (fun v => Classical.epsilon (fun x => crn P tri n c x ∧ goOn P S n c v x)) (m - 1 + 1) v = v := by rw [show m - 1 + 1 = m by omega]; exact hme
  rw [show Classical.epsilon (fun x => crn P tri n c x ∧ goOn P S n c (itf (fun v => Classical.epsilon (fun x => crn P tri n c x ∧ goOn P S n c v x)) (m - 1) v) x) = v from e] at h1
  exact h1
/-- a triangle's plane -/
theorem Hul.fac_tri (H : Hul P N S tri) {a b d : Nat} (h : tri a b d) {k : Int} (hk : 0 < k) {nn : V3} (hn : sm k nn = cr (sb (P b) (P a)) (sb (P d) (P a))) : Fac P S nn (dt nn (P a)) ∧ dt nn (P b) = dt nn (P a) ∧ dt nn (P d) = dt nn (P a) := by
  have e : ∀ q, k * (dt nn (P q) - dt nn (P a)) = VV P a b d q := by
    intro q
    rw [← dt_sb, ← sm_dt, hn]
    rfl
  have z : ∀ q, VV P a b d q = 0 → dt nn (P q) = dt nn (P a) := by
    intro q hq
    have h1 := e q
    rw [hq] at h1
    rcases Int.mul_eq_zero.mp h1 with y | y <;> omega
  have hb := z b (VV_s2 P a b d)
  have hd := z d (VV_s4 P a b d)
  obtain ⟨q, q1, q2⟩ := H.str h
  refine ⟨⟨?_, ?_, a, b, d, ⟨H.mem h, rfl⟩, ⟨H.mem (H.rot h), hb⟩, ⟨H.mem (H.rot2 h), hd⟩, ?_⟩, hb, hd⟩
  · intro y
    have h1 := e q
    rw [y] at h1
    simp only [dt] at h1
    omega
  · intro q hq
    have h1 := H.supp h hq
    have h2 := e q
    rcases Int.lt_or_le (dt nn (P a)) (dt nn (P q)) with y | y
    · have := Int.mul_pos hk (show 0 < dt nn (P q) - dt nn (P a) by omega)
      omega
    · exact y
  · intro y
    have h1 : VV P a b d q = dt (cr (sb (P b) (P a)) (sb (P d) (P a))) (sb (P q) (P a)) := rfl
    rw [y] at h1
    simp only [dt] at h1
    omega
/-- two supporting planes over one triangle are parallel -/
theorem Hul.fac_par (H : Hul P N S tri) {n' : V3} {c' : Int} (hF : Fac P S n c) (hF' : Fac P S n' c') {a b d : Nat} (h : tri a b d) (ha : dt n (P a) = c) (hb : dt n (P b) = c) (hd : dt n (P d) = c) (ha' : dt n' (P a) = c') (hb' : dt n' (P b) = c') (hd' : dt n' (P d) = c') :
    ∃ k k' : Int, 0 < k ∧ 0 < k' ∧ sm k n = sm k' n' := by
  obtain ⟨u, hu⟩ : ∃ u, u = sb (P b) (P a) := ⟨_, rfl⟩
  obtain ⟨w, hw⟩ : ∃ w, w = sb (P d) (P a) := ⟨_, rfl⟩
  have o1 := orient H hF h ha hb hd
  have o2 := orient H hF' h ha' hb' hd'
  have u1 := inp_perp hb ha
  have w1 := inp_perp hd ha
  have u2 := inp_perp hb' ha'
  have w2 := inp_perp hd' ha'
  rw [← hu] at u1 u2 o1 o2
  rw [← hw] at w1 w2 o1 o2
  refine ⟨tp u w n', tp u w n, o2, o1, ?_⟩
  -- tp u w n' * n = tp u w n * n' : both sides dot any vector
  have key : ∀ y : V3, tp u w n' * dt n y = tp u w n * dt n' y := by
    intro y
    have e1 := perp3 u1 w1 n'
    have e2 := perp3 u1 w1 y
    have e3 := perp3 u2 w2 y
    have nn := dt_pos n hF.1
    have mm := dt_pos n' hF'.1
    -- (n.n) T' = T (n.n'); (n.n) X = T (n.y); (n'.n') X = T' (n'.y)
    have e4 := perp3 u2 w2 n
    have e5 := dt_comm n n'
    -- T' (n.y) * (n'.n') (n.n) ...
    have f1 : dt n n * dt n' n' * (tp u w n' * dt n y - tp u w n * dt n' y) = 0 := by
      grind
    rcases Int.mul_eq_zero.mp f1 with z | z
    · have := Int.mul_pos nn mm; omega
    · omega
  have k1 := key (1, 0, 0)
  have k2 := key (0, 1, 0)
  have k3 := key (0, 0, 1)
  simp only [dt, Int.mul_one, Int.mul_zero, Int.add_zero, Int.zero_add] at k1 k2 k3
  simp only [sm]
  exact Prod.ext k1 (Prod.ext k2 k3)
def prim (n : V3) : Prop := Int.gcd (Int.gcd n.1 n.2.1) n.2.2 = 1
theorem prim_eq {a b : V3} (ha : prim a) (hb : prim b) {k k' : Int} (hk : 0 < k) (hk' : 0 < k') (h : sm k a = sm k' b) : a = b := by
  simp only [sm, Prod.mk.injEq] at h
  obtain ⟨h1, h2, h3⟩ := h
  have e : ∀ (k : Int) (x : V3), 0 < k → prim x → Int.gcd (Int.gcd (k * x.1) (k * x.2.1)) (k * x.2.2) = k.toNat := by
    intro k x hk hx
    have z : (k : Int) = (k.toNat : Int) := by omega
    rw [Int.gcd_mul_left, show ((k.natAbs * Int.gcd x.1 x.2.1 : Nat) : Int) = k * (Int.gcd x.1 x.2.1 : Int) by rw [Int.natCast_mul, Int.natAbs_of_nonneg (Int.le_of_lt hk)], Int.gcd_mul_left, hx, Nat.mul_one]
    omega
  have e1 := e k a hk ha
  have e2 := e k' b hk' hb
  rw [h1, h2, h3, e2] at e1
  have ek : k = k' := by omega
  subst ek
  have ne : k ≠ 0 := by omega
  exact Prod.ext (Int.eq_of_mul_eq_mul_left ne h1) (Prod.ext (Int.eq_of_mul_eq_mul_left ne h2) (Int.eq_of_mul_eq_mul_left ne h3))
/-- faces with reduced normals: a triangle names one of them -/
theorem Hul.fac_eq (H : Hul P N S tri) {n' : V3} {c' : Int} (hF : Fac P S n c) (hF' : Fac P S n' c') (hp : prim n) (hp' : prim n') {a b d : Nat} (h : tri a b d) (ha : dt n (P a) = c) (hb : dt n (P b) = c) (hd : dt n (P d) = c) (ha' : dt n' (P a) = c') (hb' : dt n' (P b) = c') (hd' : dt n' (P d) = c') : n = n' ∧ c = c' := by
  obtain ⟨k, k', h1, h2, h3⟩ := H.fac_par hF hF' h ha hb hd ha' hb' hd'
  have e := prim_eq hp hp' h1 h2 h3
  exact ⟨e, by rw [← ha, ← ha', e]⟩
/-- an edge of the hull, in a direction -/
def Eg (P : Nat → V3) (S : Nat → Prop) (a b : Nat) : Prop := ∃ (n : V3) (c : Int), Fac P S n c ∧ S a ∧ S b ∧ dt n (P a) = c ∧ dt n (P b) = c ∧ goOn P S n c a b
theorem sm_one (x : V3) : sm 1 x = x := by simp [sm]
theorem Hul.Eg_sym (H : Hul P N S tri) (hinj : ∀ a b, S a → S b → P a = P b → a = b) {a b : Nat} (h : Eg P S a b) : Eg P S b a := by
  obtain ⟨n, c, hF, sa, sb1, ha, hb, hg⟩ := h
  obtain ⟨y, t1, t2, t3⟩ := H.rim_goOn hF hinj sa sb1 ha hb hg
  obtain ⟨z, tz⟩ := H.twin t1
  have hz := t3 z tz
  obtain ⟨hF', f1, f2⟩ := H.fac_tri tz (k := 1) (by decide) (sm_one _)
  refine ⟨_, _, hF', sb1, sa, rfl, f1, H.goOn_rim hF' tz rfl f1 t1 ?_⟩
  intro e
  -- then both planes hold a b y
  obtain ⟨k, k', k1, k2, k3⟩ := H.fac_par hF hF' t1 ha hb t2 f1 rfl e
  have h1 : k * dt n (P z) = k * dt n (P a) := by
    rw [← sm_dt, ← sm_dt, k3, sm_dt, sm_dt, f1, f2]
  have := Int.eq_of_mul_eq_mul_left (by omega) h1
  omega
theorem Hul.Eg_vtx (H : Hul P N S tri) (hinj : ∀ a b, S a → S b → P a = P b → a = b) {a b : Nat} (h : Eg P S a b) : vtx tri a ∧ vtx tri b := by
  obtain ⟨n, c, hF, sa, sb1, ha, hb, hg⟩ := h
  obtain ⟨y, t1, _, _⟩ := H.rim_goOn hF hinj sa sb1 ha hb hg
  exact ⟨⟨_, _, t1⟩, _, _, H.rot t1⟩
theorem Hul.vtx_Eg (H : Hul P N S tri) {a : Nat} (h : vtx tri a) : ∃ b, Eg P S a b := by
  obtain ⟨x, y, t⟩ := h
  obtain ⟨hF, f1, f2⟩ := H.fac_tri t (k := 1) (by decide) (sm_one _)
  obtain ⟨b, hb, hg⟩ := H.crn_next hF ⟨⟨x, y, t⟩, rfl⟩
  exact ⟨b, _, _, hF, H.mem t, H.crn_mem hb, rfl, hb.2, hg⟩
/-- highest along edges: highest -/
theorem Hul.lgE (H : Hul P N S tri) (hinj : ∀ a b, S a → S b → P a = P b → a = b) {v : Nat} (hv : vtx tri v) (d : V3) (hd : ∀ b, Eg P S v b → dt d (P b) ≤ dt d (P v)) {q : Nat} (hq : S q) : dt d (P q) ≤ dt d (P v) := by
  obtain ⟨x, y, t⟩ := hv
  refine H.lg t d (fun a b h => ?_) hq
  obtain ⟨hF, f1, f2⟩ := H.fac_tri h (k := 1) (by decide) (sm_one _)
  have cv : crn P tri (cr (sb (P a) (P v)) (sb (P b) (P v))) (dt (cr (sb (P a) (P v)) (sb (P b) (P v))) (P v)) v := ⟨⟨a, b, h⟩, rfl⟩
  obtain ⟨u, cu, gu⟩ := H.crn_next hF cv
  obtain ⟨w, cw, gw⟩ := H.crn_prev hF cv
  have e1 : Eg P S v u := ⟨_, _, hF, H.mem h, H.crn_mem cu, rfl, cu.2, gu⟩
  have e2 : Eg P S w v := ⟨_, _, hF, H.crn_mem cw, H.mem h, cw.2, rfl, gw⟩
  exact goOn_cone hF (H.crn_mem cw) (H.crn_mem cu) cw.2 cv.2 cu.2 gw gu d (hd u e1) (hd w (H.Eg_sym hinj e2)) (H.mem (H.rot h)) f1
end Geo5

/-! GEOMETRY 4: faces: planes that support, the way around a face -/
section Geo4
variable {P : Nat → V3} {N : Nat} {S : Nat → Prop} {tri : Nat → Nat → Nat → Prop} {n : V3} {c : Int}
/-- a plane that supports, with three points that are in no line -/
def Fac (P : Nat → V3) (S : Nat → Prop) (n : V3) (c : Int) : Prop := n ≠ (0, 0, 0) ∧ (∀ q, S q → dt n (P q) ≤ c) ∧
  ∃ u v w, (S u ∧ dt n (P u) = c) ∧ (S v ∧ dt n (P v) = c) ∧ (S w ∧ dt n (P w) = c) ∧ cr (sb (P v) (P u)) (sb (P w) (P u)) ≠ (0, 0, 0)
def LL (P : Nat → V3) (n : V3) (a b q : Nat) : Int := tp (sb (P b) (P a)) (sb (P q) (P a)) n
def bt3 (P : Nat → V3) (a b q : Nat) : Int := dt (sb (P q) (P a)) (sb (P q) (P b))
def goOn (P : Nat → V3) (S : Nat → Prop) (n : V3) (c : Int) (a b : Nat) : Prop := a ≠ b ∧ ∀ q, S q → dt n (P q) = c → q ≠ a → q ≠ b → 0 < LL P n a b q ∨ (LL P n a b q = 0 ∧ bt3 P a b q < 0)
theorem LL_sw (P : Nat → V3) (n : V3) (a b q : Nat) : LL P n b a q = - LL P n a b q := by simp only [LL, tp, dt, cr, sb]; grind
theorem LL_as (P : Nat → V3) (n : V3) (a b q : Nat) : LL P n a q b = - LL P n a b q := by simp only [LL, tp, dt, cr, sb]; grind
theorem LL_s (P : Nat → V3) (n : V3) (a b : Nat) : LL P n a b b = 0 := by simp only [LL, tp, dt, cr, sb]; grind
theorem LL_s1 (P : Nat → V3) (n : V3) (a b : Nat) : LL P n a b a = 0 := by simp only [LL, tp, dt, cr, sb]; grind
theorem inp_perp {q v : Nat} (hq : dt n (P q) = c) (hv : dt n (P v) = c) : dt (sb (P q) (P v)) n = 0 := by rw [dt_comm, dt_sb]; omega
theorem par_tr_id (x a b y : V3) : dt x x * tp a b y = dt x a * dt (cr x b) y - tp (cr x (cr x a)) b y := by simp only [tp, dt, cr]; grind
theorem par_tr {x a b : V3} (hx : x ≠ (0, 0, 0)) (ha : cr x a = (0, 0, 0)) (hb : cr x b = (0, 0, 0)) : cr a b = (0, 0, 0) := by
  apply cr_of_tp
  intro y
  have e := par_tr_id x a b y
  rw [ha, hb] at e
  have e2 : dt x x * tp a b y = 0 := by rw [e]; simp only [tp, dt, cr]; grind
  rcases Int.mul_eq_zero.mp e2 with q | q
  · have := dt_pos x hx; omega
  · exact q
theorem sb_sb (u v w : V3) : sb (sb u w) (sb v w) = sb u v := by
  simp only [sb]
  refine Prod.ext ?_ (Prod.ext ?_ ?_) <;> grind
theorem cr_sb (x a b : V3) (ha : cr x a = (0, 0, 0)) (hb : cr x b = (0, 0, 0)) : cr x (sb a b) = (0, 0, 0) := by
  simp only [cr, sb, Prod.mk.injEq] at *
  grind
theorem perp_cr {m x q : V3} (hm : m ≠ (0, 0, 0)) (h1 : dt x m = 0) (h2 : dt q m = 0) (h3 : tp x q m = 0) : cr x q = (0, 0, 0) := by
  apply cr_of_tp
  intro y
  have e := perp3 h1 h2 y
  rw [h3, Int.zero_mul] at e
  rcases Int.mul_eq_zero.mp e with z | z
  · have := dt_pos m hm; omega
  · exact z
/-- of the points of a face the highest by any measure, from a vertex' neighbours in it -/
theorem Hul.lex (H : Hul P N S tri) (hF : ∀ q, S q → dt n (P q) ≤ c) {v a0 b0 : Nat} (h0 : tri v a0 b0) (hv : dt n (P v) = c) (e : V3)
    (hd : ∀ a b, tri v a b → dt n (P a) = c → dt e (sb (P a) (P v)) ≤ 0) {q : Nat} (hq : S q) (hqc : dt n (P q) = c) : dt e (sb (P q) (P v)) ≤ 0 := by
  obtain ⟨B, hB, hb⟩ := bnd (fun a => dt e (sb (P a) (P v))) N
  have h1 := H.fig h0 (ad3 (sm B n) e) (sb (P q) (P v)) (fun a b h => by
    rw [ad_dt, sm_dt, dt_sb n]
    have ha := H.mem (H.rot h)
    have h2 := hF a ha
    rcases Int.lt_or_eq_of_le h2 with z | z
    · have h3 := hb a (H.bd ha)
      have h4 : B * (dt n (P a) - dt n (P v)) ≤ B * (-1) := Int.mul_le_mul_of_nonneg_left (by omega) hB
      omega
    · have h3 := hd a b h z
      rw [z, hv, Int.sub_self, Int.mul_zero]
      omega) (fun a b h => H.supp h hq)
  rw [ad_dt, sm_dt, dt_sb n, hqc, hv, Int.sub_self, Int.mul_zero] at h1
  omega
theorem orient (H : Hul P N S tri) (hF : Fac P S n c) {a b d : Nat} (h : tri a b d) (ha : dt n (P a) = c) (hb : dt n (P b) = c) (hd : dt n (P d) = c) : 0 < tp (sb (P b) (P a)) (sb (P d) (P a)) n := by
  obtain ⟨q, q1, q2⟩ := H.str h
  have e := perp3 (inp_perp hb ha) (inp_perp hd ha) (sb (P q) (P a))
  have h1 := hF.2.1 q q1
  have h2 : dt n (sb (P q) (P a)) ≤ 0 := by rw [dt_sb]; omega
  have h3 : tp (sb (P b) (P a)) (sb (P d) (P a)) (sb (P q) (P a)) < 0 := q2
  have h4 := Int.mul_neg_of_pos_of_neg (dt_pos n hF.1) h3
  rcases Int.lt_or_le 0 (tp (sb (P b) (P a)) (sb (P d) (P a)) n) with z | z
  · exact z
  · have := Int.mul_nonneg_of_nonpos_of_nonpos z h2
    omega
/-- three points in no line aren't all on one line through a point -/
theorem Fac.off (hF : Fac P S n c) {v : Nat} (x : V3) (hx : x ≠ (0, 0, 0)) (h : ∀ q, S q → dt n (P q) = c → cr x (sb (P q) (P v)) = (0, 0, 0)) : False := by
  obtain ⟨_, _, u, y, w, ⟨u1, u2⟩, ⟨y1, y2⟩, ⟨w1, w2⟩, h0⟩ := hF
  apply h0
  rw [← sb_sb (P y) (P u) (P v), ← sb_sb (P w) (P u) (P v)]
  exact par_tr hx (cr_sb _ _ _ (h y y1 y2) (h u u1 u2)) (cr_sb _ _ _ (h w w1 w2) (h u u1 u2))
theorem sb_ne {x y : V3} (h : x ≠ y) : sb x y ≠ (0, 0, 0) := by
  intro e
  apply h
  simp only [sb, Prod.mk.injEq] at e
  refine Prod.ext ?_ (Prod.ext ?_ ?_) <;> omega
/-- at a vertex of a face: the first edge -/
theorem Hul.first (H : Hul P N S tri) (hF : Fac P S n c) {v a0 b0 : Nat} (h0 : tri v a0 b0) (hv : dt n (P v) = c) :
    ∃ x y, tri v x y ∧ dt n (P x) = c ∧ dt n (P y) = c ∧ (∀ q, S q → dt n (P q) = c → 0 ≤ LL P n v x q) ∧ ∀ z, tri x v z → dt n (P z) < c := by
  have hFs := hF.2.1
  have hn := hF.1
  obtain ⟨h, hh⟩ := H.ext h0
  have nn := dt_pos n hn
  -- a neighbour in the face
  have hne : ∃ a, (∃ b, tri v a b) ∧ dt n (P a) = c := by
    by_cases q : ∃ a, (∃ b, tri v a b) ∧ dt n (P a) = c
    · exact q
    · exfalso
      have all : ∀ q, S q → dt n (P q) = c → sb (P q) (P v) = (0, 0, 0) := by
        intro z z1 z2
        by_cases e : sb (P z) (P v) = (0, 0, 0)
        · exact e
        · exfalso
          have h1 := H.lex hFs h0 hv (sb (P z) (P v)) (fun a b h1 h2 => absurd ⟨a, ⟨b, h1⟩, h2⟩ q) z1 z2
          have := dt_pos _ e
          omega
      refine hF.off (v := v) (1, 0, 0) (by decide) (fun z z1 z2 => ?_)
      rw [all z z1 z2]
      decide
  obtain ⟨g, hg⟩ : ∃ g : V3, g = ad3 (sm (-(dt n n)) h) (sm (dt h n) n) := ⟨_, rfl⟩
  have gn : dt g n = 0 := by
    rw [hg, ad_dt, sm_dt, sm_dt]
    grind
  have ga : ∀ a, ((∃ b, tri v a b) ∧ dt n (P a) = c) → 0 < dt g (sb (P a) (P v)) := by
    rintro a ⟨⟨b, hb⟩, hc⟩
    rw [hg, ad_dt, sm_dt, sm_dt, dt_sb n, hc, hv, Int.sub_self, Int.mul_zero, Int.add_zero, dt_sb]
    have := hh a (H.mem (H.rot hb)) (Ne.symm (H.ne hb))
    exact Int.mul_pos_of_neg_of_neg (by omega) (by omega)
  obtain ⟨x, ⟨⟨y, hy⟩, hx⟩, hx2⟩ := low_slope (fun a => dt (cr n g) (sb (P a) (P v))) (fun a => dt g (sb (P a) (P v))) (fun a => (∃ b, tri v a b) ∧ dt n (P a) = c) N
    (fun a ⟨⟨b, hb⟩, _⟩ => H.bd (H.mem (H.rot hb))) ga hne
  have gg : 0 < dt g g := by
    apply dt_pos
    intro e
    have := ga x ⟨⟨y, hy⟩, hx⟩
    rw [e] at this
    simp [dt] at this
  have left0 : ∀ b, ((∃ d, tri v b d) ∧ dt n (P b) = c) → 0 ≤ LL P n v x b := by
    intro b hb
    have h1 := hx2 b hb
    have h2 := slope_id g n (sb (P x) (P v)) (sb (P b) (P v))
    rw [gn, Int.zero_mul, Int.sub_zero] at h2
    have h3 := Int.mul_comm (dt g (sb (P x) (P v))) (dt (cr n g) (sb (P b) (P v)))
    rcases Int.lt_or_le (LL P n v x b) 0 with z | z
    · exfalso
      have h4 : dt g g * tp (sb (P x) (P v)) (sb (P b) (P v)) n < 0 := Int.mul_neg_of_pos_of_neg gg z
      omega
    · exact z
  have left : ∀ q, S q → dt n (P q) = c → 0 ≤ LL P n v x q := by
    intro q q1 q2
    have e : ∀ z : V3, dt (sm (-1) (cr n (sb (P x) (P v)))) z = - tp (sb (P x) (P v)) z n := by
      intro z
      simp only [tp, dt, cr, sm]; grind
    have h1 := H.lex hFs h0 hv (sm (-1) (cr n (sb (P x) (P v)))) (fun a b h1 h2 => by
      rw [e]
      have := left0 a ⟨⟨b, h1⟩, h2⟩
      simp only [LL] at this
      omega) q1 q2
    rw [e] at h1
    simp only [LL]
    omega
  have xv : P x ≠ P v := by
    intro e
    have := hh x (H.mem (H.rot hy)) (Ne.symm (H.ne hy))
    rw [e] at this
    omega
  have some : ∃ q, S q ∧ dt n (P q) = c ∧ 0 < LL P n v x q := by
    by_cases q : ∃ q, S q ∧ dt n (P q) = c ∧ 0 < LL P n v x q
    · exact q
    · exfalso
      refine hF.off (v := v) (sb (P x) (P v)) (sb_ne xv) (fun z z1 z2 => ?_)
      have h1 := left z z1 z2
      refine perp_cr hn (inp_perp hx hv) (inp_perp z2 hv) ?_
      rcases Int.lt_or_eq_of_le h1 with w | w
      · exact absurd ⟨z, z1, z2, w⟩ q
      · exact w.symm
  refine ⟨x, y, hy, hx, ?_, left, ?_⟩
  · obtain ⟨q, q1, q2, q3⟩ := some
    have hy1 := hFs y (H.mem (H.rot2 hy))
    rcases Int.lt_or_eq_of_le hy1 with w | w
    · exfalso
      have e := perp3 (inp_perp hx hv) (inp_perp q2 hv) (sb (P y) (P v))
      have e2 : dt n (sb (P y) (P v)) < 0 := by rw [dt_sb]; omega
      have e3 : tp (sb (P x) (P v)) (sb (P q) (P v)) n * dt n (sb (P y) (P v)) < 0 := Int.mul_neg_of_pos_of_neg q3 e2
      have e4 := H.supp hy q1
      have e5 : tp (sb (P x) (P v)) (sb (P q) (P v)) (sb (P y) (P v)) = - VV P v x y q := tp_swap _ _ _
      have e6 : 0 ≤ dt n n * tp (sb (P x) (P v)) (sb (P q) (P v)) (sb (P y) (P v)) := Int.mul_nonneg (Int.le_of_lt nn) (by omega)
      omega
    · exact w
  · intro z hz
    have hz1 := hFs z (H.mem (H.rot2 hz))
    rcases Int.lt_or_eq_of_le hz1 with w | w
    · exact w
    · exfalso
      have h1 := orient H hF (H.rot hz) hv w hx
      have h2 := left z (H.mem (H.rot2 hz)) w
      have h3 : tp (sb (P z) (P v)) (sb (P x) (P v)) n = - LL P n v x z := LL_as P n v x z
      omega
theorem btw_alg {u q h k : V3} (h0 : cr u q = (0, 0, 0)) (a1 : dt h u < 0) (a2 : dt h q < 0) (b1 : 0 < dt k u) (b2 : dt k q < dt k u) : dt q (sb q u) < 0 := by
  have e1 := cr0_prop h0 h k
  have e2 := cr0_prop h0 h q
  have i1 : dt h u * dt k u < dt h u * dt k q := Int.mul_lt_mul_of_neg_left b2 a1
  rw [e1] at i1
  have j1 : dt h u < dt h q := Int.lt_of_mul_lt_mul_right i1 (Int.le_of_lt b1)
  have qq : 0 < dt q q := by
    apply dt_pos
    intro z
    rw [z] at a2
    simp [dt] at a2
  rw [dt_sb]
  rcases Int.lt_or_le (dt q q) (dt q u) with z | z
  · omega
  · exfalso
    have l1 : dt h q * dt q q ≤ dt h q * dt q u := Int.mul_le_mul_of_nonpos_left (Int.le_of_lt a2) z
    have l2 : dt h u * dt q q < dt h q * dt q q := Int.mul_lt_mul_of_pos_right j1 qq
    omega
/-- all on one side of two extreme points: the boundary goes from the one to the other -/
theorem goOn_of {a b : Nat} {h k : V3} (hn : n ≠ (0, 0, 0)) (ha : dt n (P a) = c) (hb : dt n (P b) = c) (ab : a ≠ b) (sa : S a) (sb' : S b) (hh : ∀ q, S q → q ≠ a → dt h (P q) < dt h (P a)) (hk : ∀ q, S q → q ≠ b → dt k (P q) < dt k (P b))
    (hl : ∀ q, S q → dt n (P q) = c → 0 ≤ LL P n a b q) : goOn P S n c a b := by
  refine ⟨ab, fun q q1 q2 qa qb => ?_⟩
  rcases Int.lt_or_eq_of_le (hl q q1 q2) with z | z
  · exact Or.inl z
  · refine Or.inr ⟨z.symm, ?_⟩
    have h0 := perp_cr hn (inp_perp hb ha) (inp_perp q2 ha) z.symm
    have h1 := btw_alg (h := h) (k := k) h0 (by rw [dt_sb]; have := hh b sb' (Ne.symm ab); omega) (by rw [dt_sb]; have := hh q q1 qa; omega)
      (by rw [dt_sb]; have := hk a sa ab; omega) (by rw [dt_sb, dt_sb]; have := hk q q1 qb; omega)
    rw [sb_sb] at h1
    exact h1
theorem goOn_uniq {a b b' : Nat} (h : goOn P S n c a b) (h' : goOn P S n c a b') (sb1 : S b) (sb2 : S b') (hb : dt n (P b) = c) (hb' : dt n (P b') = c) : b = b' := by
  by_cases e : b = b'
  · exact e
  · exfalso
    have h1 := h.2 b' sb2 hb' (Ne.symm h'.1) (fun z => e z.symm)
    have h2 := h'.2 b sb1 hb (Ne.symm h.1) e
    have h3 := LL_as P n a b b'
    have s1 : bt3 P a b b' + bt3 P a b' b = dt (sb (P b') (P b)) (sb (P b') (P b)) := by simp only [bt3, dt, sb]; grind
    have s2 : 0 ≤ dt (sb (P b') (P b)) (sb (P b') (P b)) := by
      by_cases z : sb (P b') (P b) = (0, 0, 0)
      · rw [z]; decide
      · exact Int.le_of_lt (dt_pos _ z)
    omega
theorem goOn_inj {a a' b : Nat} (h : goOn P S n c a b) (h' : goOn P S n c a' b) (sb1 : S a) (sb2 : S a') (hb : dt n (P a) = c) (hb' : dt n (P a') = c) : a = a' := by
  by_cases e : a = a'
  · exact e
  · exfalso
    have h1 := h.2 a' sb2 hb' (fun z => e z.symm) h'.1
    have h2 := h'.2 a sb1 hb e h.1
    have h3 : LL P n a b a' = - LL P n a' b a := by simp only [LL, tp, dt, cr, sb]; grind
    have s1 : bt3 P a b a' + bt3 P a' b a = dt (sb (P a') (P a)) (sb (P a') (P a)) := by simp only [bt3, dt, sb]; grind
    have s2 : 0 ≤ dt (sb (P a') (P a)) (sb (P a') (P a)) := by
      by_cases z : sb (P a') (P a) = (0, 0, 0)
      · rw [z]; decide
      · exact Int.le_of_lt (dt_pos _ z)
    omega
/-- where the boundary of a face goes on, there is an extreme point -/
theorem goOn_ext {a b : Nat} (hbd : ∀ q, S q → q < N) (hF : ∀ q, S q → dt n (P q) ≤ c) (ha : dt n (P a) = c) (hb : dt n (P b) = c) (hne : P b ≠ P a) (h : goOn P S n c a b) : ∃ k : V3, ∀ q, S q → q ≠ a → dt k (P q) < dt k (P a) := by
  obtain ⟨u, hu⟩ : ∃ u : V3, u = sb (P b) (P a) := ⟨_, rfl⟩
  have uu : 0 < dt u u := dt_pos _ (by rw [hu]; exact sb_ne hne)
  obtain ⟨B, hB, hB2⟩ := bnd (fun q => - dt u (sb (P q) (P a))) N
  obtain ⟨e, he⟩ : ∃ e : V3, e = ad3 (sm (-(B + 1)) (cr n u)) (sm (-1) u) := ⟨_, rfl⟩
  have ee : ∀ q, dt e (sb (P q) (P a)) = -(B + 1) * LL P n a b q - dt u (sb (P q) (P a)) := by
    intro q
    rw [he, ad_dt, sm_dt, sm_dt]
    have : dt (cr n u) (sb (P q) (P a)) = LL P n a b q := by rw [hu]; exact tp_rot _ _ _
    rw [this]
    omega
  have hin : ∀ q, S q → dt n (P q) = c → q ≠ a → dt e (sb (P q) (P a)) < 0 := by
    intro q q1 q2 qa
    rw [ee]
    by_cases qb : q = b
    · rw [qb, LL_s, ← hu]
      omega
    · rcases h.2 q q1 q2 qa qb with z | ⟨z1, z2⟩
      · have h1 := hB2 q (hbd q q1)
        have h2 : (B + 1) * 1 ≤ (B + 1) * LL P n a b q := Int.mul_le_mul_of_nonneg_left (by omega) (by omega)
        have h3 : -(B + 1) * LL P n a b q = - ((B + 1) * LL P n a b q) := Int.neg_mul _ _
        omega
      · rw [z1]
        have h1 : bt3 P a b q = dt (sb (P q) (P a)) (sb (P q) (P a)) - dt u (sb (P q) (P a)) := by rw [hu]; simp only [bt3, dt, sb]; grind
        have s2 : 0 ≤ dt (sb (P q) (P a)) (sb (P q) (P a)) := by
          by_cases z : sb (P q) (P a) = (0, 0, 0)
          · rw [z]; decide
          · exact Int.le_of_lt (dt_pos _ z)
        omega
  obtain ⟨C, hC, hC2⟩ := bnd (fun q => dt e (sb (P q) (P a))) N
  refine ⟨ad3 (sm (C + 1) n) e, fun q q1 qa => ?_⟩
  have e1 : dt (ad3 (sm (C + 1) n) e) (P q) - dt (ad3 (sm (C + 1) n) e) (P a) = (C + 1) * (dt n (P q) - dt n (P a)) + dt e (sb (P q) (P a)) := by
    rw [← dt_sb, ad_dt, sm_dt, dt_sb n]
  rcases Int.lt_or_eq_of_le (hF q q1) with z | z
  · have h1 := hC2 q (hbd q q1)
    have h2 : (C + 1) * (dt n (P q) - dt n (P a)) ≤ (C + 1) * (-1) := Int.mul_le_mul_of_nonneg_left (by omega) (by omega)
    omega
  · have h1 := hin q q1 z qa
    rw [z, ha, Int.sub_self, Int.mul_zero] at e1
    omega
theorem Hul.vtx_of (H : Hul P N S tri) {a : Nat} (sa : S a) {k : V3} (hk : ∀ q, S q → q ≠ a → dt k (P q) < dt k (P a)) : vtx tri a := by
  obtain ⟨x, y, z, t⟩ := H.non
  obtain ⟨v, ⟨v1, v2, hv⟩, hv2⟩ := top_of (fun q => dt k (P q)) (fun q => ∃ b d, tri q b d) N (fun q ⟨b, d, h⟩ => H.bd (H.mem h)) ⟨x, y, z, t⟩
  have h1 := H.lg hv k (fun a b h => hv2 a ⟨_, _, H.rot h⟩) sa
  by_cases e : v = a
  · subst e; exact ⟨_, _, hv⟩
  · have := hk v (H.mem hv) e
    omega
/-- each face has a triangle -/
theorem Hul.top (H : Hul P N S tri) (hF : Fac P S n c) : ∃ v a b, tri v a b ∧ dt n (P v) = c := by
  obtain ⟨x, y, z, t⟩ := H.non
  obtain ⟨v, ⟨v1, v2, hv⟩, hv2⟩ := top_of (fun q => dt n (P q)) (fun q => ∃ b d, tri q b d) N (fun q ⟨b, d, h⟩ => H.bd (H.mem h)) ⟨x, y, z, t⟩
  obtain ⟨_, hs, u, _, _, ⟨u1, u2⟩, _⟩ := hF
  have h1 := H.lg hv n (fun a b h => hv2 a ⟨_, _, H.rot h⟩) u1
  have h2 := hs v (H.mem hv)
  exact ⟨v, v1, v2, hv, by omega⟩
theorem ext_ne {a b : Nat} {k : V3} (hk : ∀ q, S q → q ≠ a → dt k (P q) < dt k (P a)) (sb1 : S b) (ab : a ≠ b) : P b ≠ P a := by
  intro e
  have := hk b sb1 (Ne.symm ab)
  rw [e] at this
  omega
theorem Hul.goOn_first (H : Hul P N S tri) (hF : Fac P S n c) {v a0 b0 : Nat} (h0 : tri v a0 b0) (hv : dt n (P v) = c) : ∃ x y, tri v x y ∧ dt n (P x) = c ∧ dt n (P y) = c ∧ goOn P S n c v x ∧ ∀ z, tri x v z → dt n (P z) < c := by
  obtain ⟨x, y, h1, h2, h3, h4, h5⟩ := H.first hF h0 hv
  obtain ⟨k1, e1⟩ := H.ext h1
  obtain ⟨k2, e2⟩ := H.ext (H.rot h1)
  exact ⟨x, y, h1, h2, h3, goOn_of hF.1 hv h2 (H.ne h1) (H.mem h1) (H.mem (H.rot h1)) e1 e2 h4, h5⟩
/-- an edge of a triangle of the face whose other side isn't of it -/
theorem Hul.goOn_rim (H : Hul P N S tri) (hF : Fac P S n c) {a b y z : Nat} (h : tri a b y) (ha : dt n (P a) = c) (hb : dt n (P b) = c) (ht : tri b a z) (hz : dt n (P z) ≠ c) : goOn P S n c a b := by
  have hz1 := hF.2.1 z (H.mem (H.rot2 ht))
  obtain ⟨k1, e1⟩ := H.ext h
  obtain ⟨k2, e2⟩ := H.ext (H.rot h)
  refine goOn_of hF.1 ha hb (H.ne h) (H.mem h) (H.mem (H.rot h)) e1 e2 (fun q q1 q2 => ?_)
  have h1 := H.supp ht q1
  have e := perp3 (inp_perp hb ha) (inp_perp q2 ha) (sb (P z) (P a))
  have s1 : tp (sb (P b) (P a)) (sb (P q) (P a)) (sb (P z) (P a)) = VV P b a z q := by rw [VV_sw]; exact tp_swap _ _ _
  rw [s1] at e
  have h2 : dt n (sb (P z) (P a)) < 0 := by rw [dt_sb]; omega
  have h3 := Int.mul_nonpos_of_nonneg_of_nonpos (Int.le_of_lt (dt_pos n hF.1)) h1
  rcases Int.lt_or_le (LL P n a b q) 0 with w | w
  · exfalso
    have h4 : 0 < tp (sb (P b) (P a)) (sb (P q) (P a)) n * dt n (sb (P z) (P a)) := Int.mul_pos_of_neg_of_neg w h2
    omega
  · exact w
theorem Hul.rim_goOn (H : Hul P N S tri) (hF : Fac P S n c) (hinj : ∀ a b, S a → S b → P a = P b → a = b) {a b : Nat} (sa : S a) (sb1 : S b) (ha : dt n (P a) = c) (hb : dt n (P b) = c) (h : goOn P S n c a b) : ∃ y, tri a b y ∧ dt n (P y) = c ∧ ∀ z, tri b a z → dt n (P z) < c := by
  obtain ⟨k, hk⟩ := goOn_ext (fun q hq => H.bd hq) hF.2.1 ha hb (fun e => h.1 (hinj _ _ sb1 sa e).symm) h
  obtain ⟨x0, y0, h0⟩ := H.vtx_of sa hk
  obtain ⟨x, y, h1, h2, h3, h4, h5⟩ := H.goOn_first hF h0 ha
  have e := goOn_uniq h h4 sb1 (H.mem (H.rot h1)) hb h2
  subst e
  exact ⟨y, h1, h3, h5⟩
theorem four_id (u w q n' e : V3) : tp u w n' * dt e q = tp q w n' * dt e u + tp u q n' * dt e w + tp u w q * dt e n' := by simp only [tp, dt, cr]; grind
/-- two edges at a corner of a face: what isn't higher at their ends is nowhere higher -/
theorem goOn_cone (hF : Fac P S n c) {w v u : Nat} (sw : S w) (su : S u) (hw : dt n (P w) = c) (hv : dt n (P v) = c) (hu : dt n (P u) = c) (h1 : goOn P S n c w v) (h2 : goOn P S n c v u) (e : V3) (e1 : dt e (P u) ≤ dt e (P v)) (e2 : dt e (P w) ≤ dt e (P v)) {q : Nat} (sq : S q) (hq : dt n (P q) = c) : dt e (P q) ≤ dt e (P v) := by
  have l1 : ∀ q, S q → dt n (P q) = c → 0 ≤ tp (sb (P u) (P v)) (sb (P q) (P v)) n := by
    intro q q1 q2
    by_cases z1 : q = v
    · rw [z1]; have := LL_s1 P n v u; simp only [LL] at this; omega
    · by_cases z2 : q = u
      · rw [z2]; have := LL_s P n v u; simp only [LL] at this; omega
      · have := h2.2 q q1 q2 z1 z2
        simp only [LL] at this
        omega
  have l2 : ∀ q, S q → dt n (P q) = c → 0 ≤ tp (sb (P q) (P v)) (sb (P w) (P v)) n := by
    intro q q1 q2
    have e0 : tp (sb (P q) (P v)) (sb (P w) (P v)) n = LL P n w v q := by simp only [LL, tp, dt, cr, sb]; grind
    rw [e0]
    by_cases z1 : q = w
    · rw [z1, LL_s1]; exact Int.le_refl _
    · by_cases z2 : q = v
      · rw [z2, LL_s]; exact Int.le_refl _
      · have := h1.2 q q1 q2 z1 z2
        omega
  have uw : 0 < tp (sb (P u) (P v)) (sb (P w) (P v)) n := by
    rcases Int.lt_or_eq_of_le (l1 w sw hw) with z | z
    · exact z
    · exfalso
      by_cases wu : w = u
      · subst wu
        by_cases pv : P w = P v
        · -- then all lie on one point's side: no face
          have z1 := h2.2
          obtain ⟨_, _, x1, x2, x3, ⟨a1, a2⟩, ⟨b1, b2⟩, ⟨c1, c2⟩, h0⟩ := hF
          have key : ∀ q, S q → dt n (P q) = c → P q = P v := by
            intro q q1 q2
            by_cases y1 : q = v
            · rw [y1]
            · by_cases y2 : q = w
              · rw [y2, pv]
              · exfalso
                have y3 := z1 q q1 q2 y1 y2
                have y4 : LL P n v w q = 0 := by simp only [LL, pv, tp, dt, cr, sb]; grind
                have y5 : 0 ≤ bt3 P v w q := by
                  simp only [bt3, pv]
                  by_cases y6 : sb (P q) (P v) = (0, 0, 0)
                  · rw [y6]; decide
                  · exact Int.le_of_lt (dt_pos _ y6)
                omega
          apply h0
          rw [key x1 a1 a2, key x2 b1 b2, key x3 c1 c2]
          simp only [cr, sb]
          refine Prod.ext ?_ (Prod.ext ?_ ?_) <;> grind
        · refine hF.off (v := v) (sb (P w) (P v)) (sb_ne pv) (fun q q1 q2 => ?_)
          refine perp_cr hF.1 (inp_perp hw hv) (inp_perp q2 hv) ?_
          have y1 := l1 q q1 q2
          have y2 := l2 q q1 q2
          have y3 : tp (sb (P q) (P v)) (sb (P w) (P v)) n = - tp (sb (P w) (P v)) (sb (P q) (P v)) n := LL_as P n v w q
          omega
      · have a1 := h2.2 w sw hw h1.1 wu
        have a2 := h1.2 u su hu (fun z => wu z.symm) (Ne.symm h2.1)
        have a3 : LL P n v u w = 0 := z.symm
        have a4 : LL P n w v u = LL P n v u w := by simp only [LL, tp, dt, cr, sb]; grind
        have s1 : bt3 P v u w + bt3 P w v u = dt (sb (P w) (P u)) (sb (P w) (P u)) := by simp only [bt3, dt, sb]; grind
        have s2 : 0 ≤ dt (sb (P w) (P u)) (sb (P w) (P u)) := by
          by_cases z : sb (P w) (P u) = (0, 0, 0)
          · rw [z]; decide
          · exact Int.le_of_lt (dt_pos _ z)
        omega
  have id := four_id (sb (P u) (P v)) (sb (P w) (P v)) (sb (P q) (P v)) n e
  have z0 : tp (sb (P u) (P v)) (sb (P w) (P v)) (sb (P q) (P v)) = 0 := by
    have k := perp3 (inp_perp hu hv) (inp_perp hw hv) (sb (P q) (P v))
    have k2 : dt n (sb (P q) (P v)) = 0 := by rw [dt_sb]; omega
    rw [k2, Int.mul_zero] at k
    rcases Int.mul_eq_zero.mp k with y | y
    · have := dt_pos n hF.1; omega
    · exact y
  rw [z0, Int.zero_mul, Int.add_zero] at id
  have k1 : tp (sb (P q) (P v)) (sb (P w) (P v)) n * dt e (sb (P u) (P v)) ≤ 0 := Int.mul_nonpos_of_nonneg_of_nonpos (l2 q sq hq) (by rw [dt_sb]; omega)
  have k2 : tp (sb (P u) (P v)) (sb (P q) (P v)) n * dt e (sb (P w) (P v)) ≤ 0 := Int.mul_nonpos_of_nonneg_of_nonpos (l1 q sq hq) (by rw [dt_sb]; omega)
  rcases Int.lt_or_le 0 (dt e (sb (P q) (P v))) with y | y
  · have := Int.mul_pos uw y
    omega
  · rw [dt_sb] at y
    omega
end Geo4

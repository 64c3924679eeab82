/-! the walk of X8_isCorner X8_support X8_steps X8_side X8_sum (written by wip/D-68248w/tools/genwalk.py) -/
section
def wlX8_isCorner_4  (P : Int → Tab → Prop) : Nat → Int → Int → Int → Tab → Prop
  | 0, _, _, _, _ => False
  | n + 1, x1, x2, x3, σ => (inI x3 ∧ (inI (σ 0 23 0 19) ∧ ((σ 0 23 0 19 ≤ x3 → ((x2 = 0 ∨ x2 = 1) ∧ P x2 σ)) ∧ (¬ (σ 0 23 0 19 ≤ x3) → (inI x2 ∧ ((x2 ≠ 0 → wlX8_isCorner_4 P n x1 1 (x3 + 1) σ) ∧ (¬ (x2 ≠ 0) → ((0 ≤ x3 ∧ x3 < 128) ∧ (inI (σ 0 37 0 x3.toNat) ∧ (inI ((σ 0 37 0 x3.toNat).tdiv 32) ∧ (inI x1 ∧ (((σ 0 37 0 x3.toNat).tdiv 32 = x1 → wlX8_isCorner_4 P n x1 1 (x3 + 1) σ) ∧ (¬ ((σ 0 37 0 x3.toNat).tdiv 32 = x1) → (inI (σ 0 37 0 x3.toNat) ∧ (inI ((σ 0 37 0 x3.toNat).tmod 32) ∧ (((σ 0 37 0 x3.toNat).tmod 32 ≠ x1 → wlX8_isCorner_4 P n x1 0 (x3 + 1) σ) ∧ (¬ ((σ 0 37 0 x3.toNat).tmod 32 ≠ x1) → wlX8_isCorner_4 P n x1 1 (x3 + 1) σ)))))))))))))))))
def wpX8_isCorner (x1 : Int) (σ : Tab) (P : Int → Tab → Prop) : Prop := (∃ k : Nat, wlX8_isCorner_4 P k x1 0 0 σ)
abbrev rmX8_isCorner : Room := { frames := 0, cells := 0, slots := 0, locals := 0 }
set_option maxHeartbeats 4000000 in
set_option maxRecDepth 100000 in
theorem klX8_isCorner_4 {l : Launch} {p : Program} {e : Env} {s : State} {m : MethodId} {args : Array Value} {below : List Frame} {meth : Method} {c : Code} {D : va_G} {ids : Ids} {ad : Lay} {cA : Nat → ClassId} {A : Nat → Prop}  {P : Int → Tab → Prop} (X : Cx p m c meth cX8_isCorner 4 s args RX8 D cA A nwW) (hr : meth.sig.returnType = some .boolean) (hM : HasM ids) :
    ∀ (n : Nat) (x1 : Int) (x2 : Int) (x3 : Int) (σ : Tab) (H : Heap) (locs : List Loc) (ls : Array Slot), wlX8_isCorner_4 P n x1 x2 x3 σ → ww D ids ad cA A σ s.heap H locs → lv_has ls 4 [(0, .ref (ad 0 23 0)), (1, vI x1), (2, vI x2), (3, vI x3)] → W p l e rmX8_isCorner s m args below meth c H locs 0 0 (MQ below (QI D ids ad cA A P) args s 0 0 A) (F0 m 4 ls []) := by
  intro n
  induction n with
  | zero => intro x1 x2 x3 σ H locs ls hq w hl; exact hq.elim
  | succ n ih =>
    intro x1 x2 x3 σ H locs ls hq w hl
    unfold wlX8_isCorner_4 at hq
    refine lv_iload_n X.x X.b dX8_isCorner_4 rfl (lv_at hl 3 rfl) ?_
    refine lv_aload_n X.x X.b dX8_isCorner_5 rfl (lv_at hl 0 rfl) ?_
    refine x_get X w (hM 23 (by decide)) rfl in_X8 rfl 19 (by decide) q690 rfl rfl dX8_isCorner_6 ?_
    obtain ⟨o1, hq⟩ := hq
    obtain ⟨o2, hq⟩ := hq
    refine ra_icmp_ge (tgt := 54) X.x X.b o1 o2 dX8_isCorner_9 (by decide) (fun c3 => ?_) (fun c3 => ?_)
    · have hq := hq.1 c3
      refine lv_iload_n X.x X.b dX8_isCorner_54 rfl (lv_at hl 2 rfl) ?_
      obtain ⟨o4, hq⟩ := hq
      exact x_zret X hr w o4 hq dX8_isCorner_55
    · have hq := hq.2 c3
      refine lv_iload_n X.x X.b dX8_isCorner_12 rfl (lv_at hl 2 rfl) ?_
      obtain ⟨o5, hq⟩ := hq
      refine ra_if_ne (tgt := 42) X.x X.b o5 dX8_isCorner_13 (by decide) (fun c6 => ?_) (fun c6 => ?_)
      · have hq := hq.1 c6
        refine ra_iconst X.x X.b dX8_isCorner_42 ?_
        refine lv_goto (tgt := 47) X.x X.b dX8_isCorner_43 (by decide) ?_
        refine lv_istore_n (lv' := [(2, vI 1), (0, .ref (ad 0 23 0)), (1, vI x1), (3, vI x3)]) X.x X.b dX8_isCorner_47 rfl hl (by decide) rfl (fun ls hl => ?_)
        refine lv_iinc (v := Int32.ofInt (x3 + 1)) (lv' := [(3, vI (x3 + 1)), (2, vI 1), (0, .ref (ad 0 23 0)), (1, vI x1)]) X.x X.b dX8_isCorner_48 hl (k := 3) rfl (Int32.ofInt_add _ _).symm (by decide) rfl (fun ls hl => ?_)
        refine lv_goto (tgt := 4) X.x X.b dX8_isCorner_51 (by decide) ?_
        exact ih x1 1 (x3 + 1) σ _ _ _ hq w (lv_sub hl [2, 3, 1, 0] rfl)
      · have hq := hq.2 c6
        refine lv_aload_n X.x X.b dX8_isCorner_16 rfl (lv_at hl 0 rfl) ?_
        refine x_get X w (hM 23 (by decide)) rfl in_X8 rfl 20 (by decide) q691 rfl rfl dX8_isCorner_17 ?_
        refine lv_iload_n X.x X.b dX8_isCorner_20 rfl (lv_at hl 3 rfl) ?_
        obtain ⟨o7, hq⟩ := hq
        refine x_iald X w (hM 37 (by decide)) rfl (by decide) o7.1 o7.2 dX8_isCorner_21 ?_
        refine ra_bipush X.x X.b dX8_isCorner_22 rfl ?_
        obtain ⟨o8, hq⟩ := hq
        refine ra_idiv X.x X.b o8 ⟨by decide, by decide⟩ (by decide) dX8_isCorner_24 ?_
        refine lv_iload_n X.x X.b dX8_isCorner_25 rfl (lv_at hl 1 rfl) ?_
        obtain ⟨o9, hq⟩ := hq
        obtain ⟨o10, hq⟩ := hq
        refine ra_icmp_eq (tgt := 42) X.x X.b o9 o10 dX8_isCorner_26 (by decide) (fun c11 => ?_) (fun c11 => ?_)
        · have hq := hq.1 c11
          refine ra_iconst X.x X.b dX8_isCorner_42 ?_
          refine lv_goto (tgt := 47) X.x X.b dX8_isCorner_43 (by decide) ?_
          refine lv_istore_n (lv' := [(2, vI 1), (0, .ref (ad 0 23 0)), (1, vI x1), (3, vI x3)]) X.x X.b dX8_isCorner_47 rfl hl (by decide) rfl (fun ls hl => ?_)
          refine lv_iinc (v := Int32.ofInt (x3 + 1)) (lv' := [(3, vI (x3 + 1)), (2, vI 1), (0, .ref (ad 0 23 0)), (1, vI x1)]) X.x X.b dX8_isCorner_48 hl (k := 3) rfl (Int32.ofInt_add _ _).symm (by decide) rfl (fun ls hl => ?_)
          refine lv_goto (tgt := 4) X.x X.b dX8_isCorner_51 (by decide) ?_
          exact ih x1 1 (x3 + 1) σ _ _ _ hq w (lv_sub hl [2, 3, 1, 0] rfl)
        · have hq := hq.2 c11
          refine lv_aload_n X.x X.b dX8_isCorner_29 rfl (lv_at hl 0 rfl) ?_
          refine x_get X w (hM 23 (by decide)) rfl in_X8 rfl 20 (by decide) q691 rfl rfl dX8_isCorner_30 ?_
          refine lv_iload_n X.x X.b dX8_isCorner_33 rfl (lv_at hl 3 rfl) ?_
          refine x_iald X w (hM 37 (by decide)) rfl (by decide) o7.1 o7.2 dX8_isCorner_34 ?_
          refine ra_bipush X.x X.b dX8_isCorner_35 rfl ?_
          obtain ⟨o12, hq⟩ := hq
          refine ra_irem X.x X.b o12 ⟨by decide, by decide⟩ (by decide) dX8_isCorner_37 ?_
          refine lv_iload_n X.x X.b dX8_isCorner_38 rfl (lv_at hl 1 rfl) ?_
          obtain ⟨o13, hq⟩ := hq
          refine ra_icmp_ne (tgt := 46) X.x X.b o13 o10 dX8_isCorner_39 (by decide) (fun c14 => ?_) (fun c14 => ?_)
          · have hq := hq.1 c14
            refine ra_iconst X.x X.b dX8_isCorner_46 ?_
            refine lv_istore_n (lv' := [(2, vI 0), (0, .ref (ad 0 23 0)), (1, vI x1), (3, vI x3)]) X.x X.b dX8_isCorner_47 rfl hl (by decide) rfl (fun ls hl => ?_)
            refine lv_iinc (v := Int32.ofInt (x3 + 1)) (lv' := [(3, vI (x3 + 1)), (2, vI 0), (0, .ref (ad 0 23 0)), (1, vI x1)]) X.x X.b dX8_isCorner_48 hl (k := 3) rfl (Int32.ofInt_add _ _).symm (by decide) rfl (fun ls hl => ?_)
            refine lv_goto (tgt := 4) X.x X.b dX8_isCorner_51 (by decide) ?_
            exact ih x1 0 (x3 + 1) σ _ _ _ hq w (lv_sub hl [2, 3, 1, 0] rfl)
          · have hq := hq.2 c14
            refine ra_iconst X.x X.b dX8_isCorner_42 ?_
            refine lv_goto (tgt := 47) X.x X.b dX8_isCorner_43 (by decide) ?_
            refine lv_istore_n (lv' := [(2, vI 1), (0, .ref (ad 0 23 0)), (1, vI x1), (3, vI x3)]) X.x X.b dX8_isCorner_47 rfl hl (by decide) rfl (fun ls hl => ?_)
            refine lv_iinc (v := Int32.ofInt (x3 + 1)) (lv' := [(3, vI (x3 + 1)), (2, vI 1), (0, .ref (ad 0 23 0)), (1, vI x1)]) X.x X.b dX8_isCorner_48 hl (k := 3) rfl (Int32.ofInt_add _ _).symm (by decide) rfl (fun ls hl => ?_)
            refine lv_goto (tgt := 4) X.x X.b dX8_isCorner_51 (by decide) ?_
            exact ih x1 1 (x3 + 1) σ _ _ _ hq w (lv_sub hl [2, 3, 1, 0] rfl)
set_option maxHeartbeats 4000000 in
set_option maxRecDepth 100000 in
theorem mX8_isCorner (l : Launch) (D : va_G) (ids : Ids) (ad : Lay) (cA : Nat → ClassId) (A : Nat → Prop) (hM : HasM ids) (x1 : Int) (σ : Tab) (P : Int → Tab → Prop) (hq : wpX8_isCorner x1 σ P) : Met l yX8_isCorner (ws_ yX8_isCorner cX8_isCorner 4 (some .boolean)) rmX8_isCorner (PcW D ids ad cA A σ [.ref (ad 0 23 0), vI x1]) (QI D ids ad cA A P) 0 0 A := by
  refine m_entry (own := RX8) (by decide) (Nat.le_of_ble_eq_true rfl) rfl ?_
  intro p e s m below meth c ls X hr w hl
  have hl : lv_has ls 4 [(0, .ref (ad 0 23 0)), (1, vI x1)] := hl
  unfold wpX8_isCorner at hq
  refine ra_iconst X.x X.b dX8_isCorner_0 ?_
  refine lv_istore_n (lv' := [(2, vI 0), (0, .ref (ad 0 23 0)), (1, vI x1)]) X.x X.b dX8_isCorner_1 rfl hl (by decide) rfl (fun ls hl => ?_)
  refine ra_iconst X.x X.b dX8_isCorner_2 ?_
  refine lv_istore_n (lv' := [(3, vI 0), (2, vI 0), (0, .ref (ad 0 23 0)), (1, vI x1)]) X.x X.b dX8_isCorner_3 rfl hl (by decide) rfl (fun ls hl => ?_)
  obtain ⟨n1, hq⟩ := hq
  exact klX8_isCorner_4 X hr hM  n1 x1 0 0 σ _ _ _ hq w (lv_sub hl [2, 3, 1, 0] rfl)
def wlX8_support_54  (P : Int → Tab → Prop) : Nat → Int → Int → Int → Int → Int → Int → Tab → Prop
  | 0, _, _, _, _, _, _, _ => False
  | n + 1, x1, x2, x3, x4, x5, x7, σ => (inI x7 ∧ (inI (σ 0 23 0 7) ∧ ((σ 0 23 0 7 ≤ x7 → P x4 σ) ∧ (¬ (σ 0 23 0 7 ≤ x7) → (inI x1 ∧ ((0 ≤ x7 ∧ x7 < 24) ∧ (inI x2 ∧ (inI x3 ∧ (∀ y8 : Int, y8 = ((x1 * (σ 0 27 0 x7.toNat)) + (x2 * (σ 0 28 0 x7.toNat))) + (x3 * (σ 0 29 0 x7.toNat)) → wpX8_isCorner x7 σ (fun z9 σ9 => (inI z9 ∧ ((z9 = 0 → wlX8_support_54 P n x1 x2 x3 x4 x5 (x7 + 1) σ9) ∧ (¬ (z9 = 0) → (inI x4 ∧ ((x4 < 0 → wlX8_support_54 P n x1 x2 x3 x7 y8 (x7 + 1) σ9) ∧ (¬ (x4 < 0) → (inL y8 ∧ (inL x5 ∧ ((y8 ≤ x5 → wlX8_support_54 P n x1 x2 x3 x4 x5 (x7 + 1) σ9) ∧ (¬ (y8 ≤ x5) → wlX8_support_54 P n x1 x2 x3 x7 y8 (x7 + 1) σ9))))))))))))))))))))
def wlX8_support_37  (P : Int → Tab → Prop) (x1 : Int) (x2 : Int) (x3 : Int) (y1 : Int) (y2 : Int) (σ : Tab) : Prop := wpX8_goes y1 y2 σ (fun z1 σ1 => (inI z1 ∧ ((z1 ≠ 0 → (∃ k : Nat, wlX8_support_54 P k x1 x2 x3 (-1) 0 0 σ1)) ∧ (¬ (z1 ≠ 0) → P 0 σ1))))
def wpX8_support (x1 : Int) (x2 : Int) (x3 : Int) (σ : Tab) (P : Int → Tab → Prop) : Prop := wpX8_within x1 65536 σ (fun z1 σ1 => (inI z1 ∧ ((z1 = 0 → wlX8_support_37 P x1 x2 x3 (σ 0 23 0 5) 0 σ1) ∧ (¬ (z1 = 0) → wpX8_within x2 65536 σ1 (fun z4 σ4 => (inI z4 ∧ ((z4 = 0 → wlX8_support_37 P x1 x2 x3 (σ 0 23 0 5) 0 σ4) ∧ (¬ (z4 = 0) → wpX8_within x3 65536 σ4 (fun z7 σ7 => (inI z7 ∧ ((z7 = 0 → wlX8_support_37 P x1 x2 x3 (σ 0 23 0 5) 0 σ7) ∧ (¬ (z7 = 0) → wlX8_support_37 P x1 x2 x3 (σ 0 23 0 5) 1 σ7))))))))))))
abbrev rmX8_support : Room := { frames := 1, cells := 0, slots := 0, locals := 23 }
set_option maxHeartbeats 4000000 in
set_option maxRecDepth 100000 in
theorem klX8_support_54 {l : Launch} {p : Program} {e : Env} {s : State} {m : MethodId} {args : Array Value} {below : List Frame} {meth : Method} {c : Code} {D : va_G} {ids : Ids} {ad : Lay} {cA : Nat → ClassId} {A : Nat → Prop}  {P : Int → Tab → Prop} (X : Cx p m c meth cX8_support 10 s args RX8 D cA A nwW) (hr : meth.sig.returnType = some .int) (hM : HasM ids) :
    ∀ (n : Nat) (x1 : Int) (x2 : Int) (x3 : Int) (x4 : Int) (x5 : Int) (x7 : Int) (σ : Tab) (H : Heap) (locs : List Loc) (ls : Array Slot), wlX8_support_54 P n x1 x2 x3 x4 x5 x7 σ → ww D ids ad cA A σ s.heap H locs → lv_has ls 10 [(0, .ref (ad 0 23 0)), (1, vI x1), (2, vI x2), (3, vI x3), (4, vI x4), (5, vL x5), (7, vI x7)] → W p l e rmX8_support s m args below meth c H locs 0 0 (MQ below (QI D ids ad cA A P) args s 0 0 A) (F0 m 54 ls []) := by
  intro n
  induction n with
  | zero => intro x1 x2 x3 x4 x5 x7 σ H locs ls hq w hl; exact hq.elim
  | succ n ih =>
    intro x1 x2 x3 x4 x5 x7 σ H locs ls hq w hl
    unfold wlX8_support_54 at hq
    refine lv_iload X.x X.b dX8_support_54 (lv_at hl 6 rfl) ?_
    refine lv_aload_n X.x X.b dX8_support_56 rfl (lv_at hl 0 rfl) ?_
    refine x_get X w (hM 23 (by decide)) rfl in_X8 rfl 7 (by decide) q678 rfl rfl dX8_support_57 ?_
    obtain ⟨o1, hq⟩ := hq
    obtain ⟨o2, hq⟩ := hq
    refine ra_icmp_ge (tgt := 133) X.x X.b o1 o2 dX8_support_60 (by decide) (fun c3 => ?_) (fun c3 => ?_)
    · have hq := hq.1 c3
      refine lv_iload X.x X.b dX8_support_133 (lv_at hl 4 rfl) ?_
      exact x_iret X hr w hq dX8_support_135
    · have hq := hq.2 c3
      refine lv_iload_n X.x X.b dX8_support_63 rfl (lv_at hl 1 rfl) ?_
      obtain ⟨o4, hq⟩ := hq
      refine ra_i2l X.x X.b o4 dX8_support_64 ?_
      refine lv_aload_n X.x X.b dX8_support_65 rfl (lv_at hl 0 rfl) ?_
      refine x_get X w (hM 23 (by decide)) rfl in_X8 rfl 8 (by decide) q679 rfl rfl dX8_support_66 ?_
      refine lv_iload X.x X.b dX8_support_69 (lv_at hl 6 rfl) ?_
      obtain ⟨o5, hq⟩ := hq
      refine x_lald X w (hM 27 (by decide)) rfl (by decide) o5.1 o5.2 dX8_support_71 ?_
      refine ra_lmul X.x X.b dX8_support_72 ?_
      refine lv_iload_n X.x X.b dX8_support_73 rfl (lv_at hl 2 rfl) ?_
      obtain ⟨o6, hq⟩ := hq
      refine ra_i2l X.x X.b o6 dX8_support_74 ?_
      refine lv_aload_n X.x X.b dX8_support_75 rfl (lv_at hl 0 rfl) ?_
      refine x_get X w (hM 23 (by decide)) rfl in_X8 rfl 9 (by decide) q680 rfl rfl dX8_support_76 ?_
      refine lv_iload X.x X.b dX8_support_79 (lv_at hl 6 rfl) ?_
      refine x_lald X w (hM 28 (by decide)) rfl (by decide) o5.1 o5.2 dX8_support_81 ?_
      refine ra_lmul X.x X.b dX8_support_82 ?_
      refine ra_ladd X.x X.b dX8_support_83 ?_
      refine lv_iload_n X.x X.b dX8_support_84 rfl (lv_at hl 3 rfl) ?_
      obtain ⟨o7, hq⟩ := hq
      refine ra_i2l X.x X.b o7 dX8_support_85 ?_
      refine lv_aload_n X.x X.b dX8_support_86 rfl (lv_at hl 0 rfl) ?_
      refine x_get X w (hM 23 (by decide)) rfl in_X8 rfl 10 (by decide) q681 rfl rfl dX8_support_87 ?_
      refine lv_iload X.x X.b dX8_support_90 (lv_at hl 6 rfl) ?_
      refine x_lald X w (hM 29 (by decide)) rfl (by decide) o5.1 o5.2 dX8_support_92 ?_
      refine ra_lmul X.x X.b dX8_support_93 ?_
      refine ra_ladd X.x X.b dX8_support_94 ?_
      refine ra_nmL (fun y8 ey8 => ?_)
      have hq := hq y8 ey8
      refine lv_lstore (lv' := [(8, vL y8), (0, .ref (ad 0 23 0)), (1, vI x1), (2, vI x2), (3, vI x3), (4, vI x4), (5, vL x5), (7, vI x7)]) X.x X.b dX8_support_95 hl (by decide) rfl (fun ls hl => ?_)
      refine lv_aload_n X.x X.b dX8_support_97 rfl (lv_at hl 1 rfl) ?_
      refine lv_iload X.x X.b dX8_support_98 (lv_at hl 7 rfl) ?_
      refine x_callVi (n := 1) (As := [vI x7]) (rest := []) X w (hM 23 (by decide)) rfl rfl (mX8_isCorner l D ids ad cA A hM x7 σ _ hq) (lw_V q874 q876 qs33 q43 q877) ⟨rfl, rfl⟩ (by decide +kernel) ⟨Nat.le_of_ble_eq_true rfl, Nat.le_of_ble_eq_true rfl⟩ ⟨Nat.le_refl _, Nat.le_refl _⟩ rfl hl.1 rfl (Nat.le_of_ble_eq_true rfl) dX8_support_100 (fun z9 σ9 H locs hq w => ?_)
      obtain ⟨o10, hq⟩ := hq
      refine ra_if_eq (tgt := 127) X.x X.b o10 dX8_support_103 (by decide) (fun c11 => ?_) (fun c11 => ?_)
      · have hq := hq.1 c11
        refine lv_iinc (v := Int32.ofInt (x7 + 1)) (lv' := [(7, vI (x7 + 1)), (8, vL y8), (0, .ref (ad 0 23 0)), (1, vI x1), (2, vI x2), (3, vI x3), (4, vI x4), (5, vL x5)]) X.x X.b dX8_support_127 hl (k := 7) rfl (Int32.ofInt_add _ _).symm (by decide) rfl (fun ls hl => ?_)
        refine lv_goto (tgt := 54) X.x X.b dX8_support_130 (by decide) ?_
        exact ih x1 x2 x3 x4 x5 (x7 + 1) σ9 _ _ _ hq w (lv_sub hl [2, 3, 4, 5, 6, 7, 0] rfl)
      · have hq := hq.2 c11
        refine lv_iload X.x X.b dX8_support_106 (lv_at hl 5 rfl) ?_
        obtain ⟨o12, hq⟩ := hq
        refine ra_if_lt (tgt := 119) X.x X.b o12 dX8_support_108 (by decide) (fun c13 => ?_) (fun c13 => ?_)
        · have hq := hq.1 c13
          refine lv_iload X.x X.b dX8_support_119 (lv_at hl 7 rfl) ?_
          refine lv_istore (lv' := [(4, vI x7), (8, vL y8), (0, .ref (ad 0 23 0)), (1, vI x1), (2, vI x2), (3, vI x3), (5, vL x5), (7, vI x7)]) X.x X.b dX8_support_121 hl (by decide) rfl (fun ls hl => ?_)
          refine lv_lload X.x X.b dX8_support_123 (lv_at hl 1 rfl) ?_
          refine lv_lstore (lv' := [(5, vL y8), (4, vI x7), (8, vL y8), (0, .ref (ad 0 23 0)), (1, vI x1), (2, vI x2), (3, vI x3), (7, vI x7)]) X.x X.b dX8_support_125 hl (by decide) rfl (fun ls hl => ?_)
          refine lv_iinc (v := Int32.ofInt (x7 + 1)) (lv' := [(7, vI (x7 + 1)), (5, vL y8), (4, vI x7), (8, vL y8), (0, .ref (ad 0 23 0)), (1, vI x1), (2, vI x2), (3, vI x3)]) X.x X.b dX8_support_127 hl (k := 7) rfl (Int32.ofInt_add _ _).symm (by decide) rfl (fun ls hl => ?_)
          refine lv_goto (tgt := 54) X.x X.b dX8_support_130 (by decide) ?_
          exact ih x1 x2 x3 x7 y8 (x7 + 1) σ9 _ _ _ hq w (lv_sub hl [4, 5, 6, 7, 2, 1, 0] rfl)
        · have hq := hq.2 c13
          refine lv_lload X.x X.b dX8_support_111 (lv_at hl 0 rfl) ?_
          refine lv_lload X.x X.b dX8_support_113 (lv_at hl 6 rfl) ?_
          obtain ⟨o14, hq⟩ := hq
          obtain ⟨o15, hq⟩ := hq
          refine ra_lcmp_le (tgt := 127) X.x X.b o14 o15 dX8_support_115 dX8_support_116 (by decide) (fun c16 => ?_) (fun c16 => ?_)
          · have hq := hq.1 c16
            refine lv_iinc (v := Int32.ofInt (x7 + 1)) (lv' := [(7, vI (x7 + 1)), (8, vL y8), (0, .ref (ad 0 23 0)), (1, vI x1), (2, vI x2), (3, vI x3), (4, vI x4), (5, vL x5)]) X.x X.b dX8_support_127 hl (k := 7) rfl (Int32.ofInt_add _ _).symm (by decide) rfl (fun ls hl => ?_)
            refine lv_goto (tgt := 54) X.x X.b dX8_support_130 (by decide) ?_
            exact ih x1 x2 x3 x4 x5 (x7 + 1) σ9 _ _ _ hq w (lv_sub hl [2, 3, 4, 5, 6, 7, 0] rfl)
          · have hq := hq.2 c16
            refine lv_iload X.x X.b dX8_support_119 (lv_at hl 7 rfl) ?_
            refine lv_istore (lv' := [(4, vI x7), (8, vL y8), (0, .ref (ad 0 23 0)), (1, vI x1), (2, vI x2), (3, vI x3), (5, vL x5), (7, vI x7)]) X.x X.b dX8_support_121 hl (by decide) rfl (fun ls hl => ?_)
            refine lv_lload X.x X.b dX8_support_123 (lv_at hl 1 rfl) ?_
            refine lv_lstore (lv' := [(5, vL y8), (4, vI x7), (8, vL y8), (0, .ref (ad 0 23 0)), (1, vI x1), (2, vI x2), (3, vI x3), (7, vI x7)]) X.x X.b dX8_support_125 hl (by decide) rfl (fun ls hl => ?_)
            refine lv_iinc (v := Int32.ofInt (x7 + 1)) (lv' := [(7, vI (x7 + 1)), (5, vL y8), (4, vI x7), (8, vL y8), (0, .ref (ad 0 23 0)), (1, vI x1), (2, vI x2), (3, vI x3)]) X.x X.b dX8_support_127 hl (k := 7) rfl (Int32.ofInt_add _ _).symm (by decide) rfl (fun ls hl => ?_)
            refine lv_goto (tgt := 54) X.x X.b dX8_support_130 (by decide) ?_
            exact ih x1 x2 x3 x7 y8 (x7 + 1) σ9 _ _ _ hq w (lv_sub hl [4, 5, 6, 7, 2, 1, 0] rfl)
set_option maxHeartbeats 4000000 in
set_option maxRecDepth 100000 in
theorem klX8_support_37 {l : Launch} {p : Program} {e : Env} {s : State} {m : MethodId} {args : Array Value} {below : List Frame} {meth : Method} {c : Code} {D : va_G} {ids : Ids} {ad : Lay} {cA : Nat → ClassId} {A : Nat → Prop}  {P : Int → Tab → Prop} (X : Cx p m c meth cX8_support 10 s args RX8 D cA A nwW) (hr : meth.sig.returnType = some .int) (hM : HasM ids) :
    ∀ (x1 : Int) (x2 : Int) (x3 : Int) (y1 : Int) (y2 : Int) (σ : Tab) (H : Heap) (locs : List Loc) (ls : Array Slot), wlX8_support_37 P x1 x2 x3 y1 y2 σ → ww D ids ad cA A σ s.heap H locs → lv_has ls 10 [(0, .ref (ad 0 23 0)), (1, vI x1), (2, vI x2), (3, vI x3)] → W p l e rmX8_support s m args below meth c H locs 0 0 (MQ below (QI D ids ad cA A P) args s 0 0 A) (F0 m 37 ls [vI y2, vI y1, .ref (ad 0 23 0)]) := by
  intro x1 x2 x3 y1 y2 σ H locs ls hq w hl
  unfold wlX8_support_37 at hq
  refine x_callVi (n := 2) (As := [vI y1, vI y2]) (rest := []) X w (hM 23 (by decide)) rfl rfl (mX8_goes l D ids ad cA A hM y1 y2 σ _ hq) (lw_V q769 q771 qs16 q43 q772) ⟨rfl, rfl⟩ (by decide +kernel) ⟨Nat.le_of_ble_eq_true rfl, Nat.le_of_ble_eq_true rfl⟩ ⟨Nat.le_refl _, Nat.le_refl _⟩ rfl hl.1 rfl (Nat.le_of_ble_eq_true rfl) dX8_support_37 (fun z1 σ1 H locs hq w => ?_)
  obtain ⟨o2, hq⟩ := hq
  refine ra_if_ne (tgt := 45) X.x X.b o2 dX8_support_40 (by decide) (fun c3 => ?_) (fun c3 => ?_)
  · have hq := hq.1 c3
    refine ra_iconst X.x X.b dX8_support_45 ?_
    refine lv_istore (lv' := [(4, vI (-1)), (0, .ref (ad 0 23 0)), (1, vI x1), (2, vI x2), (3, vI x3)]) X.x X.b dX8_support_46 hl (by decide) rfl (fun ls hl => ?_)
    refine ra_lconst (z := 0) X.x X.b dX8_support_48 rfl ?_
    refine lv_lstore (lv' := [(5, vL 0), (4, vI (-1)), (0, .ref (ad 0 23 0)), (1, vI x1), (2, vI x2), (3, vI x3)]) X.x X.b dX8_support_49 hl (by decide) rfl (fun ls hl => ?_)
    refine ra_iconst X.x X.b dX8_support_51 ?_
    refine lv_istore (lv' := [(7, vI 0), (5, vL 0), (4, vI (-1)), (0, .ref (ad 0 23 0)), (1, vI x1), (2, vI x2), (3, vI x3)]) X.x X.b dX8_support_52 hl (by decide) rfl (fun ls hl => ?_)
    obtain ⟨n4, hq⟩ := hq
    exact klX8_support_54 X hr hM  n4 x1 x2 x3 (-1) 0 0 σ1 _ _ _ hq w (lv_sub hl [3, 4, 5, 6, 2, 1, 0] rfl)
  · have hq := hq.2 c3
    refine ra_iconst X.x X.b dX8_support_43 ?_
    exact x_iret X hr w hq dX8_support_44
set_option maxHeartbeats 4000000 in
set_option maxRecDepth 100000 in
theorem mX8_support (l : Launch) (D : va_G) (ids : Ids) (ad : Lay) (cA : Nat → ClassId) (A : Nat → Prop) (hM : HasM ids) (x1 : Int) (x2 : Int) (x3 : Int) (σ : Tab) (P : Int → Tab → Prop) (hq : wpX8_support x1 x2 x3 σ P) : Met l yX8_support (ws_ yX8_support cX8_support 10 (some .int)) rmX8_support (PcW D ids ad cA A σ [.ref (ad 0 23 0), vI x1, vI x2, vI x3]) (QI D ids ad cA A P) 0 0 A := by
  refine m_entry (own := RX8) (by decide) (Nat.le_of_ble_eq_true rfl) rfl ?_
  intro p e s m below meth c ls X hr w hl
  have hl : lv_has ls 10 [(0, .ref (ad 0 23 0)), (1, vI x1), (2, vI x2), (3, vI x3)] := hl
  unfold wpX8_support at hq
  refine lv_aload_n X.x X.b dX8_support_0 rfl (lv_at hl 0 rfl) ?_
  refine lv_aload_n X.x X.b dX8_support_1 rfl (lv_at hl 0 rfl) ?_
  refine x_get X w (hM 23 (by decide)) rfl in_X8 rfl 5 (by decide) q676 rfl rfl dX8_support_2 ?_
  refine lv_iload_n X.x X.b dX8_support_5 rfl (lv_at hl 1 rfl) ?_
  refine ra_ldcZ (z := 65536) X.x X.b X.o (X.t _ q873) (by decide) dX8_support_6 ?_
  refine x_callSi (n := 2) (As := [vI x1, vI 65536]) (rest := [vI (σ 0 23 0 5), .ref (ad 0 23 0)]) X w (mX8_within l D ids ad cA A x1 65536 σ _ hq) (lw_S q762 q763 q43 q764) ⟨rfl, rfl⟩ (by decide +kernel) ⟨Nat.le_of_ble_eq_true rfl, Nat.le_of_ble_eq_true rfl⟩ ⟨Nat.le_refl _, Nat.le_refl _⟩ rfl hl.1 rfl (Nat.le_of_ble_eq_true rfl) dX8_support_8 (fun z1 σ1 H locs hq w => ?_)
  obtain ⟨o2, hq⟩ := hq
  refine ra_if_eq (tgt := 36) X.x X.b o2 dX8_support_11 (by decide) (fun c3 => ?_) (fun c3 => ?_)
  · have hq := hq.1 c3
    refine ra_iconst X.x X.b dX8_support_36 ?_
    exact klX8_support_37 X hr hM  x1 x2 x3 (σ 0 23 0 5) 0 σ1 _ _ _ hq w (lv_sub hl [0, 1, 2, 3] rfl)
  · have hq := hq.2 c3
    refine lv_iload_n X.x X.b dX8_support_14 rfl (lv_at hl 2 rfl) ?_
    refine ra_ldcZ (z := 65536) X.x X.b X.o (X.t _ q873) (by decide) dX8_support_15 ?_
    refine x_callSi (n := 2) (As := [vI x2, vI 65536]) (rest := [vI (σ 0 23 0 5), .ref (ad 0 23 0)]) X w (mX8_within l D ids ad cA A x2 65536 σ1 _ hq) (lw_S q762 q763 q43 q764) ⟨rfl, rfl⟩ (by decide +kernel) ⟨Nat.le_of_ble_eq_true rfl, Nat.le_of_ble_eq_true rfl⟩ ⟨Nat.le_refl _, Nat.le_refl _⟩ rfl hl.1 rfl (Nat.le_of_ble_eq_true rfl) dX8_support_17 (fun z4 σ4 H locs hq w => ?_)
    obtain ⟨o5, hq⟩ := hq
    refine ra_if_eq (tgt := 36) X.x X.b o5 dX8_support_20 (by decide) (fun c6 => ?_) (fun c6 => ?_)
    · have hq := hq.1 c6
      refine ra_iconst X.x X.b dX8_support_36 ?_
      exact klX8_support_37 X hr hM  x1 x2 x3 (σ 0 23 0 5) 0 σ4 _ _ _ hq w (lv_sub hl [0, 1, 2, 3] rfl)
    · have hq := hq.2 c6
      refine lv_iload_n X.x X.b dX8_support_23 rfl (lv_at hl 3 rfl) ?_
      refine ra_ldcZ (z := 65536) X.x X.b X.o (X.t _ q873) (by decide) dX8_support_24 ?_
      refine x_callSi (n := 2) (As := [vI x3, vI 65536]) (rest := [vI (σ 0 23 0 5), .ref (ad 0 23 0)]) X w (mX8_within l D ids ad cA A x3 65536 σ4 _ hq) (lw_S q762 q763 q43 q764) ⟨rfl, rfl⟩ (by decide +kernel) ⟨Nat.le_of_ble_eq_true rfl, Nat.le_of_ble_eq_true rfl⟩ ⟨Nat.le_refl _, Nat.le_refl _⟩ rfl hl.1 rfl (Nat.le_of_ble_eq_true rfl) dX8_support_26 (fun z7 σ7 H locs hq w => ?_)
      obtain ⟨o8, hq⟩ := hq
      refine ra_if_eq (tgt := 36) X.x X.b o8 dX8_support_29 (by decide) (fun c9 => ?_) (fun c9 => ?_)
      · have hq := hq.1 c9
        refine ra_iconst X.x X.b dX8_support_36 ?_
        exact klX8_support_37 X hr hM  x1 x2 x3 (σ 0 23 0 5) 0 σ7 _ _ _ hq w (lv_sub hl [0, 1, 2, 3] rfl)
      · have hq := hq.2 c9
        refine ra_iconst X.x X.b dX8_support_32 ?_
        refine lv_goto (tgt := 37) X.x X.b dX8_support_33 (by decide) ?_
        exact klX8_support_37 X hr hM  x1 x2 x3 (σ 0 23 0 5) 1 σ7 _ _ _ hq w (lv_sub hl [0, 1, 2, 3] rfl)
def wlX8_steps_196  (P : Int → Tab → Prop) (K107 : Int → Int → Tab → Prop) (K119 : Int → Int → Int → Tab → Prop) (x2 : Int) (x4 : Int) (x5 : Int) (x6 : Int) (x7 : Int) (y1 : Int) (y2 : Int) (σ : Tab) : Prop := ((0 ≤ y1 ∧ y1 < 24) ∧ (∀ σ2 : Tab, σ2 = st σ 0 40 0 y1.toNat y2 → ((0 ≤ x6 ∧ x6 < 24) ∧ ((0 ≤ x7 ∧ x7 < 24) ∧ (inI ((σ2 0 40 0 x6.toNat) + 1) ∧ (inI (σ2 0 40 0 x7.toNat) ∧ ((σ2 0 40 0 x7.toNat ≤ (σ2 0 40 0 x6.toNat) + 1 → (∀ σ8 : Tab, σ8 = st σ2 0 40 0 x7.toNat (σ2 0 40 0 x7.toNat) → K119 x2 x4 (x5 + 1) σ8)) ∧ (¬ (σ2 0 40 0 x7.toNat ≤ (σ2 0 40 0 x6.toNat) + 1) → (∀ σ9 : Tab, σ9 = st σ2 0 40 0 x7.toNat ((σ2 0 40 0 x6.toNat) + 1) → K119 x2 x4 (x5 + 1) σ9)))))))))
def wlX8_steps_119  (P : Int → Tab → Prop) (K107 : Int → Int → Tab → Prop) : Nat → Int → Int → Int → Tab → Prop
  | 0, _, _, _, _ => False
  | n + 1, x2, x4, x5, σ => (inI x5 ∧ (inI (σ 0 23 0 19) ∧ ((σ 0 23 0 19 ≤ x5 → K107 x2 (x4 + 1) σ) ∧ (¬ (σ 0 23 0 19 ≤ x5) → ((0 ≤ x5 ∧ x5 < 128) ∧ (inI (σ 0 37 0 x5.toNat) ∧ (∀ y6 : Int, y6 = (σ 0 37 0 x5.toNat).tdiv 32 → (inI (σ 0 37 0 x5.toNat) ∧ (∀ y8 : Int, y8 = (σ 0 37 0 x5.toNat).tmod 32 → ((0 ≤ y8 ∧ y8 < 24) ∧ ((0 ≤ y6 ∧ y6 < 24) ∧ (inI ((σ 0 40 0 y8.toNat) + 1) ∧ (inI (σ 0 40 0 y6.toNat) ∧ ((σ 0 40 0 y6.toNat ≤ (σ 0 40 0 y8.toNat) + 1 → wlX8_steps_196 P K107 (fun x2 x4 x5 τ => wlX8_steps_119 P K107 n x2 x4 x5 τ) x2 x4 x5 y6 y8 y6 (σ 0 40 0 y6.toNat) σ) ∧ (¬ (σ 0 40 0 y6.toNat ≤ (σ 0 40 0 y8.toNat) + 1) → wlX8_steps_196 P K107 (fun x2 x4 x5 τ => wlX8_steps_119 P K107 n x2 x4 x5 τ) x2 x4 x5 y6 y8 y6 ((σ 0 40 0 y8.toNat) + 1) σ)))))))))))))))
def wlX8_steps_107  (P : Int → Tab → Prop) : Nat → Int → Int → Tab → Prop
  | 0, _, _, _ => False
  | n + 1, x2, x4, σ => (inI x4 ∧ (inI (σ 0 23 0 7) ∧ ((σ 0 23 0 7 ≤ x4 → ((0 ≤ x2 ∧ x2 < 24) ∧ P (σ 0 40 0 x2.toNat) σ)) ∧ (¬ (σ 0 23 0 7 ≤ x4) → (∃ k : Nat, wlX8_steps_119 P (fun x2 x4 τ => wlX8_steps_107 P n x2 x4 τ) k x2 x4 0 σ)))))
def wlX8_steps_70  (P : Int → Tab → Prop) : Nat → Int → Int → Int → Tab → Prop
  | 0, _, _, _, _ => False
  | n + 1, x1, x2, x4, σ => (inI x4 ∧ (inI (σ 0 23 0 7) ∧ ((σ 0 23 0 7 ≤ x4 → (∃ k : Nat, wlX8_steps_107 P k x2 0 σ)) ∧ (¬ (σ 0 23 0 7 ≤ x4) → (inI x1 ∧ ((x4 ≠ x1 → ((0 ≤ x4 ∧ x4 < 24) ∧ (∀ σ8 : Tab, σ8 = st σ 0 40 0 x4.toNat 99 → wlX8_steps_70 P n x1 x2 (x4 + 1) σ8))) ∧ (¬ (x4 ≠ x1) → ((0 ≤ x4 ∧ x4 < 24) ∧ (∀ σ10 : Tab, σ10 = st σ 0 40 0 x4.toNat 0 → wlX8_steps_70 P n x1 x2 (x4 + 1) σ10)))))))))
def wlX8_steps_52  (P : Int → Tab → Prop) (x1 : Int) (x2 : Int) (y0 : Int) (σ : Tab) : Prop := wpX8_goes (σ 0 23 0 5) y0 σ (fun z1 σ1 => (inI z1 ∧ ((z1 ≠ 0 → (∃ k : Nat, wlX8_steps_70 P k x1 x2 0 σ1)) ∧ (¬ (z1 ≠ 0) → P 0 σ1))))
def wpX8_steps (x1 : Int) (x2 : Int) (σ : Tab) (P : Int → Tab → Prop) : Prop := (inI (σ 0 23 0 5) ∧ ((σ 0 23 0 5 = 0 → wlX8_steps_52 P x1 x2 0 σ) ∧ (¬ (σ 0 23 0 5 = 0) → (inI x1 ∧ ((x1 < 0 → wlX8_steps_52 P x1 x2 0 σ) ∧ (¬ (x1 < 0) → (inI (σ 0 23 0 7) ∧ ((σ 0 23 0 7 ≤ x1 → wlX8_steps_52 P x1 x2 0 σ) ∧ (¬ (σ 0 23 0 7 ≤ x1) → (inI x2 ∧ ((x2 < 0 → wlX8_steps_52 P x1 x2 0 σ) ∧ (¬ (x2 < 0) → ((σ 0 23 0 7 ≤ x2 → wlX8_steps_52 P x1 x2 0 σ) ∧ (¬ (σ 0 23 0 7 ≤ x2) → wpX8_isCorner x1 σ (fun z10 σ10 => (inI z10 ∧ ((z10 = 0 → wlX8_steps_52 P x1 x2 0 σ10) ∧ (¬ (z10 = 0) → wpX8_isCorner x2 σ10 (fun z13 σ13 => (inI z13 ∧ ((z13 = 0 → wlX8_steps_52 P x1 x2 0 σ13) ∧ (¬ (z13 = 0) → wlX8_steps_52 P x1 x2 1 σ13))))))))))))))))))))))
abbrev rmX8_steps : Room := { frames := 1, cells := 0, slots := 0, locals := 23 }
set_option maxHeartbeats 4000000 in
set_option maxRecDepth 100000 in
theorem klX8_steps_196 {l : Launch} {p : Program} {e : Env} {s : State} {m : MethodId} {args : Array Value} {below : List Frame} {meth : Method} {c : Code} {D : va_G} {ids : Ids} {ad : Lay} {cA : Nat → ClassId} {A : Nat → Prop}  {P : Int → Tab → Prop} {K107 : Int → Int → Tab → Prop} {K119 : Int → Int → Int → Tab → Prop} (X : Cx p m c meth cX8_steps 8 s args RX8 D cA A nwW) (hr : meth.sig.returnType = some .int) (hM : HasM ids) (kk107 : ∀ (x2 : Int) (x4 : Int) (σ : Tab) (H : Heap) (locs : List Loc) (ls : Array Slot), K107 x2 x4 σ → ww D ids ad cA A σ s.heap H locs → lv_has ls 8 [(0, .ref (ad 0 23 0)), (2, vI x2), (4, vI x4)] → W p l e rmX8_steps s m args below meth c H locs 0 0 (MQ below (QI D ids ad cA A P) args s 0 0 A) (F0 m 107 ls [])) (kk119 : ∀ (x2 : Int) (x4 : Int) (x5 : Int) (σ : Tab) (H : Heap) (locs : List Loc) (ls : Array Slot), K119 x2 x4 x5 σ → ww D ids ad cA A σ s.heap H locs → lv_has ls 8 [(0, .ref (ad 0 23 0)), (2, vI x2), (4, vI x4), (5, vI x5)] → W p l e rmX8_steps s m args below meth c H locs 0 0 (MQ below (QI D ids ad cA A P) args s 0 0 A) (F0 m 119 ls [])) :
    ∀ (x2 : Int) (x4 : Int) (x5 : Int) (x6 : Int) (x7 : Int) (y1 : Int) (y2 : Int) (σ : Tab) (H : Heap) (locs : List Loc) (ls : Array Slot), wlX8_steps_196 P K107 K119 x2 x4 x5 x6 x7 y1 y2 σ → ww D ids ad cA A σ s.heap H locs → lv_has ls 8 [(0, .ref (ad 0 23 0)), (2, vI x2), (4, vI x4), (5, vI x5), (6, vI x6), (7, vI x7)] → W p l e rmX8_steps s m args below meth c H locs 0 0 (MQ below (QI D ids ad cA A P) args s 0 0 A) (F0 m 196 ls [vI y2, vI y1, .ref (ad 0 40 0)]) := by
  intro x2 x4 x5 x6 x7 y1 y2 σ H locs ls hq w hl
  unfold wlX8_steps_196 at hq
  obtain ⟨o1, hq⟩ := hq
  refine x_iast X w (hM 40 (by decide)) (fun _ => rfl) (by decide) o1.1 o1.2 dX8_steps_196 (fun σ2 H locs eσ2 w => ?_)
  have hq := hq σ2 eσ2
  refine lv_aload_n X.x X.b dX8_steps_197 rfl (lv_at hl 0 rfl) ?_
  refine x_get X w (hM 23 (by decide)) rfl in_X8 rfl 26 (by decide) q697 rfl rfl dX8_steps_198 ?_
  refine lv_iload X.x X.b dX8_steps_201 (lv_at hl 5 rfl) ?_
  refine lv_aload_n X.x X.b dX8_steps_203 rfl (lv_at hl 0 rfl) ?_
  refine x_get X w (hM 23 (by decide)) rfl in_X8 rfl 26 (by decide) q697 rfl rfl dX8_steps_204 ?_
  refine lv_iload X.x X.b dX8_steps_207 (lv_at hl 4 rfl) ?_
  obtain ⟨o3, hq⟩ := hq
  refine x_iald X w (hM 40 (by decide)) rfl (by decide) o3.1 o3.2 dX8_steps_209 ?_
  refine ra_iconst X.x X.b dX8_steps_210 ?_
  refine ra_iadd X.x X.b dX8_steps_211 ?_
  refine lv_aload_n X.x X.b dX8_steps_212 rfl (lv_at hl 0 rfl) ?_
  refine x_get X w (hM 23 (by decide)) rfl in_X8 rfl 26 (by decide) q697 rfl rfl dX8_steps_213 ?_
  refine lv_iload X.x X.b dX8_steps_216 (lv_at hl 5 rfl) ?_
  obtain ⟨o4, hq⟩ := hq
  refine x_iald X w (hM 40 (by decide)) rfl (by decide) o4.1 o4.2 dX8_steps_218 ?_
  obtain ⟨o5, hq⟩ := hq
  obtain ⟨o6, hq⟩ := hq
  refine ra_icmp_ge (tgt := 234) X.x X.b o5 o6 dX8_steps_219 (by decide) (fun c7 => ?_) (fun c7 => ?_)
  · have hq := hq.1 c7
    refine lv_aload_n X.x X.b dX8_steps_234 rfl (lv_at hl 0 rfl) ?_
    refine x_get X w (hM 23 (by decide)) rfl in_X8 rfl 26 (by decide) q697 rfl rfl dX8_steps_235 ?_
    refine lv_iload X.x X.b dX8_steps_238 (lv_at hl 5 rfl) ?_
    refine x_iald X w (hM 40 (by decide)) rfl (by decide) o4.1 o4.2 dX8_steps_240 ?_
    refine x_iast X w (hM 40 (by decide)) (fun _ => rfl) (by decide) o4.1 o4.2 dX8_steps_241 (fun σ8 H locs eσ8 w => ?_)
    have hq := hq σ8 eσ8
    refine lv_iinc (v := Int32.ofInt (x5 + 1)) (lv' := [(5, vI (x5 + 1)), (0, .ref (ad 0 23 0)), (2, vI x2), (4, vI x4), (6, vI x6), (7, vI x7)]) X.x X.b dX8_steps_242 hl (k := 3) rfl (Int32.ofInt_add _ _).symm (by decide) rfl (fun ls hl => ?_)
    refine lv_goto (tgt := 119) X.x X.b dX8_steps_245 (by decide) ?_
    exact kk119 x2 x4 (x5 + 1) σ8 _ _ _ hq w (lv_sub hl [1, 2, 3, 0] rfl)
  · have hq := hq.2 c7
    refine lv_aload_n X.x X.b dX8_steps_222 rfl (lv_at hl 0 rfl) ?_
    refine x_get X w (hM 23 (by decide)) rfl in_X8 rfl 26 (by decide) q697 rfl rfl dX8_steps_223 ?_
    refine lv_iload X.x X.b dX8_steps_226 (lv_at hl 4 rfl) ?_
    refine x_iald X w (hM 40 (by decide)) rfl (by decide) o3.1 o3.2 dX8_steps_228 ?_
    refine ra_iconst X.x X.b dX8_steps_229 ?_
    refine ra_iadd X.x X.b dX8_steps_230 ?_
    refine lv_goto (tgt := 241) X.x X.b dX8_steps_231 (by decide) ?_
    refine x_iast X w (hM 40 (by decide)) (fun _ => rfl) (by decide) o4.1 o4.2 dX8_steps_241 (fun σ9 H locs eσ9 w => ?_)
    have hq := hq σ9 eσ9
    refine lv_iinc (v := Int32.ofInt (x5 + 1)) (lv' := [(5, vI (x5 + 1)), (0, .ref (ad 0 23 0)), (2, vI x2), (4, vI x4), (6, vI x6), (7, vI x7)]) X.x X.b dX8_steps_242 hl (k := 3) rfl (Int32.ofInt_add _ _).symm (by decide) rfl (fun ls hl => ?_)
    refine lv_goto (tgt := 119) X.x X.b dX8_steps_245 (by decide) ?_
    exact kk119 x2 x4 (x5 + 1) σ9 _ _ _ hq w (lv_sub hl [1, 2, 3, 0] rfl)
set_option maxHeartbeats 4000000 in
set_option maxRecDepth 100000 in
theorem klX8_steps_119 {l : Launch} {p : Program} {e : Env} {s : State} {m : MethodId} {args : Array Value} {below : List Frame} {meth : Method} {c : Code} {D : va_G} {ids : Ids} {ad : Lay} {cA : Nat → ClassId} {A : Nat → Prop}  {P : Int → Tab → Prop} {K107 : Int → Int → Tab → Prop} (X : Cx p m c meth cX8_steps 8 s args RX8 D cA A nwW) (hr : meth.sig.returnType = some .int) (hM : HasM ids) (kk107 : ∀ (x2 : Int) (x4 : Int) (σ : Tab) (H : Heap) (locs : List Loc) (ls : Array Slot), K107 x2 x4 σ → ww D ids ad cA A σ s.heap H locs → lv_has ls 8 [(0, .ref (ad 0 23 0)), (2, vI x2), (4, vI x4)] → W p l e rmX8_steps s m args below meth c H locs 0 0 (MQ below (QI D ids ad cA A P) args s 0 0 A) (F0 m 107 ls [])) :
    ∀ (n : Nat) (x2 : Int) (x4 : Int) (x5 : Int) (σ : Tab) (H : Heap) (locs : List Loc) (ls : Array Slot), wlX8_steps_119 P K107 n x2 x4 x5 σ → ww D ids ad cA A σ s.heap H locs → lv_has ls 8 [(0, .ref (ad 0 23 0)), (2, vI x2), (4, vI x4), (5, vI x5)] → W p l e rmX8_steps s m args below meth c H locs 0 0 (MQ below (QI D ids ad cA A P) args s 0 0 A) (F0 m 119 ls []) := by
  intro n
  induction n with
  | zero => intro x2 x4 x5 σ H locs ls hq w hl; exact hq.elim
  | succ n ih =>
    intro x2 x4 x5 σ H locs ls hq w hl
    unfold wlX8_steps_119 at hq
    refine lv_iload X.x X.b dX8_steps_119 (lv_at hl 3 rfl) ?_
    refine lv_aload_n X.x X.b dX8_steps_121 rfl (lv_at hl 0 rfl) ?_
    refine x_get X w (hM 23 (by decide)) rfl in_X8 rfl 19 (by decide) q690 rfl rfl dX8_steps_122 ?_
    obtain ⟨o1, hq⟩ := hq
    obtain ⟨o2, hq⟩ := hq
    refine ra_icmp_ge (tgt := 248) X.x X.b o1 o2 dX8_steps_125 (by decide) (fun c3 => ?_) (fun c3 => ?_)
    · have hq := hq.1 c3
      refine lv_iinc (v := Int32.ofInt (x4 + 1)) (lv' := [(4, vI (x4 + 1)), (0, .ref (ad 0 23 0)), (2, vI x2), (5, vI x5)]) X.x X.b dX8_steps_248 hl (k := 2) rfl (Int32.ofInt_add _ _).symm (by decide) rfl (fun ls hl => ?_)
      refine lv_goto (tgt := 107) X.x X.b dX8_steps_251 (by decide) ?_
      exact kk107 x2 (x4 + 1) σ _ _ _ hq w (lv_sub hl [1, 2, 0] rfl)
    · have hq := hq.2 c3
      refine lv_aload_n X.x X.b dX8_steps_128 rfl (lv_at hl 0 rfl) ?_
      refine x_get X w (hM 23 (by decide)) rfl in_X8 rfl 20 (by decide) q691 rfl rfl dX8_steps_129 ?_
      refine lv_iload X.x X.b dX8_steps_132 (lv_at hl 3 rfl) ?_
      obtain ⟨o4, hq⟩ := hq
      refine x_iald X w (hM 37 (by decide)) rfl (by decide) o4.1 o4.2 dX8_steps_134 ?_
      refine ra_bipush X.x X.b dX8_steps_135 rfl ?_
      obtain ⟨o5, hq⟩ := hq
      refine ra_idiv X.x X.b o5 ⟨by decide, by decide⟩ (by decide) dX8_steps_137 ?_
      refine ra_nmI (fun y6 ey6 => ?_)
      have hq := hq y6 ey6
      refine lv_istore (lv' := [(6, vI y6), (0, .ref (ad 0 23 0)), (2, vI x2), (4, vI x4), (5, vI x5)]) X.x X.b dX8_steps_138 hl (by decide) rfl (fun ls hl => ?_)
      refine lv_aload_n X.x X.b dX8_steps_140 rfl (lv_at hl 1 rfl) ?_
      refine x_get X w (hM 23 (by decide)) rfl in_X8 rfl 20 (by decide) q691 rfl rfl dX8_steps_141 ?_
      refine lv_iload X.x X.b dX8_steps_144 (lv_at hl 4 rfl) ?_
      refine x_iald X w (hM 37 (by decide)) rfl (by decide) o4.1 o4.2 dX8_steps_146 ?_
      refine ra_bipush X.x X.b dX8_steps_147 rfl ?_
      obtain ⟨o7, hq⟩ := hq
      refine ra_irem X.x X.b o7 ⟨by decide, by decide⟩ (by decide) dX8_steps_149 ?_
      refine ra_nmI (fun y8 ey8 => ?_)
      have hq := hq y8 ey8
      refine lv_istore (lv' := [(7, vI y8), (6, vI y6), (0, .ref (ad 0 23 0)), (2, vI x2), (4, vI x4), (5, vI x5)]) X.x X.b dX8_steps_150 hl (by decide) rfl (fun ls hl => ?_)
      refine lv_aload_n X.x X.b dX8_steps_152 rfl (lv_at hl 2 rfl) ?_
      refine x_get X w (hM 23 (by decide)) rfl in_X8 rfl 26 (by decide) q697 rfl rfl dX8_steps_153 ?_
      refine lv_iload X.x X.b dX8_steps_156 (lv_at hl 1 rfl) ?_
      refine lv_aload_n X.x X.b dX8_steps_158 rfl (lv_at hl 2 rfl) ?_
      refine x_get X w (hM 23 (by decide)) rfl in_X8 rfl 26 (by decide) q697 rfl rfl dX8_steps_159 ?_
      refine lv_iload X.x X.b dX8_steps_162 (lv_at hl 0 rfl) ?_
      obtain ⟨o9, hq⟩ := hq
      refine x_iald X w (hM 40 (by decide)) rfl (by decide) o9.1 o9.2 dX8_steps_164 ?_
      refine ra_iconst X.x X.b dX8_steps_165 ?_
      refine ra_iadd X.x X.b dX8_steps_166 ?_
      refine lv_aload_n X.x X.b dX8_steps_167 rfl (lv_at hl 2 rfl) ?_
      refine x_get X w (hM 23 (by decide)) rfl in_X8 rfl 26 (by decide) q697 rfl rfl dX8_steps_168 ?_
      refine lv_iload X.x X.b dX8_steps_171 (lv_at hl 1 rfl) ?_
      obtain ⟨o10, hq⟩ := hq
      refine x_iald X w (hM 40 (by decide)) rfl (by decide) o10.1 o10.2 dX8_steps_173 ?_
      obtain ⟨o11, hq⟩ := hq
      obtain ⟨o12, hq⟩ := hq
      refine ra_icmp_ge (tgt := 189) X.x X.b o11 o12 dX8_steps_174 (by decide) (fun c13 => ?_) (fun c13 => ?_)
      · have hq := hq.1 c13
        refine lv_aload_n X.x X.b dX8_steps_189 rfl (lv_at hl 2 rfl) ?_
        refine x_get X w (hM 23 (by decide)) rfl in_X8 rfl 26 (by decide) q697 rfl rfl dX8_steps_190 ?_
        refine lv_iload X.x X.b dX8_steps_193 (lv_at hl 1 rfl) ?_
        refine x_iald X w (hM 40 (by decide)) rfl (by decide) o10.1 o10.2 dX8_steps_195 ?_
        exact klX8_steps_196 X hr hM kk107 (fun a0 a1 a2 τ H L ls q w h => ih a0 a1 a2 τ H L ls q w h) x2 x4 x5 y6 y8 y6 (σ 0 40 0 y6.toNat) σ _ _ _ hq w (lv_sub hl [2, 3, 4, 5, 1, 0] rfl)
      · have hq := hq.2 c13
        refine lv_aload_n X.x X.b dX8_steps_177 rfl (lv_at hl 2 rfl) ?_
        refine x_get X w (hM 23 (by decide)) rfl in_X8 rfl 26 (by decide) q697 rfl rfl dX8_steps_178 ?_
        refine lv_iload X.x X.b dX8_steps_181 (lv_at hl 0 rfl) ?_
        refine x_iald X w (hM 40 (by decide)) rfl (by decide) o9.1 o9.2 dX8_steps_183 ?_
        refine ra_iconst X.x X.b dX8_steps_184 ?_
        refine ra_iadd X.x X.b dX8_steps_185 ?_
        refine lv_goto (tgt := 196) X.x X.b dX8_steps_186 (by decide) ?_
        exact klX8_steps_196 X hr hM kk107 (fun a0 a1 a2 τ H L ls q w h => ih a0 a1 a2 τ H L ls q w h) x2 x4 x5 y6 y8 y6 ((σ 0 40 0 y8.toNat) + 1) σ _ _ _ hq w (lv_sub hl [2, 3, 4, 5, 1, 0] rfl)
set_option maxHeartbeats 4000000 in
set_option maxRecDepth 100000 in
theorem klX8_steps_107 {l : Launch} {p : Program} {e : Env} {s : State} {m : MethodId} {args : Array Value} {below : List Frame} {meth : Method} {c : Code} {D : va_G} {ids : Ids} {ad : Lay} {cA : Nat → ClassId} {A : Nat → Prop}  {P : Int → Tab → Prop} (X : Cx p m c meth cX8_steps 8 s args RX8 D cA A nwW) (hr : meth.sig.returnType = some .int) (hM : HasM ids) :
    ∀ (n : Nat) (x2 : Int) (x4 : Int) (σ : Tab) (H : Heap) (locs : List Loc) (ls : Array Slot), wlX8_steps_107 P n x2 x4 σ → ww D ids ad cA A σ s.heap H locs → lv_has ls 8 [(0, .ref (ad 0 23 0)), (2, vI x2), (4, vI x4)] → W p l e rmX8_steps s m args below meth c H locs 0 0 (MQ below (QI D ids ad cA A P) args s 0 0 A) (F0 m 107 ls []) := by
  intro n
  induction n with
  | zero => intro x2 x4 σ H locs ls hq w hl; exact hq.elim
  | succ n ih =>
    intro x2 x4 σ H locs ls hq w hl
    unfold wlX8_steps_107 at hq
    refine lv_iload X.x X.b dX8_steps_107 (lv_at hl 2 rfl) ?_
    refine lv_aload_n X.x X.b dX8_steps_109 rfl (lv_at hl 0 rfl) ?_
    refine x_get X w (hM 23 (by decide)) rfl in_X8 rfl 7 (by decide) q678 rfl rfl dX8_steps_110 ?_
    obtain ⟨o1, hq⟩ := hq
    obtain ⟨o2, hq⟩ := hq
    refine ra_icmp_ge (tgt := 254) X.x X.b o1 o2 dX8_steps_113 (by decide) (fun c3 => ?_) (fun c3 => ?_)
    · have hq := hq.1 c3
      refine lv_aload_n X.x X.b dX8_steps_254 rfl (lv_at hl 0 rfl) ?_
      refine x_get X w (hM 23 (by decide)) rfl in_X8 rfl 26 (by decide) q697 rfl rfl dX8_steps_255 ?_
      refine lv_iload_n X.x X.b dX8_steps_258 rfl (lv_at hl 1 rfl) ?_
      obtain ⟨o4, hq⟩ := hq
      refine x_iald X w (hM 40 (by decide)) rfl (by decide) o4.1 o4.2 dX8_steps_259 ?_
      exact x_iret X hr w hq dX8_steps_260
    · have hq := hq.2 c3
      refine ra_iconst X.x X.b dX8_steps_116 ?_
      refine lv_istore (lv' := [(5, vI 0), (0, .ref (ad 0 23 0)), (2, vI x2), (4, vI x4)]) X.x X.b dX8_steps_117 hl (by decide) rfl (fun ls hl => ?_)
      obtain ⟨n5, hq⟩ := hq
      exact klX8_steps_119 X hr hM (fun a0 a1 τ H L ls q w h => ih a0 a1 τ H L ls q w h) n5 x2 x4 0 σ _ _ _ hq w (lv_sub hl [1, 2, 3, 0] rfl)
set_option maxHeartbeats 4000000 in
set_option maxRecDepth 100000 in
theorem klX8_steps_70 {l : Launch} {p : Program} {e : Env} {s : State} {m : MethodId} {args : Array Value} {below : List Frame} {meth : Method} {c : Code} {D : va_G} {ids : Ids} {ad : Lay} {cA : Nat → ClassId} {A : Nat → Prop}  {P : Int → Tab → Prop} (X : Cx p m c meth cX8_steps 8 s args RX8 D cA A nwW) (hr : meth.sig.returnType = some .int) (hM : HasM ids) :
    ∀ (n : Nat) (x1 : Int) (x2 : Int) (x4 : Int) (σ : Tab) (H : Heap) (locs : List Loc) (ls : Array Slot), wlX8_steps_70 P n x1 x2 x4 σ → ww D ids ad cA A σ s.heap H locs → lv_has ls 8 [(0, .ref (ad 0 23 0)), (1, vI x1), (2, vI x2), (4, vI x4)] → W p l e rmX8_steps s m args below meth c H locs 0 0 (MQ below (QI D ids ad cA A P) args s 0 0 A) (F0 m 70 ls []) := by
  intro n
  induction n with
  | zero => intro x1 x2 x4 σ H locs ls hq w hl; exact hq.elim
  | succ n ih =>
    intro x1 x2 x4 σ H locs ls hq w hl
    unfold wlX8_steps_70 at hq
    refine lv_iload X.x X.b dX8_steps_70 (lv_at hl 3 rfl) ?_
    refine lv_aload_n X.x X.b dX8_steps_72 rfl (lv_at hl 0 rfl) ?_
    refine x_get X w (hM 23 (by decide)) rfl in_X8 rfl 7 (by decide) q678 rfl rfl dX8_steps_73 ?_
    obtain ⟨o1, hq⟩ := hq
    obtain ⟨o2, hq⟩ := hq
    refine ra_icmp_ge (tgt := 104) X.x X.b o1 o2 dX8_steps_76 (by decide) (fun c3 => ?_) (fun c3 => ?_)
    · have hq := hq.1 c3
      refine ra_iconst X.x X.b dX8_steps_104 ?_
      refine lv_istore (lv' := [(4, vI 0), (0, .ref (ad 0 23 0)), (1, vI x1), (2, vI x2)]) X.x X.b dX8_steps_105 hl (by decide) rfl (fun ls hl => ?_)
      obtain ⟨n4, hq⟩ := hq
      exact klX8_steps_107 X hr hM  n4 x2 0 σ _ _ _ hq w (lv_sub hl [1, 3, 0] rfl)
    · have hq := hq.2 c3
      refine lv_aload_n X.x X.b dX8_steps_79 rfl (lv_at hl 0 rfl) ?_
      refine x_get X w (hM 23 (by decide)) rfl in_X8 rfl 26 (by decide) q697 rfl rfl dX8_steps_80 ?_
      refine lv_iload X.x X.b dX8_steps_83 (lv_at hl 3 rfl) ?_
      refine lv_iload X.x X.b dX8_steps_85 (lv_at hl 3 rfl) ?_
      refine lv_iload_n X.x X.b dX8_steps_87 rfl (lv_at hl 1 rfl) ?_
      obtain ⟨o5, hq⟩ := hq
      refine ra_icmp_ne (tgt := 95) X.x X.b o1 o5 dX8_steps_88 (by decide) (fun c6 => ?_) (fun c6 => ?_)
      · have hq := hq.1 c6
        refine ra_bipush X.x X.b dX8_steps_95 rfl ?_
        obtain ⟨o7, hq⟩ := hq
        refine x_iast X w (hM 40 (by decide)) (fun _ => rfl) (by decide) o7.1 o7.2 dX8_steps_97 (fun σ8 H locs eσ8 w => ?_)
        have hq := hq σ8 eσ8
        refine lv_iinc (v := Int32.ofInt (x4 + 1)) (lv' := [(4, vI (x4 + 1)), (0, .ref (ad 0 23 0)), (1, vI x1), (2, vI x2)]) X.x X.b dX8_steps_98 hl (k := 3) rfl (Int32.ofInt_add _ _).symm (by decide) rfl (fun ls hl => ?_)
        refine lv_goto (tgt := 70) X.x X.b dX8_steps_101 (by decide) ?_
        exact ih x1 x2 (x4 + 1) σ8 _ _ _ hq w (lv_sub hl [1, 2, 3, 0] rfl)
      · have hq := hq.2 c6
        refine ra_iconst X.x X.b dX8_steps_91 ?_
        refine lv_goto (tgt := 97) X.x X.b dX8_steps_92 (by decide) ?_
        obtain ⟨o9, hq⟩ := hq
        refine x_iast X w (hM 40 (by decide)) (fun _ => rfl) (by decide) o9.1 o9.2 dX8_steps_97 (fun σ10 H locs eσ10 w => ?_)
        have hq := hq σ10 eσ10
        refine lv_iinc (v := Int32.ofInt (x4 + 1)) (lv' := [(4, vI (x4 + 1)), (0, .ref (ad 0 23 0)), (1, vI x1), (2, vI x2)]) X.x X.b dX8_steps_98 hl (k := 3) rfl (Int32.ofInt_add _ _).symm (by decide) rfl (fun ls hl => ?_)
        refine lv_goto (tgt := 70) X.x X.b dX8_steps_101 (by decide) ?_
        exact ih x1 x2 (x4 + 1) σ10 _ _ _ hq w (lv_sub hl [1, 2, 3, 0] rfl)
set_option maxHeartbeats 4000000 in
set_option maxRecDepth 100000 in
theorem klX8_steps_52 {l : Launch} {p : Program} {e : Env} {s : State} {m : MethodId} {args : Array Value} {below : List Frame} {meth : Method} {c : Code} {D : va_G} {ids : Ids} {ad : Lay} {cA : Nat → ClassId} {A : Nat → Prop}  {P : Int → Tab → Prop} (X : Cx p m c meth cX8_steps 8 s args RX8 D cA A nwW) (hr : meth.sig.returnType = some .int) (hM : HasM ids) :
    ∀ (x1 : Int) (x2 : Int) (y0 : Int) (σ : Tab) (H : Heap) (locs : List Loc) (ls : Array Slot), wlX8_steps_52 P x1 x2 y0 σ → ww D ids ad cA A σ s.heap H locs → lv_has ls 8 [(0, .ref (ad 0 23 0)), (1, vI x1), (2, vI x2)] → W p l e rmX8_steps s m args below meth c H locs 0 0 (MQ below (QI D ids ad cA A P) args s 0 0 A) (F0 m 52 ls [vI y0]) := by
  intro x1 x2 y0 σ H locs ls hq w hl
  unfold wlX8_steps_52 at hq
  refine lv_istore_n (lv' := [(3, vI y0), (0, .ref (ad 0 23 0)), (1, vI x1), (2, vI x2)]) X.x X.b dX8_steps_52 rfl hl (by decide) rfl (fun ls hl => ?_)
  refine lv_aload_n X.x X.b dX8_steps_53 rfl (lv_at hl 1 rfl) ?_
  refine lv_aload_n X.x X.b dX8_steps_54 rfl (lv_at hl 1 rfl) ?_
  refine x_get X w (hM 23 (by decide)) rfl in_X8 rfl 5 (by decide) q676 rfl rfl dX8_steps_55 ?_
  refine lv_iload_n X.x X.b dX8_steps_58 rfl (lv_at hl 0 rfl) ?_
  refine x_callVi (n := 2) (As := [vI (σ 0 23 0 5), vI y0]) (rest := []) X w (hM 23 (by decide)) rfl rfl (mX8_goes l D ids ad cA A hM (σ 0 23 0 5) y0 σ _ hq) (lw_V q769 q771 qs16 q43 q772) ⟨rfl, rfl⟩ (by decide +kernel) ⟨Nat.le_of_ble_eq_true rfl, Nat.le_of_ble_eq_true rfl⟩ ⟨Nat.le_refl _, Nat.le_refl _⟩ rfl hl.1 rfl (Nat.le_of_ble_eq_true rfl) dX8_steps_59 (fun z1 σ1 H locs hq w => ?_)
  obtain ⟨o2, hq⟩ := hq
  refine ra_if_ne (tgt := 67) X.x X.b o2 dX8_steps_62 (by decide) (fun c3 => ?_) (fun c3 => ?_)
  · have hq := hq.1 c3
    refine ra_iconst X.x X.b dX8_steps_67 ?_
    refine lv_istore (lv' := [(4, vI 0), (3, vI y0), (0, .ref (ad 0 23 0)), (1, vI x1), (2, vI x2)]) X.x X.b dX8_steps_68 hl (by decide) rfl (fun ls hl => ?_)
    obtain ⟨n4, hq⟩ := hq
    exact klX8_steps_70 X hr hM  n4 x1 x2 0 σ1 _ _ _ hq w (lv_sub hl [2, 3, 4, 0] rfl)
  · have hq := hq.2 c3
    refine ra_iconst X.x X.b dX8_steps_65 ?_
    exact x_iret X hr w hq dX8_steps_66
set_option maxHeartbeats 4000000 in
set_option maxRecDepth 100000 in
theorem mX8_steps (l : Launch) (D : va_G) (ids : Ids) (ad : Lay) (cA : Nat → ClassId) (A : Nat → Prop) (hM : HasM ids) (x1 : Int) (x2 : Int) (σ : Tab) (P : Int → Tab → Prop) (hq : wpX8_steps x1 x2 σ P) : Met l yX8_steps (ws_ yX8_steps cX8_steps 8 (some .int)) rmX8_steps (PcW D ids ad cA A σ [.ref (ad 0 23 0), vI x1, vI x2]) (QI D ids ad cA A P) 0 0 A := by
  refine m_entry (own := RX8) (by decide) (Nat.le_of_ble_eq_true rfl) rfl ?_
  intro p e s m below meth c ls X hr w hl
  have hl : lv_has ls 8 [(0, .ref (ad 0 23 0)), (1, vI x1), (2, vI x2)] := hl
  unfold wpX8_steps at hq
  refine lv_aload_n X.x X.b dX8_steps_0 rfl (lv_at hl 0 rfl) ?_
  refine x_get X w (hM 23 (by decide)) rfl in_X8 rfl 5 (by decide) q676 rfl rfl dX8_steps_1 ?_
  obtain ⟨o1, hq⟩ := hq
  refine ra_if_eq (tgt := 51) X.x X.b o1 dX8_steps_4 (by decide) (fun c2 => ?_) (fun c2 => ?_)
  · have hq := hq.1 c2
    refine ra_iconst X.x X.b dX8_steps_51 ?_
    exact klX8_steps_52 X hr hM  x1 x2 0 σ _ _ _ hq w (lv_sub hl [0, 1, 2] rfl)
  · have hq := hq.2 c2
    refine lv_iload_n X.x X.b dX8_steps_7 rfl (lv_at hl 1 rfl) ?_
    obtain ⟨o3, hq⟩ := hq
    refine ra_if_lt (tgt := 51) X.x X.b o3 dX8_steps_8 (by decide) (fun c4 => ?_) (fun c4 => ?_)
    · have hq := hq.1 c4
      refine ra_iconst X.x X.b dX8_steps_51 ?_
      exact klX8_steps_52 X hr hM  x1 x2 0 σ _ _ _ hq w (lv_sub hl [0, 1, 2] rfl)
    · have hq := hq.2 c4
      refine lv_iload_n X.x X.b dX8_steps_11 rfl (lv_at hl 1 rfl) ?_
      refine lv_aload_n X.x X.b dX8_steps_12 rfl (lv_at hl 0 rfl) ?_
      refine x_get X w (hM 23 (by decide)) rfl in_X8 rfl 7 (by decide) q678 rfl rfl dX8_steps_13 ?_
      obtain ⟨o5, hq⟩ := hq
      refine ra_icmp_ge (tgt := 51) X.x X.b o3 o5 dX8_steps_16 (by decide) (fun c6 => ?_) (fun c6 => ?_)
      · have hq := hq.1 c6
        refine ra_iconst X.x X.b dX8_steps_51 ?_
        exact klX8_steps_52 X hr hM  x1 x2 0 σ _ _ _ hq w (lv_sub hl [0, 1, 2] rfl)
      · have hq := hq.2 c6
        refine lv_iload_n X.x X.b dX8_steps_19 rfl (lv_at hl 2 rfl) ?_
        obtain ⟨o7, hq⟩ := hq
        refine ra_if_lt (tgt := 51) X.x X.b o7 dX8_steps_20 (by decide) (fun c8 => ?_) (fun c8 => ?_)
        · have hq := hq.1 c8
          refine ra_iconst X.x X.b dX8_steps_51 ?_
          exact klX8_steps_52 X hr hM  x1 x2 0 σ _ _ _ hq w (lv_sub hl [0, 1, 2] rfl)
        · have hq := hq.2 c8
          refine lv_iload_n X.x X.b dX8_steps_23 rfl (lv_at hl 2 rfl) ?_
          refine lv_aload_n X.x X.b dX8_steps_24 rfl (lv_at hl 0 rfl) ?_
          refine x_get X w (hM 23 (by decide)) rfl in_X8 rfl 7 (by decide) q678 rfl rfl dX8_steps_25 ?_
          refine ra_icmp_ge (tgt := 51) X.x X.b o7 o5 dX8_steps_28 (by decide) (fun c9 => ?_) (fun c9 => ?_)
          · have hq := hq.1 c9
            refine ra_iconst X.x X.b dX8_steps_51 ?_
            exact klX8_steps_52 X hr hM  x1 x2 0 σ _ _ _ hq w (lv_sub hl [0, 1, 2] rfl)
          · have hq := hq.2 c9
            refine lv_aload_n X.x X.b dX8_steps_31 rfl (lv_at hl 0 rfl) ?_
            refine lv_iload_n X.x X.b dX8_steps_32 rfl (lv_at hl 1 rfl) ?_
            refine x_callVi (n := 1) (As := [vI x1]) (rest := []) X w (hM 23 (by decide)) rfl rfl (mX8_isCorner l D ids ad cA A hM x1 σ _ hq) (lw_V q874 q876 qs33 q43 q877) ⟨rfl, rfl⟩ (by decide +kernel) ⟨Nat.le_of_ble_eq_true rfl, Nat.le_of_ble_eq_true rfl⟩ ⟨Nat.le_refl _, Nat.le_refl _⟩ rfl hl.1 rfl (Nat.le_of_ble_eq_true rfl) dX8_steps_33 (fun z10 σ10 H locs hq w => ?_)
            obtain ⟨o11, hq⟩ := hq
            refine ra_if_eq (tgt := 51) X.x X.b o11 dX8_steps_36 (by decide) (fun c12 => ?_) (fun c12 => ?_)
            · have hq := hq.1 c12
              refine ra_iconst X.x X.b dX8_steps_51 ?_
              exact klX8_steps_52 X hr hM  x1 x2 0 σ10 _ _ _ hq w (lv_sub hl [0, 1, 2] rfl)
            · have hq := hq.2 c12
              refine lv_aload_n X.x X.b dX8_steps_39 rfl (lv_at hl 0 rfl) ?_
              refine lv_iload_n X.x X.b dX8_steps_40 rfl (lv_at hl 2 rfl) ?_
              refine x_callVi (n := 1) (As := [vI x2]) (rest := []) X w (hM 23 (by decide)) rfl rfl (mX8_isCorner l D ids ad cA A hM x2 σ10 _ hq) (lw_V q874 q876 qs33 q43 q877) ⟨rfl, rfl⟩ (by decide +kernel) ⟨Nat.le_of_ble_eq_true rfl, Nat.le_of_ble_eq_true rfl⟩ ⟨Nat.le_refl _, Nat.le_refl _⟩ rfl hl.1 rfl (Nat.le_of_ble_eq_true rfl) dX8_steps_41 (fun z13 σ13 H locs hq w => ?_)
              obtain ⟨o14, hq⟩ := hq
              refine ra_if_eq (tgt := 51) X.x X.b o14 dX8_steps_44 (by decide) (fun c15 => ?_) (fun c15 => ?_)
              · have hq := hq.1 c15
                refine ra_iconst X.x X.b dX8_steps_51 ?_
                exact klX8_steps_52 X hr hM  x1 x2 0 σ13 _ _ _ hq w (lv_sub hl [0, 1, 2] rfl)
              · have hq := hq.2 c15
                refine ra_iconst X.x X.b dX8_steps_47 ?_
                refine lv_goto (tgt := 52) X.x X.b dX8_steps_48 (by decide) ?_
                exact klX8_steps_52 X hr hM  x1 x2 1 σ13 _ _ _ hq w (lv_sub hl [0, 1, 2] rfl)
def wlX8_side_51  (P : Int → Tab → Prop) : Nat → Int → Int → Int → Int → Int → Tab → Prop
  | 0, _, _, _, _, _, _ => False
  | n + 1, x1, x2, x3, x4, x5, σ => (inI x5 ∧ (inI (σ 0 23 0 11) ∧ ((σ 0 23 0 11 ≤ x5 → P x4 σ) ∧ (¬ (σ 0 23 0 11 ≤ x5) → ((0 ≤ x5 ∧ x5 < 64) ∧ (inI x1 ∧ (inI x2 ∧ (inI x3 ∧ (∀ y8 : Int, y8 = ((((σ 0 30 0 x5.toNat) * x1) + ((σ 0 31 0 x5.toNat) * x2)) + ((σ 0 32 0 x5.toNat) * x3)) - (σ 0 33 0 x5.toNat) → (inL y8 ∧ ((y8 ≤ 0 → ((y8 ≠ 0 → wlX8_side_51 P n x1 x2 x3 x4 (x5 + 1) σ) ∧ (¬ (y8 ≠ 0) → (inI x4 ∧ ((x4 ≠ 1 → wlX8_side_51 P n x1 x2 x3 x4 (x5 + 1) σ) ∧ (¬ (x4 ≠ 1) → wlX8_side_51 P n x1 x2 x3 0 (x5 + 1) σ)))))) ∧ (¬ (y8 ≤ 0) → wlX8_side_51 P n x1 x2 x3 (-1) (x5 + 1) σ))))))))))))
def wlX8_side_37  (P : Int → Tab → Prop) (x1 : Int) (x2 : Int) (x3 : Int) (y1 : Int) (y2 : Int) (σ : Tab) : Prop := wpX8_goes y1 y2 σ (fun z1 σ1 => (inI z1 ∧ ((z1 ≠ 0 → (∃ k : Nat, wlX8_side_51 P k x1 x2 x3 1 0 σ1)) ∧ (¬ (z1 ≠ 0) → P 0 σ1))))
def wpX8_side (x1 : Int) (x2 : Int) (x3 : Int) (σ : Tab) (P : Int → Tab → Prop) : Prop := wpX8_within x1 65536 σ (fun z1 σ1 => (inI z1 ∧ ((z1 = 0 → wlX8_side_37 P x1 x2 x3 (σ 0 23 0 5) 0 σ1) ∧ (¬ (z1 = 0) → wpX8_within x2 65536 σ1 (fun z4 σ4 => (inI z4 ∧ ((z4 = 0 → wlX8_side_37 P x1 x2 x3 (σ 0 23 0 5) 0 σ4) ∧ (¬ (z4 = 0) → wpX8_within x3 65536 σ4 (fun z7 σ7 => (inI z7 ∧ ((z7 = 0 → wlX8_side_37 P x1 x2 x3 (σ 0 23 0 5) 0 σ7) ∧ (¬ (z7 = 0) → wlX8_side_37 P x1 x2 x3 (σ 0 23 0 5) 1 σ7))))))))))))
abbrev rmX8_side : Room := { frames := 1, cells := 0, slots := 0, locals := 22 }
set_option maxHeartbeats 4000000 in
set_option maxRecDepth 100000 in
theorem klX8_side_51 {l : Launch} {p : Program} {e : Env} {s : State} {m : MethodId} {args : Array Value} {below : List Frame} {meth : Method} {c : Code} {D : va_G} {ids : Ids} {ad : Lay} {cA : Nat → ClassId} {A : Nat → Prop}  {P : Int → Tab → Prop} (X : Cx p m c meth cX8_side 8 s args RX8 D cA A nwW) (hr : meth.sig.returnType = some .int) (hM : HasM ids) :
    ∀ (n : Nat) (x1 : Int) (x2 : Int) (x3 : Int) (x4 : Int) (x5 : Int) (σ : Tab) (H : Heap) (locs : List Loc) (ls : Array Slot), wlX8_side_51 P n x1 x2 x3 x4 x5 σ → ww D ids ad cA A σ s.heap H locs → lv_has ls 8 [(0, .ref (ad 0 23 0)), (1, vI x1), (2, vI x2), (3, vI x3), (4, vI x4), (5, vI x5)] → W p l e rmX8_side s m args below meth c H locs 0 0 (MQ below (QI D ids ad cA A P) args s 0 0 A) (F0 m 51 ls []) := by
  intro n
  induction n with
  | zero => intro x1 x2 x3 x4 x5 σ H locs ls hq w hl; exact hq.elim
  | succ n ih =>
    intro x1 x2 x3 x4 x5 σ H locs ls hq w hl
    unfold wlX8_side_51 at hq
    refine lv_iload X.x X.b dX8_side_51 (lv_at hl 5 rfl) ?_
    refine lv_aload_n X.x X.b dX8_side_53 rfl (lv_at hl 0 rfl) ?_
    refine x_get X w (hM 23 (by decide)) rfl in_X8 rfl 11 (by decide) q682 rfl rfl dX8_side_54 ?_
    obtain ⟨o1, hq⟩ := hq
    obtain ⟨o2, hq⟩ := hq
    refine ra_icmp_ge (tgt := 140) X.x X.b o1 o2 dX8_side_57 (by decide) (fun c3 => ?_) (fun c3 => ?_)
    · have hq := hq.1 c3
      refine lv_iload X.x X.b dX8_side_140 (lv_at hl 4 rfl) ?_
      exact x_iret X hr w hq dX8_side_142
    · have hq := hq.2 c3
      refine lv_aload_n X.x X.b dX8_side_60 rfl (lv_at hl 0 rfl) ?_
      refine x_get X w (hM 23 (by decide)) rfl in_X8 rfl 12 (by decide) q683 rfl rfl dX8_side_61 ?_
      refine lv_iload X.x X.b dX8_side_64 (lv_at hl 5 rfl) ?_
      obtain ⟨o4, hq⟩ := hq
      refine x_lald X w (hM 30 (by decide)) rfl (by decide) o4.1 o4.2 dX8_side_66 ?_
      refine lv_iload_n X.x X.b dX8_side_67 rfl (lv_at hl 1 rfl) ?_
      obtain ⟨o5, hq⟩ := hq
      refine ra_i2l X.x X.b o5 dX8_side_68 ?_
      refine ra_lmul X.x X.b dX8_side_69 ?_
      refine lv_aload_n X.x X.b dX8_side_70 rfl (lv_at hl 0 rfl) ?_
      refine x_get X w (hM 23 (by decide)) rfl in_X8 rfl 13 (by decide) q684 rfl rfl dX8_side_71 ?_
      refine lv_iload X.x X.b dX8_side_74 (lv_at hl 5 rfl) ?_
      refine x_lald X w (hM 31 (by decide)) rfl (by decide) o4.1 o4.2 dX8_side_76 ?_
      refine lv_iload_n X.x X.b dX8_side_77 rfl (lv_at hl 2 rfl) ?_
      obtain ⟨o6, hq⟩ := hq
      refine ra_i2l X.x X.b o6 dX8_side_78 ?_
      refine ra_lmul X.x X.b dX8_side_79 ?_
      refine ra_ladd X.x X.b dX8_side_80 ?_
      refine lv_aload_n X.x X.b dX8_side_81 rfl (lv_at hl 0 rfl) ?_
      refine x_get X w (hM 23 (by decide)) rfl in_X8 rfl 14 (by decide) q685 rfl rfl dX8_side_82 ?_
      refine lv_iload X.x X.b dX8_side_85 (lv_at hl 5 rfl) ?_
      refine x_lald X w (hM 32 (by decide)) rfl (by decide) o4.1 o4.2 dX8_side_87 ?_
      refine lv_iload_n X.x X.b dX8_side_88 rfl (lv_at hl 3 rfl) ?_
      obtain ⟨o7, hq⟩ := hq
      refine ra_i2l X.x X.b o7 dX8_side_89 ?_
      refine ra_lmul X.x X.b dX8_side_90 ?_
      refine ra_ladd X.x X.b dX8_side_91 ?_
      refine lv_aload_n X.x X.b dX8_side_92 rfl (lv_at hl 0 rfl) ?_
      refine x_get X w (hM 23 (by decide)) rfl in_X8 rfl 15 (by decide) q686 rfl rfl dX8_side_93 ?_
      refine lv_iload X.x X.b dX8_side_96 (lv_at hl 5 rfl) ?_
      refine x_lald X w (hM 33 (by decide)) rfl (by decide) o4.1 o4.2 dX8_side_98 ?_
      refine ra_lsub X.x X.b dX8_side_99 ?_
      refine ra_nmL (fun y8 ey8 => ?_)
      have hq := hq y8 ey8
      refine lv_lstore (lv' := [(6, vL y8), (0, .ref (ad 0 23 0)), (1, vI x1), (2, vI x2), (3, vI x3), (4, vI x4), (5, vI x5)]) X.x X.b dX8_side_100 hl (by decide) rfl (fun ls hl => ?_)
      refine lv_lload X.x X.b dX8_side_102 (lv_at hl 0 rfl) ?_
      refine ra_lconst (z := 0) X.x X.b dX8_side_104 rfl ?_
      obtain ⟨o9, hq⟩ := hq
      refine ra_lcmp_le (tgt := 113) X.x X.b o9 ⟨by decide, by decide⟩ dX8_side_105 dX8_side_106 (by decide) (fun c10 => ?_) (fun c10 => ?_)
      · have hq := hq.1 c10
        refine lv_lload X.x X.b dX8_side_113 (lv_at hl 0 rfl) ?_
        refine ra_lconst (z := 0) X.x X.b dX8_side_115 rfl ?_
        refine ra_lcmp_ne (tgt := 130) X.x X.b o9 ⟨by decide, by decide⟩ dX8_side_116 dX8_side_117 (by decide) (fun c11 => ?_) (fun c11 => ?_)
        · have hq := hq.1 c11
          refine lv_iload X.x X.b dX8_side_130 (lv_at hl 5 rfl) ?_
          refine lv_istore (lv' := [(4, vI x4), (6, vL y8), (0, .ref (ad 0 23 0)), (1, vI x1), (2, vI x2), (3, vI x3), (5, vI x5)]) X.x X.b dX8_side_132 hl (by decide) rfl (fun ls hl => ?_)
          refine lv_iinc (v := Int32.ofInt (x5 + 1)) (lv' := [(5, vI (x5 + 1)), (4, vI x4), (6, vL y8), (0, .ref (ad 0 23 0)), (1, vI x1), (2, vI x2), (3, vI x3)]) X.x X.b dX8_side_134 hl (k := 6) rfl (Int32.ofInt_add _ _).symm (by decide) rfl (fun ls hl => ?_)
          refine lv_goto (tgt := 51) X.x X.b dX8_side_137 (by decide) ?_
          exact ih x1 x2 x3 x4 (x5 + 1) σ _ _ _ hq w (lv_sub hl [3, 4, 5, 6, 1, 0] rfl)
        · have hq := hq.2 c11
          refine lv_iload X.x X.b dX8_side_120 (lv_at hl 5 rfl) ?_
          refine ra_iconst X.x X.b dX8_side_122 ?_
          obtain ⟨o12, hq⟩ := hq
          refine ra_icmp_ne (tgt := 130) X.x X.b o12 ⟨by decide, by decide⟩ dX8_side_123 (by decide) (fun c13 => ?_) (fun c13 => ?_)
          · have hq := hq.1 c13
            refine lv_iload X.x X.b dX8_side_130 (lv_at hl 5 rfl) ?_
            refine lv_istore (lv' := [(4, vI x4), (6, vL y8), (0, .ref (ad 0 23 0)), (1, vI x1), (2, vI x2), (3, vI x3), (5, vI x5)]) X.x X.b dX8_side_132 hl (by decide) rfl (fun ls hl => ?_)
            refine lv_iinc (v := Int32.ofInt (x5 + 1)) (lv' := [(5, vI (x5 + 1)), (4, vI x4), (6, vL y8), (0, .ref (ad 0 23 0)), (1, vI x1), (2, vI x2), (3, vI x3)]) X.x X.b dX8_side_134 hl (k := 6) rfl (Int32.ofInt_add _ _).symm (by decide) rfl (fun ls hl => ?_)
            refine lv_goto (tgt := 51) X.x X.b dX8_side_137 (by decide) ?_
            exact ih x1 x2 x3 x4 (x5 + 1) σ _ _ _ hq w (lv_sub hl [3, 4, 5, 6, 1, 0] rfl)
          · have hq := hq.2 c13
            refine ra_iconst X.x X.b dX8_side_126 ?_
            refine lv_goto (tgt := 132) X.x X.b dX8_side_127 (by decide) ?_
            refine lv_istore (lv' := [(4, vI 0), (6, vL y8), (0, .ref (ad 0 23 0)), (1, vI x1), (2, vI x2), (3, vI x3), (5, vI x5)]) X.x X.b dX8_side_132 hl (by decide) rfl (fun ls hl => ?_)
            refine lv_iinc (v := Int32.ofInt (x5 + 1)) (lv' := [(5, vI (x5 + 1)), (4, vI 0), (6, vL y8), (0, .ref (ad 0 23 0)), (1, vI x1), (2, vI x2), (3, vI x3)]) X.x X.b dX8_side_134 hl (k := 6) rfl (Int32.ofInt_add _ _).symm (by decide) rfl (fun ls hl => ?_)
            refine lv_goto (tgt := 51) X.x X.b dX8_side_137 (by decide) ?_
            exact ih x1 x2 x3 0 (x5 + 1) σ _ _ _ hq w (lv_sub hl [3, 4, 5, 6, 1, 0] rfl)
      · have hq := hq.2 c10
        refine ra_iconst X.x X.b dX8_side_109 ?_
        refine lv_goto (tgt := 132) X.x X.b dX8_side_110 (by decide) ?_
        refine lv_istore (lv' := [(4, vI (-1)), (6, vL y8), (0, .ref (ad 0 23 0)), (1, vI x1), (2, vI x2), (3, vI x3), (5, vI x5)]) X.x X.b dX8_side_132 hl (by decide) rfl (fun ls hl => ?_)
        refine lv_iinc (v := Int32.ofInt (x5 + 1)) (lv' := [(5, vI (x5 + 1)), (4, vI (-1)), (6, vL y8), (0, .ref (ad 0 23 0)), (1, vI x1), (2, vI x2), (3, vI x3)]) X.x X.b dX8_side_134 hl (k := 6) rfl (Int32.ofInt_add _ _).symm (by decide) rfl (fun ls hl => ?_)
        refine lv_goto (tgt := 51) X.x X.b dX8_side_137 (by decide) ?_
        exact ih x1 x2 x3 (-1) (x5 + 1) σ _ _ _ hq w (lv_sub hl [3, 4, 5, 6, 1, 0] rfl)
set_option maxHeartbeats 4000000 in
set_option maxRecDepth 100000 in
theorem klX8_side_37 {l : Launch} {p : Program} {e : Env} {s : State} {m : MethodId} {args : Array Value} {below : List Frame} {meth : Method} {c : Code} {D : va_G} {ids : Ids} {ad : Lay} {cA : Nat → ClassId} {A : Nat → Prop}  {P : Int → Tab → Prop} (X : Cx p m c meth cX8_side 8 s args RX8 D cA A nwW) (hr : meth.sig.returnType = some .int) (hM : HasM ids) :
    ∀ (x1 : Int) (x2 : Int) (x3 : Int) (y1 : Int) (y2 : Int) (σ : Tab) (H : Heap) (locs : List Loc) (ls : Array Slot), wlX8_side_37 P x1 x2 x3 y1 y2 σ → ww D ids ad cA A σ s.heap H locs → lv_has ls 8 [(0, .ref (ad 0 23 0)), (1, vI x1), (2, vI x2), (3, vI x3)] → W p l e rmX8_side s m args below meth c H locs 0 0 (MQ below (QI D ids ad cA A P) args s 0 0 A) (F0 m 37 ls [vI y2, vI y1, .ref (ad 0 23 0)]) := by
  intro x1 x2 x3 y1 y2 σ H locs ls hq w hl
  unfold wlX8_side_37 at hq
  refine x_callVi (n := 2) (As := [vI y1, vI y2]) (rest := []) X w (hM 23 (by decide)) rfl rfl (mX8_goes l D ids ad cA A hM y1 y2 σ _ hq) (lw_V q769 q771 qs16 q43 q772) ⟨rfl, rfl⟩ (by decide +kernel) ⟨Nat.le_of_ble_eq_true rfl, Nat.le_of_ble_eq_true rfl⟩ ⟨Nat.le_refl _, Nat.le_refl _⟩ rfl hl.1 rfl (Nat.le_of_ble_eq_true rfl) dX8_side_37 (fun z1 σ1 H locs hq w => ?_)
  obtain ⟨o2, hq⟩ := hq
  refine ra_if_ne (tgt := 45) X.x X.b o2 dX8_side_40 (by decide) (fun c3 => ?_) (fun c3 => ?_)
  · have hq := hq.1 c3
    refine ra_iconst X.x X.b dX8_side_45 ?_
    refine lv_istore (lv' := [(4, vI 1), (0, .ref (ad 0 23 0)), (1, vI x1), (2, vI x2), (3, vI x3)]) X.x X.b dX8_side_46 hl (by decide) rfl (fun ls hl => ?_)
    refine ra_iconst X.x X.b dX8_side_48 ?_
    refine lv_istore (lv' := [(5, vI 0), (4, vI 1), (0, .ref (ad 0 23 0)), (1, vI x1), (2, vI x2), (3, vI x3)]) X.x X.b dX8_side_49 hl (by decide) rfl (fun ls hl => ?_)
    obtain ⟨n4, hq⟩ := hq
    exact klX8_side_51 X hr hM  n4 x1 x2 x3 1 0 σ1 _ _ _ hq w (lv_sub hl [2, 3, 4, 5, 1, 0] rfl)
  · have hq := hq.2 c3
    refine ra_iconst X.x X.b dX8_side_43 ?_
    exact x_iret X hr w hq dX8_side_44
set_option maxHeartbeats 4000000 in
set_option maxRecDepth 100000 in
theorem mX8_side (l : Launch) (D : va_G) (ids : Ids) (ad : Lay) (cA : Nat → ClassId) (A : Nat → Prop) (hM : HasM ids) (x1 : Int) (x2 : Int) (x3 : Int) (σ : Tab) (P : Int → Tab → Prop) (hq : wpX8_side x1 x2 x3 σ P) : Met l yX8_side (ws_ yX8_side cX8_side 8 (some .int)) rmX8_side (PcW D ids ad cA A σ [.ref (ad 0 23 0), vI x1, vI x2, vI x3]) (QI D ids ad cA A P) 0 0 A := by
  refine m_entry (own := RX8) (by decide) (Nat.le_of_ble_eq_true rfl) rfl ?_
  intro p e s m below meth c ls X hr w hl
  have hl : lv_has ls 8 [(0, .ref (ad 0 23 0)), (1, vI x1), (2, vI x2), (3, vI x3)] := hl
  unfold wpX8_side at hq
  refine lv_aload_n X.x X.b dX8_side_0 rfl (lv_at hl 0 rfl) ?_
  refine lv_aload_n X.x X.b dX8_side_1 rfl (lv_at hl 0 rfl) ?_
  refine x_get X w (hM 23 (by decide)) rfl in_X8 rfl 5 (by decide) q676 rfl rfl dX8_side_2 ?_
  refine lv_iload_n X.x X.b dX8_side_5 rfl (lv_at hl 1 rfl) ?_
  refine ra_ldcZ (z := 65536) X.x X.b X.o (X.t _ q873) (by decide) dX8_side_6 ?_
  refine x_callSi (n := 2) (As := [vI x1, vI 65536]) (rest := [vI (σ 0 23 0 5), .ref (ad 0 23 0)]) X w (mX8_within l D ids ad cA A x1 65536 σ _ hq) (lw_S q762 q763 q43 q764) ⟨rfl, rfl⟩ (by decide +kernel) ⟨Nat.le_of_ble_eq_true rfl, Nat.le_of_ble_eq_true rfl⟩ ⟨Nat.le_refl _, Nat.le_refl _⟩ rfl hl.1 rfl (Nat.le_of_ble_eq_true rfl) dX8_side_8 (fun z1 σ1 H locs hq w => ?_)
  obtain ⟨o2, hq⟩ := hq
  refine ra_if_eq (tgt := 36) X.x X.b o2 dX8_side_11 (by decide) (fun c3 => ?_) (fun c3 => ?_)
  · have hq := hq.1 c3
    refine ra_iconst X.x X.b dX8_side_36 ?_
    exact klX8_side_37 X hr hM  x1 x2 x3 (σ 0 23 0 5) 0 σ1 _ _ _ hq w (lv_sub hl [0, 1, 2, 3] rfl)
  · have hq := hq.2 c3
    refine lv_iload_n X.x X.b dX8_side_14 rfl (lv_at hl 2 rfl) ?_
    refine ra_ldcZ (z := 65536) X.x X.b X.o (X.t _ q873) (by decide) dX8_side_15 ?_
    refine x_callSi (n := 2) (As := [vI x2, vI 65536]) (rest := [vI (σ 0 23 0 5), .ref (ad 0 23 0)]) X w (mX8_within l D ids ad cA A x2 65536 σ1 _ hq) (lw_S q762 q763 q43 q764) ⟨rfl, rfl⟩ (by decide +kernel) ⟨Nat.le_of_ble_eq_true rfl, Nat.le_of_ble_eq_true rfl⟩ ⟨Nat.le_refl _, Nat.le_refl _⟩ rfl hl.1 rfl (Nat.le_of_ble_eq_true rfl) dX8_side_17 (fun z4 σ4 H locs hq w => ?_)
    obtain ⟨o5, hq⟩ := hq
    refine ra_if_eq (tgt := 36) X.x X.b o5 dX8_side_20 (by decide) (fun c6 => ?_) (fun c6 => ?_)
    · have hq := hq.1 c6
      refine ra_iconst X.x X.b dX8_side_36 ?_
      exact klX8_side_37 X hr hM  x1 x2 x3 (σ 0 23 0 5) 0 σ4 _ _ _ hq w (lv_sub hl [0, 1, 2, 3] rfl)
    · have hq := hq.2 c6
      refine lv_iload_n X.x X.b dX8_side_23 rfl (lv_at hl 3 rfl) ?_
      refine ra_ldcZ (z := 65536) X.x X.b X.o (X.t _ q873) (by decide) dX8_side_24 ?_
      refine x_callSi (n := 2) (As := [vI x3, vI 65536]) (rest := [vI (σ 0 23 0 5), .ref (ad 0 23 0)]) X w (mX8_within l D ids ad cA A x3 65536 σ4 _ hq) (lw_S q762 q763 q43 q764) ⟨rfl, rfl⟩ (by decide +kernel) ⟨Nat.le_of_ble_eq_true rfl, Nat.le_of_ble_eq_true rfl⟩ ⟨Nat.le_refl _, Nat.le_refl _⟩ rfl hl.1 rfl (Nat.le_of_ble_eq_true rfl) dX8_side_26 (fun z7 σ7 H locs hq w => ?_)
      obtain ⟨o8, hq⟩ := hq
      refine ra_if_eq (tgt := 36) X.x X.b o8 dX8_side_29 (by decide) (fun c9 => ?_) (fun c9 => ?_)
      · have hq := hq.1 c9
        refine ra_iconst X.x X.b dX8_side_36 ?_
        exact klX8_side_37 X hr hM  x1 x2 x3 (σ 0 23 0 5) 0 σ7 _ _ _ hq w (lv_sub hl [0, 1, 2, 3] rfl)
      · have hq := hq.2 c9
        refine ra_iconst X.x X.b dX8_side_32 ?_
        refine lv_goto (tgt := 37) X.x X.b dX8_side_33 (by decide) ?_
        exact klX8_side_37 X hr hM  x1 x2 x3 (σ 0 23 0 5) 1 σ7 _ _ _ hq w (lv_sub hl [0, 1, 2, 3] rfl)
def wlX8_sum_288  (P : Int → Tab → Prop) (K5 : Int → Int → Int → Tab → Prop) (K29 : Int → Int → Int → Int → Int → Tab → Prop) (x1 : Int) (x2 : Int) (x4 : Int) (x5 : Int) (x6 : Int) (x9 : Int) (y0 : Int) (σ : Tab) : Prop := (∀ y1 : Int, y1 = x2 + (x9 * y0) → K29 x1 y1 x4 x5 (x6 + 1) σ)
def wlX8_sum_29  (P : Int → Tab → Prop) (K5 : Int → Int → Int → Tab → Prop) : Nat → Int → Int → Int → Int → Int → Tab → Prop
  | 0, _, _, _, _, _, _ => False
  | n + 1, x1, x2, x4, x5, x6, σ => ((0 ≤ x4 ∧ x4 < 64) ∧ (inI (x6 + 1) ∧ (inI (σ 0 34 0 x4.toNat) ∧ ((σ 0 34 0 x4.toNat ≤ x6 + 1 → K5 x1 x2 (x4 + 1) σ) ∧ (¬ (σ 0 34 0 x4.toNat ≤ x6 + 1) → ((0 ≤ (24 * x4) + x6 ∧ (24 * x4) + x6 < 1536) ∧ (∀ y6 : Int, y6 = σ 0 35 0 (((24 * x4) + x6).toNat) → ((0 ≤ ((24 * x4) + x6) + 1 ∧ ((24 * x4) + x6) + 1 < 1536) ∧ (∀ y8 : Int, y8 = σ 0 35 0 ((((24 * x4) + x6) + 1).toNat) → ((0 ≤ x5 ∧ x5 < 24) ∧ ((0 ≤ y6 ∧ y6 < 24) ∧ ((0 ≤ y8 ∧ y8 < 24) ∧ (∀ y12 : Int, y12 = (((σ 0 27 0 x5.toNat) * (((σ 0 28 0 y6.toNat) * (σ 0 29 0 y8.toNat)) - ((σ 0 29 0 y6.toNat) * (σ 0 28 0 y8.toNat)))) + ((σ 0 28 0 x5.toNat) * (((σ 0 29 0 y6.toNat) * (σ 0 27 0 y8.toNat)) - ((σ 0 27 0 y6.toNat) * (σ 0 29 0 y8.toNat))))) + ((σ 0 29 0 x5.toNat) * (((σ 0 27 0 y6.toNat) * (σ 0 28 0 y8.toNat)) - ((σ 0 28 0 y6.toNat) * (σ 0 27 0 y8.toNat)))) → (inI x1 ∧ ((0 ≤ x1 → ((x1 ≠ 0 → ((x1 ≠ 1 → wlX8_sum_288 P K5 (fun x1 x2 x4 x5 x6 τ => wlX8_sum_29 P K5 n x1 x2 x4 x5 x6 τ) x1 x2 x4 x5 x6 y12 (((σ 0 29 0 x5.toNat) + (σ 0 29 0 y6.toNat)) + (σ 0 29 0 y8.toNat)) σ) ∧ (¬ (x1 ≠ 1) → wlX8_sum_288 P K5 (fun x1 x2 x4 x5 x6 τ => wlX8_sum_29 P K5 n x1 x2 x4 x5 x6 τ) x1 x2 x4 x5 x6 y12 (((σ 0 28 0 x5.toNat) + (σ 0 28 0 y6.toNat)) + (σ 0 28 0 y8.toNat)) σ))) ∧ (¬ (x1 ≠ 0) → wlX8_sum_288 P K5 (fun x1 x2 x4 x5 x6 τ => wlX8_sum_29 P K5 n x1 x2 x4 x5 x6 τ) x1 x2 x4 x5 x6 y12 (((σ 0 27 0 x5.toNat) + (σ 0 27 0 y6.toNat)) + (σ 0 27 0 y8.toNat)) σ))) ∧ (¬ (0 ≤ x1) → wlX8_sum_288 P K5 (fun x1 x2 x4 x5 x6 τ => wlX8_sum_29 P K5 n x1 x2 x4 x5 x6 τ) x1 x2 x4 x5 x6 y12 1 σ))))))))))))))))
def wlX8_sum_5  (P : Int → Tab → Prop) : Nat → Int → Int → Int → Tab → Prop
  | 0, _, _, _, _ => False
  | n + 1, x1, x2, x4, σ => (inI x4 ∧ (inI (σ 0 23 0 11) ∧ ((σ 0 23 0 11 ≤ x4 → P x2 σ) ∧ (¬ (σ 0 23 0 11 ≤ x4) → ((0 ≤ 24 * x4 ∧ 24 * x4 < 1536) ∧ (∀ y5 : Int, y5 = σ 0 35 0 ((24 * x4).toNat) → (∃ k : Nat, wlX8_sum_29 P (fun x1 x2 x4 τ => wlX8_sum_5 P n x1 x2 x4 τ) k x1 x2 x4 y5 1 σ)))))))
def wpX8_sum (x1 : Int) (σ : Tab) (P : Int → Tab → Prop) : Prop := (∃ k : Nat, wlX8_sum_5 P k x1 0 0 σ)
abbrev rmX8_sum : Room := { frames := 0, cells := 0, slots := 0, locals := 0 }
set_option maxHeartbeats 4000000 in
set_option maxRecDepth 100000 in
theorem klX8_sum_288 {l : Launch} {p : Program} {e : Env} {s : State} {m : MethodId} {args : Array Value} {below : List Frame} {meth : Method} {c : Code} {D : va_G} {ids : Ids} {ad : Lay} {cA : Nat → ClassId} {A : Nat → Prop}  {P : Int → Tab → Prop} {K5 : Int → Int → Int → Tab → Prop} {K29 : Int → Int → Int → Int → Int → Tab → Prop} (X : Cx p m c meth cX8_sum 13 s args RX8 D cA A nwW) (hr : meth.sig.returnType = some .long) (hM : HasM ids) (kk5 : ∀ (x1 : Int) (x2 : Int) (x4 : Int) (σ : Tab) (H : Heap) (locs : List Loc) (ls : Array Slot), K5 x1 x2 x4 σ → ww D ids ad cA A σ s.heap H locs → lv_has ls 13 [(0, .ref (ad 0 23 0)), (1, vI x1), (2, vL x2), (4, vI x4)] → W p l e rmX8_sum s m args below meth c H locs 0 0 (MQ below (QL D ids ad cA A P) args s 0 0 A) (F0 m 5 ls [])) (kk29 : ∀ (x1 : Int) (x2 : Int) (x4 : Int) (x5 : Int) (x6 : Int) (σ : Tab) (H : Heap) (locs : List Loc) (ls : Array Slot), K29 x1 x2 x4 x5 x6 σ → ww D ids ad cA A σ s.heap H locs → lv_has ls 13 [(0, .ref (ad 0 23 0)), (1, vI x1), (2, vL x2), (4, vI x4), (5, vI x5), (6, vI x6)] → W p l e rmX8_sum s m args below meth c H locs 0 0 (MQ below (QL D ids ad cA A P) args s 0 0 A) (F0 m 29 ls [])) :
    ∀ (x1 : Int) (x2 : Int) (x4 : Int) (x5 : Int) (x6 : Int) (x9 : Int) (y0 : Int) (σ : Tab) (H : Heap) (locs : List Loc) (ls : Array Slot), wlX8_sum_288 P K5 K29 x1 x2 x4 x5 x6 x9 y0 σ → ww D ids ad cA A σ s.heap H locs → lv_has ls 13 [(0, .ref (ad 0 23 0)), (1, vI x1), (2, vL x2), (4, vI x4), (5, vI x5), (6, vI x6), (9, vL x9)] → W p l e rmX8_sum s m args below meth c H locs 0 0 (MQ below (QL D ids ad cA A P) args s 0 0 A) (F0 m 288 ls [vL y0]) := by
  intro x1 x2 x4 x5 x6 x9 y0 σ H locs ls hq w hl
  unfold wlX8_sum_288 at hq
  refine lv_lstore (lv' := [(11, vL y0), (0, .ref (ad 0 23 0)), (1, vI x1), (2, vL x2), (4, vI x4), (5, vI x5), (6, vI x6), (9, vL x9)]) X.x X.b dX8_sum_288 hl (by decide) rfl (fun ls hl => ?_)
  refine lv_lload_n X.x X.b dX8_sum_290 rfl (lv_at hl 3 rfl) ?_
  refine lv_lload X.x X.b dX8_sum_291 (lv_at hl 7 rfl) ?_
  refine lv_lload X.x X.b dX8_sum_293 (lv_at hl 0 rfl) ?_
  refine ra_lmul X.x X.b dX8_sum_295 ?_
  refine ra_ladd X.x X.b dX8_sum_296 ?_
  refine ra_nmL (fun y1 ey1 => ?_)
  have hq := hq y1 ey1
  refine lv_lstore_n (lv' := [(2, vL y1), (11, vL y0), (0, .ref (ad 0 23 0)), (1, vI x1), (4, vI x4), (5, vI x5), (6, vI x6), (9, vL x9)]) X.x X.b dX8_sum_297 rfl hl (by decide) rfl (fun ls hl => ?_)
  refine lv_iinc (v := Int32.ofInt (x6 + 1)) (lv' := [(6, vI (x6 + 1)), (2, vL y1), (11, vL y0), (0, .ref (ad 0 23 0)), (1, vI x1), (4, vI x4), (5, vI x5), (9, vL x9)]) X.x X.b dX8_sum_298 hl (k := 6) rfl (Int32.ofInt_add _ _).symm (by decide) rfl (fun ls hl => ?_)
  refine lv_goto (tgt := 29) X.x X.b dX8_sum_301 (by decide) ?_
  exact kk29 x1 y1 x4 x5 (x6 + 1) σ _ _ _ hq w (lv_sub hl [3, 4, 1, 5, 6, 0] rfl)
set_option maxHeartbeats 4000000 in
set_option maxRecDepth 100000 in
theorem klX8_sum_29 {l : Launch} {p : Program} {e : Env} {s : State} {m : MethodId} {args : Array Value} {below : List Frame} {meth : Method} {c : Code} {D : va_G} {ids : Ids} {ad : Lay} {cA : Nat → ClassId} {A : Nat → Prop}  {P : Int → Tab → Prop} {K5 : Int → Int → Int → Tab → Prop} (X : Cx p m c meth cX8_sum 13 s args RX8 D cA A nwW) (hr : meth.sig.returnType = some .long) (hM : HasM ids) (kk5 : ∀ (x1 : Int) (x2 : Int) (x4 : Int) (σ : Tab) (H : Heap) (locs : List Loc) (ls : Array Slot), K5 x1 x2 x4 σ → ww D ids ad cA A σ s.heap H locs → lv_has ls 13 [(0, .ref (ad 0 23 0)), (1, vI x1), (2, vL x2), (4, vI x4)] → W p l e rmX8_sum s m args below meth c H locs 0 0 (MQ below (QL D ids ad cA A P) args s 0 0 A) (F0 m 5 ls [])) :
    ∀ (n : Nat) (x1 : Int) (x2 : Int) (x4 : Int) (x5 : Int) (x6 : Int) (σ : Tab) (H : Heap) (locs : List Loc) (ls : Array Slot), wlX8_sum_29 P K5 n x1 x2 x4 x5 x6 σ → ww D ids ad cA A σ s.heap H locs → lv_has ls 13 [(0, .ref (ad 0 23 0)), (1, vI x1), (2, vL x2), (4, vI x4), (5, vI x5), (6, vI x6)] → W p l e rmX8_sum s m args below meth c H locs 0 0 (MQ below (QL D ids ad cA A P) args s 0 0 A) (F0 m 29 ls []) := by
  intro n
  induction n with
  | zero => intro x1 x2 x4 x5 x6 σ H locs ls hq w hl; exact hq.elim
  | succ n ih =>
    intro x1 x2 x4 x5 x6 σ H locs ls hq w hl
    unfold wlX8_sum_29 at hq
    refine lv_iload X.x X.b dX8_sum_29 (lv_at hl 5 rfl) ?_
    refine ra_iconst X.x X.b dX8_sum_31 ?_
    refine ra_iadd X.x X.b dX8_sum_32 ?_
    refine lv_aload_n X.x X.b dX8_sum_33 rfl (lv_at hl 0 rfl) ?_
    refine x_get X w (hM 23 (by decide)) rfl in_X8 rfl 16 (by decide) q687 rfl rfl dX8_sum_34 ?_
    refine lv_iload X.x X.b dX8_sum_37 (lv_at hl 3 rfl) ?_
    obtain ⟨o1, hq⟩ := hq
    refine x_iald X w (hM 34 (by decide)) rfl (by decide) o1.1 o1.2 dX8_sum_39 ?_
    obtain ⟨o2, hq⟩ := hq
    obtain ⟨o3, hq⟩ := hq
    refine ra_icmp_ge (tgt := 304) X.x X.b o2 o3 dX8_sum_40 (by decide) (fun c4 => ?_) (fun c4 => ?_)
    · have hq := hq.1 c4
      refine lv_iinc (v := Int32.ofInt (x4 + 1)) (lv' := [(4, vI (x4 + 1)), (0, .ref (ad 0 23 0)), (1, vI x1), (2, vL x2), (5, vI x5), (6, vI x6)]) X.x X.b dX8_sum_304 hl (k := 3) rfl (Int32.ofInt_add _ _).symm (by decide) rfl (fun ls hl => ?_)
      refine lv_goto (tgt := 5) X.x X.b dX8_sum_307 (by decide) ?_
      exact kk5 x1 x2 (x4 + 1) σ _ _ _ hq w (lv_sub hl [1, 2, 3, 0] rfl)
    · have hq := hq.2 c4
      refine lv_aload_n X.x X.b dX8_sum_43 rfl (lv_at hl 0 rfl) ?_
      refine x_get X w (hM 23 (by decide)) rfl in_X8 rfl 17 (by decide) q688 rfl rfl dX8_sum_44 ?_
      refine ra_bipush X.x X.b dX8_sum_47 rfl ?_
      refine lv_iload X.x X.b dX8_sum_49 (lv_at hl 3 rfl) ?_
      refine ra_imul X.x X.b dX8_sum_51 ?_
      refine lv_iload X.x X.b dX8_sum_52 (lv_at hl 5 rfl) ?_
      refine ra_iadd X.x X.b dX8_sum_54 ?_
      obtain ⟨o5, hq⟩ := hq
      refine x_iald X w (hM 35 (by decide)) rfl (by decide) o5.1 o5.2 dX8_sum_55 ?_
      refine ra_nmI (fun y6 ey6 => ?_)
      have hq := hq y6 ey6
      refine lv_istore (lv' := [(7, vI y6), (0, .ref (ad 0 23 0)), (1, vI x1), (2, vL x2), (4, vI x4), (5, vI x5), (6, vI x6)]) X.x X.b dX8_sum_56 hl (by decide) rfl (fun ls hl => ?_)
      refine lv_aload_n X.x X.b dX8_sum_58 rfl (lv_at hl 1 rfl) ?_
      refine x_get X w (hM 23 (by decide)) rfl in_X8 rfl 17 (by decide) q688 rfl rfl dX8_sum_59 ?_
      refine ra_bipush X.x X.b dX8_sum_62 rfl ?_
      refine lv_iload X.x X.b dX8_sum_64 (lv_at hl 4 rfl) ?_
      refine ra_imul X.x X.b dX8_sum_66 ?_
      refine lv_iload X.x X.b dX8_sum_67 (lv_at hl 6 rfl) ?_
      refine ra_iadd X.x X.b dX8_sum_69 ?_
      refine ra_iconst X.x X.b dX8_sum_70 ?_
      refine ra_iadd X.x X.b dX8_sum_71 ?_
      obtain ⟨o7, hq⟩ := hq
      refine x_iald X w (hM 35 (by decide)) rfl (by decide) o7.1 o7.2 dX8_sum_72 ?_
      refine ra_nmI (fun y8 ey8 => ?_)
      have hq := hq y8 ey8
      refine lv_istore (lv' := [(8, vI y8), (7, vI y6), (0, .ref (ad 0 23 0)), (1, vI x1), (2, vL x2), (4, vI x4), (5, vI x5), (6, vI x6)]) X.x X.b dX8_sum_73 hl (by decide) rfl (fun ls hl => ?_)
      refine lv_aload_n X.x X.b dX8_sum_75 rfl (lv_at hl 2 rfl) ?_
      refine x_get X w (hM 23 (by decide)) rfl in_X8 rfl 8 (by decide) q679 rfl rfl dX8_sum_76 ?_
      refine lv_iload X.x X.b dX8_sum_79 (lv_at hl 6 rfl) ?_
      obtain ⟨o9, hq⟩ := hq
      refine x_lald X w (hM 27 (by decide)) rfl (by decide) o9.1 o9.2 dX8_sum_81 ?_
      refine lv_aload_n X.x X.b dX8_sum_82 rfl (lv_at hl 2 rfl) ?_
      refine x_get X w (hM 23 (by decide)) rfl in_X8 rfl 9 (by decide) q680 rfl rfl dX8_sum_83 ?_
      refine lv_iload X.x X.b dX8_sum_86 (lv_at hl 1 rfl) ?_
      obtain ⟨o10, hq⟩ := hq
      refine x_lald X w (hM 28 (by decide)) rfl (by decide) o10.1 o10.2 dX8_sum_88 ?_
      refine lv_aload_n X.x X.b dX8_sum_89 rfl (lv_at hl 2 rfl) ?_
      refine x_get X w (hM 23 (by decide)) rfl in_X8 rfl 10 (by decide) q681 rfl rfl dX8_sum_90 ?_
      refine lv_iload X.x X.b dX8_sum_93 (lv_at hl 0 rfl) ?_
      obtain ⟨o11, hq⟩ := hq
      refine x_lald X w (hM 29 (by decide)) rfl (by decide) o11.1 o11.2 dX8_sum_95 ?_
      refine ra_lmul X.x X.b dX8_sum_96 ?_
      refine lv_aload_n X.x X.b dX8_sum_97 rfl (lv_at hl 2 rfl) ?_
      refine x_get X w (hM 23 (by decide)) rfl in_X8 rfl 10 (by decide) q681 rfl rfl dX8_sum_98 ?_
      refine lv_iload X.x X.b dX8_sum_101 (lv_at hl 1 rfl) ?_
      refine x_lald X w (hM 29 (by decide)) rfl (by decide) o10.1 o10.2 dX8_sum_103 ?_
      refine lv_aload_n X.x X.b dX8_sum_104 rfl (lv_at hl 2 rfl) ?_
      refine x_get X w (hM 23 (by decide)) rfl in_X8 rfl 9 (by decide) q680 rfl rfl dX8_sum_105 ?_
      refine lv_iload X.x X.b dX8_sum_108 (lv_at hl 0 rfl) ?_
      refine x_lald X w (hM 28 (by decide)) rfl (by decide) o11.1 o11.2 dX8_sum_110 ?_
      refine ra_lmul X.x X.b dX8_sum_111 ?_
      refine ra_lsub X.x X.b dX8_sum_112 ?_
      refine ra_lmul X.x X.b dX8_sum_113 ?_
      refine lv_aload_n X.x X.b dX8_sum_114 rfl (lv_at hl 2 rfl) ?_
      refine x_get X w (hM 23 (by decide)) rfl in_X8 rfl 9 (by decide) q680 rfl rfl dX8_sum_115 ?_
      refine lv_iload X.x X.b dX8_sum_118 (lv_at hl 6 rfl) ?_
      refine x_lald X w (hM 28 (by decide)) rfl (by decide) o9.1 o9.2 dX8_sum_120 ?_
      refine lv_aload_n X.x X.b dX8_sum_121 rfl (lv_at hl 2 rfl) ?_
      refine x_get X w (hM 23 (by decide)) rfl in_X8 rfl 10 (by decide) q681 rfl rfl dX8_sum_122 ?_
      refine lv_iload X.x X.b dX8_sum_125 (lv_at hl 1 rfl) ?_
      refine x_lald X w (hM 29 (by decide)) rfl (by decide) o10.1 o10.2 dX8_sum_127 ?_
      refine lv_aload_n X.x X.b dX8_sum_128 rfl (lv_at hl 2 rfl) ?_
      refine x_get X w (hM 23 (by decide)) rfl in_X8 rfl 8 (by decide) q679 rfl rfl dX8_sum_129 ?_
      refine lv_iload X.x X.b dX8_sum_132 (lv_at hl 0 rfl) ?_
      refine x_lald X w (hM 27 (by decide)) rfl (by decide) o11.1 o11.2 dX8_sum_134 ?_
      refine ra_lmul X.x X.b dX8_sum_135 ?_
      refine lv_aload_n X.x X.b dX8_sum_136 rfl (lv_at hl 2 rfl) ?_
      refine x_get X w (hM 23 (by decide)) rfl in_X8 rfl 8 (by decide) q679 rfl rfl dX8_sum_137 ?_
      refine lv_iload X.x X.b dX8_sum_140 (lv_at hl 1 rfl) ?_
      refine x_lald X w (hM 27 (by decide)) rfl (by decide) o10.1 o10.2 dX8_sum_142 ?_
      refine lv_aload_n X.x X.b dX8_sum_143 rfl (lv_at hl 2 rfl) ?_
      refine x_get X w (hM 23 (by decide)) rfl in_X8 rfl 10 (by decide) q681 rfl rfl dX8_sum_144 ?_
      refine lv_iload X.x X.b dX8_sum_147 (lv_at hl 0 rfl) ?_
      refine x_lald X w (hM 29 (by decide)) rfl (by decide) o11.1 o11.2 dX8_sum_149 ?_
      refine ra_lmul X.x X.b dX8_sum_150 ?_
      refine ra_lsub X.x X.b dX8_sum_151 ?_
      refine ra_lmul X.x X.b dX8_sum_152 ?_
      refine ra_ladd X.x X.b dX8_sum_153 ?_
      refine lv_aload_n X.x X.b dX8_sum_154 rfl (lv_at hl 2 rfl) ?_
      refine x_get X w (hM 23 (by decide)) rfl in_X8 rfl 10 (by decide) q681 rfl rfl dX8_sum_155 ?_
      refine lv_iload X.x X.b dX8_sum_158 (lv_at hl 6 rfl) ?_
      refine x_lald X w (hM 29 (by decide)) rfl (by decide) o9.1 o9.2 dX8_sum_160 ?_
      refine lv_aload_n X.x X.b dX8_sum_161 rfl (lv_at hl 2 rfl) ?_
      refine x_get X w (hM 23 (by decide)) rfl in_X8 rfl 8 (by decide) q679 rfl rfl dX8_sum_162 ?_
      refine lv_iload X.x X.b dX8_sum_165 (lv_at hl 1 rfl) ?_
      refine x_lald X w (hM 27 (by decide)) rfl (by decide) o10.1 o10.2 dX8_sum_167 ?_
      refine lv_aload_n X.x X.b dX8_sum_168 rfl (lv_at hl 2 rfl) ?_
      refine x_get X w (hM 23 (by decide)) rfl in_X8 rfl 9 (by decide) q680 rfl rfl dX8_sum_169 ?_
      refine lv_iload X.x X.b dX8_sum_172 (lv_at hl 0 rfl) ?_
      refine x_lald X w (hM 28 (by decide)) rfl (by decide) o11.1 o11.2 dX8_sum_174 ?_
      refine ra_lmul X.x X.b dX8_sum_175 ?_
      refine lv_aload_n X.x X.b dX8_sum_176 rfl (lv_at hl 2 rfl) ?_
      refine x_get X w (hM 23 (by decide)) rfl in_X8 rfl 9 (by decide) q680 rfl rfl dX8_sum_177 ?_
      refine lv_iload X.x X.b dX8_sum_180 (lv_at hl 1 rfl) ?_
      refine x_lald X w (hM 28 (by decide)) rfl (by decide) o10.1 o10.2 dX8_sum_182 ?_
      refine lv_aload_n X.x X.b dX8_sum_183 rfl (lv_at hl 2 rfl) ?_
      refine x_get X w (hM 23 (by decide)) rfl in_X8 rfl 8 (by decide) q679 rfl rfl dX8_sum_184 ?_
      refine lv_iload X.x X.b dX8_sum_187 (lv_at hl 0 rfl) ?_
      refine x_lald X w (hM 27 (by decide)) rfl (by decide) o11.1 o11.2 dX8_sum_189 ?_
      refine ra_lmul X.x X.b dX8_sum_190 ?_
      refine ra_lsub X.x X.b dX8_sum_191 ?_
      refine ra_lmul X.x X.b dX8_sum_192 ?_
      refine ra_ladd X.x X.b dX8_sum_193 ?_
      refine ra_nmL (fun y12 ey12 => ?_)
      have hq := hq y12 ey12
      refine lv_lstore (lv' := [(9, vL y12), (8, vI y8), (7, vI y6), (0, .ref (ad 0 23 0)), (1, vI x1), (2, vL x2), (4, vI x4), (5, vI x5), (6, vI x6)]) X.x X.b dX8_sum_194 hl (by decide) rfl (fun ls hl => ?_)
      refine lv_iload_n X.x X.b dX8_sum_196 rfl (lv_at hl 4 rfl) ?_
      obtain ⟨o13, hq⟩ := hq
      refine ra_if_ge (tgt := 204) X.x X.b o13 dX8_sum_197 (by decide) (fun c14 => ?_) (fun c14 => ?_)
      · have hq := hq.1 c14
        refine lv_iload_n X.x X.b dX8_sum_204 rfl (lv_at hl 4 rfl) ?_
        refine ra_if_ne (tgt := 234) X.x X.b o13 dX8_sum_205 (by decide) (fun c15 => ?_) (fun c15 => ?_)
        · have hq := hq.1 c15
          refine lv_iload_n X.x X.b dX8_sum_234 rfl (lv_at hl 4 rfl) ?_
          refine ra_iconst X.x X.b dX8_sum_235 ?_
          refine ra_icmp_ne (tgt := 265) X.x X.b o13 ⟨by decide, by decide⟩ dX8_sum_236 (by decide) (fun c16 => ?_) (fun c16 => ?_)
          · have hq := hq.1 c16
            refine lv_aload_n X.x X.b dX8_sum_265 rfl (lv_at hl 3 rfl) ?_
            refine x_get X w (hM 23 (by decide)) rfl in_X8 rfl 10 (by decide) q681 rfl rfl dX8_sum_266 ?_
            refine lv_iload X.x X.b dX8_sum_269 (lv_at hl 7 rfl) ?_
            refine x_lald X w (hM 29 (by decide)) rfl (by decide) o9.1 o9.2 dX8_sum_271 ?_
            refine lv_aload_n X.x X.b dX8_sum_272 rfl (lv_at hl 3 rfl) ?_
            refine x_get X w (hM 23 (by decide)) rfl in_X8 rfl 10 (by decide) q681 rfl rfl dX8_sum_273 ?_
            refine lv_iload X.x X.b dX8_sum_276 (lv_at hl 2 rfl) ?_
            refine x_lald X w (hM 29 (by decide)) rfl (by decide) o10.1 o10.2 dX8_sum_278 ?_
            refine ra_ladd X.x X.b dX8_sum_279 ?_
            refine lv_aload_n X.x X.b dX8_sum_280 rfl (lv_at hl 3 rfl) ?_
            refine x_get X w (hM 23 (by decide)) rfl in_X8 rfl 10 (by decide) q681 rfl rfl dX8_sum_281 ?_
            refine lv_iload X.x X.b dX8_sum_284 (lv_at hl 1 rfl) ?_
            refine x_lald X w (hM 29 (by decide)) rfl (by decide) o11.1 o11.2 dX8_sum_286 ?_
            refine ra_ladd X.x X.b dX8_sum_287 ?_
            exact klX8_sum_288 X hr hM kk5 (fun a0 a1 a2 a3 a4 τ H L ls q w h => ih a0 a1 a2 a3 a4 τ H L ls q w h) x1 x2 x4 x5 x6 y12 (((σ 0 29 0 x5.toNat) + (σ 0 29 0 y6.toNat)) + (σ 0 29 0 y8.toNat)) σ _ _ _ hq w (lv_sub hl [3, 4, 5, 6, 7, 8, 0] rfl)
          · have hq := hq.2 c16
            refine lv_aload_n X.x X.b dX8_sum_239 rfl (lv_at hl 3 rfl) ?_
            refine x_get X w (hM 23 (by decide)) rfl in_X8 rfl 9 (by decide) q680 rfl rfl dX8_sum_240 ?_
            refine lv_iload X.x X.b dX8_sum_243 (lv_at hl 7 rfl) ?_
            refine x_lald X w (hM 28 (by decide)) rfl (by decide) o9.1 o9.2 dX8_sum_245 ?_
            refine lv_aload_n X.x X.b dX8_sum_246 rfl (lv_at hl 3 rfl) ?_
            refine x_get X w (hM 23 (by decide)) rfl in_X8 rfl 9 (by decide) q680 rfl rfl dX8_sum_247 ?_
            refine lv_iload X.x X.b dX8_sum_250 (lv_at hl 2 rfl) ?_
            refine x_lald X w (hM 28 (by decide)) rfl (by decide) o10.1 o10.2 dX8_sum_252 ?_
            refine ra_ladd X.x X.b dX8_sum_253 ?_
            refine lv_aload_n X.x X.b dX8_sum_254 rfl (lv_at hl 3 rfl) ?_
            refine x_get X w (hM 23 (by decide)) rfl in_X8 rfl 9 (by decide) q680 rfl rfl dX8_sum_255 ?_
            refine lv_iload X.x X.b dX8_sum_258 (lv_at hl 1 rfl) ?_
            refine x_lald X w (hM 28 (by decide)) rfl (by decide) o11.1 o11.2 dX8_sum_260 ?_
            refine ra_ladd X.x X.b dX8_sum_261 ?_
            refine lv_goto (tgt := 288) X.x X.b dX8_sum_262 (by decide) ?_
            exact klX8_sum_288 X hr hM kk5 (fun a0 a1 a2 a3 a4 τ H L ls q w h => ih a0 a1 a2 a3 a4 τ H L ls q w h) x1 x2 x4 x5 x6 y12 (((σ 0 28 0 x5.toNat) + (σ 0 28 0 y6.toNat)) + (σ 0 28 0 y8.toNat)) σ _ _ _ hq w (lv_sub hl [3, 4, 5, 6, 7, 8, 0] rfl)
        · have hq := hq.2 c15
          refine lv_aload_n X.x X.b dX8_sum_208 rfl (lv_at hl 3 rfl) ?_
          refine x_get X w (hM 23 (by decide)) rfl in_X8 rfl 8 (by decide) q679 rfl rfl dX8_sum_209 ?_
          refine lv_iload X.x X.b dX8_sum_212 (lv_at hl 7 rfl) ?_
          refine x_lald X w (hM 27 (by decide)) rfl (by decide) o9.1 o9.2 dX8_sum_214 ?_
          refine lv_aload_n X.x X.b dX8_sum_215 rfl (lv_at hl 3 rfl) ?_
          refine x_get X w (hM 23 (by decide)) rfl in_X8 rfl 8 (by decide) q679 rfl rfl dX8_sum_216 ?_
          refine lv_iload X.x X.b dX8_sum_219 (lv_at hl 2 rfl) ?_
          refine x_lald X w (hM 27 (by decide)) rfl (by decide) o10.1 o10.2 dX8_sum_221 ?_
          refine ra_ladd X.x X.b dX8_sum_222 ?_
          refine lv_aload_n X.x X.b dX8_sum_223 rfl (lv_at hl 3 rfl) ?_
          refine x_get X w (hM 23 (by decide)) rfl in_X8 rfl 8 (by decide) q679 rfl rfl dX8_sum_224 ?_
          refine lv_iload X.x X.b dX8_sum_227 (lv_at hl 1 rfl) ?_
          refine x_lald X w (hM 27 (by decide)) rfl (by decide) o11.1 o11.2 dX8_sum_229 ?_
          refine ra_ladd X.x X.b dX8_sum_230 ?_
          refine lv_goto (tgt := 288) X.x X.b dX8_sum_231 (by decide) ?_
          exact klX8_sum_288 X hr hM kk5 (fun a0 a1 a2 a3 a4 τ H L ls q w h => ih a0 a1 a2 a3 a4 τ H L ls q w h) x1 x2 x4 x5 x6 y12 (((σ 0 27 0 x5.toNat) + (σ 0 27 0 y6.toNat)) + (σ 0 27 0 y8.toNat)) σ _ _ _ hq w (lv_sub hl [3, 4, 5, 6, 7, 8, 0] rfl)
      · have hq := hq.2 c14
        refine ra_lconst (z := 1) X.x X.b dX8_sum_200 rfl ?_
        refine lv_goto (tgt := 288) X.x X.b dX8_sum_201 (by decide) ?_
        exact klX8_sum_288 X hr hM kk5 (fun a0 a1 a2 a3 a4 τ H L ls q w h => ih a0 a1 a2 a3 a4 τ H L ls q w h) x1 x2 x4 x5 x6 y12 1 σ _ _ _ hq w (lv_sub hl [3, 4, 5, 6, 7, 8, 0] rfl)
set_option maxHeartbeats 4000000 in
set_option maxRecDepth 100000 in
theorem klX8_sum_5 {l : Launch} {p : Program} {e : Env} {s : State} {m : MethodId} {args : Array Value} {below : List Frame} {meth : Method} {c : Code} {D : va_G} {ids : Ids} {ad : Lay} {cA : Nat → ClassId} {A : Nat → Prop}  {P : Int → Tab → Prop} (X : Cx p m c meth cX8_sum 13 s args RX8 D cA A nwW) (hr : meth.sig.returnType = some .long) (hM : HasM ids) :
    ∀ (n : Nat) (x1 : Int) (x2 : Int) (x4 : Int) (σ : Tab) (H : Heap) (locs : List Loc) (ls : Array Slot), wlX8_sum_5 P n x1 x2 x4 σ → ww D ids ad cA A σ s.heap H locs → lv_has ls 13 [(0, .ref (ad 0 23 0)), (1, vI x1), (2, vL x2), (4, vI x4)] → W p l e rmX8_sum s m args below meth c H locs 0 0 (MQ below (QL D ids ad cA A P) args s 0 0 A) (F0 m 5 ls []) := by
  intro n
  induction n with
  | zero => intro x1 x2 x4 σ H locs ls hq w hl; exact hq.elim
  | succ n ih =>
    intro x1 x2 x4 σ H locs ls hq w hl
    unfold wlX8_sum_5 at hq
    refine lv_iload X.x X.b dX8_sum_5 (lv_at hl 3 rfl) ?_
    refine lv_aload_n X.x X.b dX8_sum_7 rfl (lv_at hl 0 rfl) ?_
    refine x_get X w (hM 23 (by decide)) rfl in_X8 rfl 11 (by decide) q682 rfl rfl dX8_sum_8 ?_
    obtain ⟨o1, hq⟩ := hq
    obtain ⟨o2, hq⟩ := hq
    refine ra_icmp_ge (tgt := 310) X.x X.b o1 o2 dX8_sum_11 (by decide) (fun c3 => ?_) (fun c3 => ?_)
    · have hq := hq.1 c3
      refine lv_lload_n X.x X.b dX8_sum_310 rfl (lv_at hl 2 rfl) ?_
      exact x_lret X hr w hq dX8_sum_311
    · have hq := hq.2 c3
      refine lv_aload_n X.x X.b dX8_sum_14 rfl (lv_at hl 0 rfl) ?_
      refine x_get X w (hM 23 (by decide)) rfl in_X8 rfl 17 (by decide) q688 rfl rfl dX8_sum_15 ?_
      refine ra_bipush X.x X.b dX8_sum_18 rfl ?_
      refine lv_iload X.x X.b dX8_sum_20 (lv_at hl 3 rfl) ?_
      refine ra_imul X.x X.b dX8_sum_22 ?_
      obtain ⟨o4, hq⟩ := hq
      refine x_iald X w (hM 35 (by decide)) rfl (by decide) o4.1 o4.2 dX8_sum_23 ?_
      refine ra_nmI (fun y5 ey5 => ?_)
      have hq := hq y5 ey5
      refine lv_istore (lv' := [(5, vI y5), (0, .ref (ad 0 23 0)), (1, vI x1), (2, vL x2), (4, vI x4)]) X.x X.b dX8_sum_24 hl (by decide) rfl (fun ls hl => ?_)
      refine ra_iconst X.x X.b dX8_sum_26 ?_
      refine lv_istore (lv' := [(6, vI 1), (5, vI y5), (0, .ref (ad 0 23 0)), (1, vI x1), (2, vL x2), (4, vI x4)]) X.x X.b dX8_sum_27 hl (by decide) rfl (fun ls hl => ?_)
      obtain ⟨n6, hq⟩ := hq
      exact klX8_sum_29 X hr hM (fun a0 a1 a2 τ H L ls q w h => ih a0 a1 a2 τ H L ls q w h) n6 x1 x2 x4 y5 1 σ _ _ _ hq w (lv_sub hl [2, 3, 4, 5, 1, 0] rfl)
set_option maxHeartbeats 4000000 in
set_option maxRecDepth 100000 in
theorem mX8_sum (l : Launch) (D : va_G) (ids : Ids) (ad : Lay) (cA : Nat → ClassId) (A : Nat → Prop) (hM : HasM ids) (x1 : Int) (σ : Tab) (P : Int → Tab → Prop) (hq : wpX8_sum x1 σ P) : Met l yX8_sum (ws_ yX8_sum cX8_sum 13 (some .long)) rmX8_sum (PcW D ids ad cA A σ [.ref (ad 0 23 0), vI x1]) (QL D ids ad cA A P) 0 0 A := by
  refine m_entry (own := RX8) (by decide) (Nat.le_of_ble_eq_true rfl) rfl ?_
  intro p e s m below meth c ls X hr w hl
  have hl : lv_has ls 13 [(0, .ref (ad 0 23 0)), (1, vI x1)] := hl
  unfold wpX8_sum at hq
  refine ra_lconst (z := 0) X.x X.b dX8_sum_0 rfl ?_
  refine lv_lstore_n (lv' := [(2, vL 0), (0, .ref (ad 0 23 0)), (1, vI x1)]) X.x X.b dX8_sum_1 rfl hl (by decide) rfl (fun ls hl => ?_)
  refine ra_iconst X.x X.b dX8_sum_2 ?_
  refine lv_istore (lv' := [(4, vI 0), (2, vL 0), (0, .ref (ad 0 23 0)), (1, vI x1)]) X.x X.b dX8_sum_3 hl (by decide) rfl (fun ls hl => ?_)
  obtain ⟨n1, hq⟩ := hq
  exact klX8_sum_5 X hr hM  n1 x1 0 0 σ _ _ _ hq w (lv_sub hl [2, 3, 1, 0] rfl)
end

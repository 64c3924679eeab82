/-! the walk of X2_along X2_tetrahedron X2_stays X2_within X2_faceOf X2_triangle X2_begin (written by wip/D-68248w/tools/genwalk.py) -/
section
def wpX2_along (g : Nat) (x1 : Int) (x2 : Int) (x4 : Int) (x6 : Int) (σ : Tab) (P : Int → Tab → Prop) : Prop := ((0 ≤ x1 ∧ x1 < 24) ∧ (inI (σ g 13 x1.toNat 0) ∧ (inI (σ g 13 x1.toNat 1) ∧ (inI (σ g 13 x1.toNat 2) ∧ P (((x2 * (σ g 13 x1.toNat 0)) + (x4 * (σ g 13 x1.toNat 1))) + (x6 * (σ g 13 x1.toNat 2))) σ))))
abbrev rmX2_along : Room := { frames := 0, cells := 0, slots := 0, locals := 0 }
set_option maxHeartbeats 4000000 in
set_option maxRecDepth 100000 in
theorem mX2_along (l : Launch) (D : va_G) (ids : Ids) (ad : Lay) (cA : Nat → ClassId) (A : Nat → Prop) (g : Nat) (hg : HasH ids g) (x1 : Int) (x2 : Int) (x4 : Int) (x6 : Int) (σ : Tab) (P : Int → Tab → Prop) (hq : wpX2_along g x1 x2 x4 x6 σ P) : Met l yX2_along (ws_ yX2_along cX2_along 8 (some .long)) rmX2_along (PcW D ids ad cA A σ [.ref (ad g 0 0), vI x1, vL x2, vL x4, vL x6]) (QL D ids ad cA A P) 0 0 A := by
  refine m_entry (own := RX2) (by decide) (Nat.le_of_ble_eq_true rfl) rfl ?_
  intro p e s m below meth c ls X hr w hl
  have hl : lv_has ls 8 [(0, .ref (ad g 0 0)), (1, vI x1), (2, vL x2), (4, vL x4), (6, vL x6)] := hl
  unfold wpX2_along at hq
  refine lv_lload_n X.x X.b dX2_along_0 rfl (lv_at hl 2 rfl) ?_
  refine lv_aload_n X.x X.b dX2_along_1 rfl (lv_at hl 0 rfl) ?_
  refine x_get X w (hg 0 0 (by decide)) rfl in_X2 rfl 0 (by decide) q199 rfl rfl dX2_along_2 ?_
  refine lv_iload_n X.x X.b dX2_along_5 rfl (lv_at hl 1 rfl) ?_
  obtain ⟨o1, hq⟩ := hq
  refine x_aald X w (hg 1 0 (by decide)) (.object RX4) rfl rfl rfl (by decide) o1.1 o1.2 rfl dX2_along_6 ?_
  refine x_get X w (hg 13 x1.toNat (tn o1)) rfl in_X4 rfl 0 (by decide) q110 rfl rfl dX2_along_7 ?_
  obtain ⟨o2, hq⟩ := hq
  refine ra_i2l X.x X.b o2 dX2_along_10 ?_
  refine ra_lmul X.x X.b dX2_along_11 ?_
  refine lv_lload X.x X.b dX2_along_12 (lv_at hl 3 rfl) ?_
  refine lv_aload_n X.x X.b dX2_along_14 rfl (lv_at hl 0 rfl) ?_
  refine x_get X w (hg 0 0 (by decide)) rfl in_X2 rfl 0 (by decide) q199 rfl rfl dX2_along_15 ?_
  refine lv_iload_n X.x X.b dX2_along_18 rfl (lv_at hl 1 rfl) ?_
  refine x_aald X w (hg 1 0 (by decide)) (.object RX4) rfl rfl rfl (by decide) o1.1 o1.2 rfl dX2_along_19 ?_
  refine x_get X w (hg 13 x1.toNat (tn o1)) rfl in_X4 rfl 1 (by decide) q113 rfl rfl dX2_along_20 ?_
  obtain ⟨o3, hq⟩ := hq
  refine ra_i2l X.x X.b o3 dX2_along_23 ?_
  refine ra_lmul X.x X.b dX2_along_24 ?_
  refine ra_ladd X.x X.b dX2_along_25 ?_
  refine lv_lload X.x X.b dX2_along_26 (lv_at hl 4 rfl) ?_
  refine lv_aload_n X.x X.b dX2_along_28 rfl (lv_at hl 0 rfl) ?_
  refine x_get X w (hg 0 0 (by decide)) rfl in_X2 rfl 0 (by decide) q199 rfl rfl dX2_along_29 ?_
  refine lv_iload_n X.x X.b dX2_along_32 rfl (lv_at hl 1 rfl) ?_
  refine x_aald X w (hg 1 0 (by decide)) (.object RX4) rfl rfl rfl (by decide) o1.1 o1.2 rfl dX2_along_33 ?_
  refine x_get X w (hg 13 x1.toNat (tn o1)) rfl in_X4 rfl 2 (by decide) q116 rfl rfl dX2_along_34 ?_
  obtain ⟨o4, hq⟩ := hq
  refine ra_i2l X.x X.b o4 dX2_along_37 ?_
  refine ra_lmul X.x X.b dX2_along_38 ?_
  refine ra_ladd X.x X.b dX2_along_39 ?_
  exact x_lret X hr w hq dX2_along_40
def wpX2_tetrahedron (g : Nat) (g1 k1 i1 : Nat) (g2 k2 i2 : Nat) (g3 k3 i3 : Nat) (σ : Tab) (P : Int → Tab → Prop) : Prop := (inI (σ g1 k1 i1 1) ∧ (inI (σ g2 k2 i2 2) ∧ (inI (σ g1 k1 i1 2) ∧ (inI (σ g2 k2 i2 1) ∧ (∀ y5 : Int, y5 = ((σ g1 k1 i1 1) * (σ g2 k2 i2 2)) - ((σ g1 k1 i1 2) * (σ g2 k2 i2 1)) → (inI (σ g2 k2 i2 0) ∧ (inI (σ g1 k1 i1 0) ∧ (∀ y8 : Int, y8 = ((σ g1 k1 i1 2) * (σ g2 k2 i2 0)) - ((σ g1 k1 i1 0) * (σ g2 k2 i2 2)) → (∀ y9 : Int, y9 = ((σ g1 k1 i1 0) * (σ g2 k2 i2 1)) - ((σ g1 k1 i1 1) * (σ g2 k2 i2 0)) → (inI (σ g3 k3 i3 0) ∧ (inI (σ g3 k3 i3 1) ∧ (inI (σ g3 k3 i3 2) ∧ P (((y5 * (σ g3 k3 i3 0)) + (y8 * (σ g3 k3 i3 1))) + (y9 * (σ g3 k3 i3 2))) σ))))))))))))
abbrev rmX2_tetrahedron : Room := { frames := 0, cells := 0, slots := 0, locals := 0 }
set_option maxHeartbeats 4000000 in
set_option maxRecDepth 100000 in
theorem mX2_tetrahedron (l : Launch) (D : va_G) (ids : Ids) (ad : Lay) (cA : Nat → ClassId) (A : Nat → Prop) (g : Nat) (hg : HasH ids g) (g1 k1 i1 : Nat) (d1 : (g1, k1, i1) ∈ ids) (p1 : isPt k1) (g2 k2 i2 : Nat) (d2 : (g2, k2, i2) ∈ ids) (p2 : isPt k2) (g3 k3 i3 : Nat) (d3 : (g3, k3, i3) ∈ ids) (p3 : isPt k3) (σ : Tab) (P : Int → Tab → Prop) (hq : wpX2_tetrahedron g g1 k1 i1 g2 k2 i2 g3 k3 i3 σ P) : Met l yX2_tetrahedron (ws_ yX2_tetrahedron cX2_tetrahedron 10 (some .long)) rmX2_tetrahedron (PcW D ids ad cA A σ [.ref (ad g 0 0), .ref (ad g1 k1 i1), .ref (ad g2 k2 i2), .ref (ad g3 k3 i3)]) (QL D ids ad cA A P) 0 0 A := by
  refine m_entry (own := RX2) (by decide) (Nat.le_of_ble_eq_true rfl) rfl ?_
  intro p e s m below meth c ls X hr w hl
  have hl : lv_has ls 10 [(0, .ref (ad g 0 0)), (1, .ref (ad g1 k1 i1)), (2, .ref (ad g2 k2 i2)), (3, .ref (ad g3 k3 i3))] := hl
  unfold wpX2_tetrahedron at hq
  refine lv_aload_n X.x X.b dX2_tetrahedron_0 rfl (lv_at hl 1 rfl) ?_
  refine x_get X w d1 (ct_pt p1 ad cA _ _ _) in_X4 rfl 1 (by decide) q113 rfl rfl dX2_tetrahedron_1 ?_
  obtain ⟨o1, hq⟩ := hq
  refine ra_i2l X.x X.b o1 dX2_tetrahedron_4 ?_
  refine lv_aload_n X.x X.b dX2_tetrahedron_5 rfl (lv_at hl 2 rfl) ?_
  refine x_get X w d2 (ct_pt p2 ad cA _ _ _) in_X4 rfl 2 (by decide) q116 rfl rfl dX2_tetrahedron_6 ?_
  obtain ⟨o2, hq⟩ := hq
  refine ra_i2l X.x X.b o2 dX2_tetrahedron_9 ?_
  refine ra_lmul X.x X.b dX2_tetrahedron_10 ?_
  refine lv_aload_n X.x X.b dX2_tetrahedron_11 rfl (lv_at hl 1 rfl) ?_
  refine x_get X w d1 (ct_pt p1 ad cA _ _ _) in_X4 rfl 2 (by decide) q116 rfl rfl dX2_tetrahedron_12 ?_
  obtain ⟨o3, hq⟩ := hq
  refine ra_i2l X.x X.b o3 dX2_tetrahedron_15 ?_
  refine lv_aload_n X.x X.b dX2_tetrahedron_16 rfl (lv_at hl 2 rfl) ?_
  refine x_get X w d2 (ct_pt p2 ad cA _ _ _) in_X4 rfl 1 (by decide) q113 rfl rfl dX2_tetrahedron_17 ?_
  obtain ⟨o4, hq⟩ := hq
  refine ra_i2l X.x X.b o4 dX2_tetrahedron_20 ?_
  refine ra_lmul X.x X.b dX2_tetrahedron_21 ?_
  refine ra_lsub X.x X.b dX2_tetrahedron_22 ?_
  refine ra_nmL (fun y5 ey5 => ?_)
  have hq := hq y5 ey5
  refine lv_lstore (lv' := [(4, vL y5), (0, .ref (ad g 0 0)), (1, .ref (ad g1 k1 i1)), (2, .ref (ad g2 k2 i2)), (3, .ref (ad g3 k3 i3))]) X.x X.b dX2_tetrahedron_23 hl (by decide) rfl (fun ls hl => ?_)
  refine lv_aload_n X.x X.b dX2_tetrahedron_25 rfl (lv_at hl 2 rfl) ?_
  refine x_get X w d1 (ct_pt p1 ad cA _ _ _) in_X4 rfl 2 (by decide) q116 rfl rfl dX2_tetrahedron_26 ?_
  refine ra_i2l X.x X.b o3 dX2_tetrahedron_29 ?_
  refine lv_aload_n X.x X.b dX2_tetrahedron_30 rfl (lv_at hl 3 rfl) ?_
  refine x_get X w d2 (ct_pt p2 ad cA _ _ _) in_X4 rfl 0 (by decide) q110 rfl rfl dX2_tetrahedron_31 ?_
  obtain ⟨o6, hq⟩ := hq
  refine ra_i2l X.x X.b o6 dX2_tetrahedron_34 ?_
  refine ra_lmul X.x X.b dX2_tetrahedron_35 ?_
  refine lv_aload_n X.x X.b dX2_tetrahedron_36 rfl (lv_at hl 2 rfl) ?_
  refine x_get X w d1 (ct_pt p1 ad cA _ _ _) in_X4 rfl 0 (by decide) q110 rfl rfl dX2_tetrahedron_37 ?_
  obtain ⟨o7, hq⟩ := hq
  refine ra_i2l X.x X.b o7 dX2_tetrahedron_40 ?_
  refine lv_aload_n X.x X.b dX2_tetrahedron_41 rfl (lv_at hl 3 rfl) ?_
  refine x_get X w d2 (ct_pt p2 ad cA _ _ _) in_X4 rfl 2 (by decide) q116 rfl rfl dX2_tetrahedron_42 ?_
  refine ra_i2l X.x X.b o2 dX2_tetrahedron_45 ?_
  refine ra_lmul X.x X.b dX2_tetrahedron_46 ?_
  refine ra_lsub X.x X.b dX2_tetrahedron_47 ?_
  refine ra_nmL (fun y8 ey8 => ?_)
  have hq := hq y8 ey8
  refine lv_lstore (lv' := [(6, vL y8), (4, vL y5), (0, .ref (ad g 0 0)), (1, .ref (ad g1 k1 i1)), (2, .ref (ad g2 k2 i2)), (3, .ref (ad g3 k3 i3))]) X.x X.b dX2_tetrahedron_48 hl (by decide) rfl (fun ls hl => ?_)
  refine lv_aload_n X.x X.b dX2_tetrahedron_50 rfl (lv_at hl 3 rfl) ?_
  refine x_get X w d1 (ct_pt p1 ad cA _ _ _) in_X4 rfl 0 (by decide) q110 rfl rfl dX2_tetrahedron_51 ?_
  refine ra_i2l X.x X.b o7 dX2_tetrahedron_54 ?_
  refine lv_aload_n X.x X.b dX2_tetrahedron_55 rfl (lv_at hl 4 rfl) ?_
  refine x_get X w d2 (ct_pt p2 ad cA _ _ _) in_X4 rfl 1 (by decide) q113 rfl rfl dX2_tetrahedron_56 ?_
  refine ra_i2l X.x X.b o4 dX2_tetrahedron_59 ?_
  refine ra_lmul X.x X.b dX2_tetrahedron_60 ?_
  refine lv_aload_n X.x X.b dX2_tetrahedron_61 rfl (lv_at hl 3 rfl) ?_
  refine x_get X w d1 (ct_pt p1 ad cA _ _ _) in_X4 rfl 1 (by decide) q113 rfl rfl dX2_tetrahedron_62 ?_
  refine ra_i2l X.x X.b o1 dX2_tetrahedron_65 ?_
  refine lv_aload_n X.x X.b dX2_tetrahedron_66 rfl (lv_at hl 4 rfl) ?_
  refine x_get X w d2 (ct_pt p2 ad cA _ _ _) in_X4 rfl 0 (by decide) q110 rfl rfl dX2_tetrahedron_67 ?_
  refine ra_i2l X.x X.b o6 dX2_tetrahedron_70 ?_
  refine ra_lmul X.x X.b dX2_tetrahedron_71 ?_
  refine ra_lsub X.x X.b dX2_tetrahedron_72 ?_
  refine ra_nmL (fun y9 ey9 => ?_)
  have hq := hq y9 ey9
  refine lv_lstore (lv' := [(8, vL y9), (6, vL y8), (4, vL y5), (0, .ref (ad g 0 0)), (1, .ref (ad g1 k1 i1)), (2, .ref (ad g2 k2 i2)), (3, .ref (ad g3 k3 i3))]) X.x X.b dX2_tetrahedron_73 hl (by decide) rfl (fun ls hl => ?_)
  refine lv_lload X.x X.b dX2_tetrahedron_75 (lv_at hl 2 rfl) ?_
  refine lv_aload_n X.x X.b dX2_tetrahedron_77 rfl (lv_at hl 6 rfl) ?_
  refine x_get X w d3 (ct_pt p3 ad cA _ _ _) in_X4 rfl 0 (by decide) q110 rfl rfl dX2_tetrahedron_78 ?_
  obtain ⟨o10, hq⟩ := hq
  refine ra_i2l X.x X.b o10 dX2_tetrahedron_81 ?_
  refine ra_lmul X.x X.b dX2_tetrahedron_82 ?_
  refine lv_lload X.x X.b dX2_tetrahedron_83 (lv_at hl 1 rfl) ?_
  refine lv_aload_n X.x X.b dX2_tetrahedron_85 rfl (lv_at hl 6 rfl) ?_
  refine x_get X w d3 (ct_pt p3 ad cA _ _ _) in_X4 rfl 1 (by decide) q113 rfl rfl dX2_tetrahedron_86 ?_
  obtain ⟨o11, hq⟩ := hq
  refine ra_i2l X.x X.b o11 dX2_tetrahedron_89 ?_
  refine ra_lmul X.x X.b dX2_tetrahedron_90 ?_
  refine ra_ladd X.x X.b dX2_tetrahedron_91 ?_
  refine lv_lload X.x X.b dX2_tetrahedron_92 (lv_at hl 0 rfl) ?_
  refine lv_aload_n X.x X.b dX2_tetrahedron_94 rfl (lv_at hl 6 rfl) ?_
  refine x_get X w d3 (ct_pt p3 ad cA _ _ _) in_X4 rfl 2 (by decide) q116 rfl rfl dX2_tetrahedron_95 ?_
  obtain ⟨o12, hq⟩ := hq
  refine ra_i2l X.x X.b o12 dX2_tetrahedron_98 ?_
  refine ra_lmul X.x X.b dX2_tetrahedron_99 ?_
  refine ra_ladd X.x X.b dX2_tetrahedron_100 ?_
  exact x_lret X hr w hq dX2_tetrahedron_101
def wlX2_stays_2 (g : Nat) (P : Int → Tab → Prop) : Nat → Int → Int → Int → Tab → Prop
  | 0, _, _, _, _ => False
  | n + 1, x1, x2, x3, σ => (inI x3 ∧ (inI (σ g 0 0 12) ∧ ((σ g 0 0 12 ≤ x3 → P 0 σ) ∧ (¬ (σ g 0 0 12 ≤ x3) → ((0 ≤ x3 ∧ x3 < 128) ∧ (inI (σ g 14 x3.toNat 4) ∧ ((σ g 14 x3.toNat 4 = 0 → wlX2_stays_2 g P n x1 x2 (x3 + 1) σ) ∧ (¬ (σ g 14 x3.toNat 4 = 0) → (inI (σ g 14 x3.toNat 5) ∧ ((σ g 14 x3.toNat 5 ≠ 0 → wlX2_stays_2 g P n x1 x2 (x3 + 1) σ) ∧ (¬ (σ g 14 x3.toNat 5 ≠ 0) → wpX5_goes g x3.toNat x1 x2 σ (fun z9 σ9 => (inI z9 ∧ ((z9 = 0 → wlX2_stays_2 g P n x1 x2 (x3 + 1) σ9) ∧ (¬ (z9 = 0) → P 1 σ9)))))))))))))))
def wpX2_stays (g : Nat) (x1 : Int) (x2 : Int) (σ : Tab) (P : Int → Tab → Prop) : Prop := (∃ k : Nat, wlX2_stays_2 g P k x1 x2 0 σ)
abbrev rmX2_stays : Room := { frames := 1, cells := 0, slots := 0, locals := 22 }
set_option maxHeartbeats 4000000 in
set_option maxRecDepth 100000 in
theorem klX2_stays_2 {l : Launch} {p : Program} {e : Env} {s : State} {m : MethodId} {args : Array Value} {below : List Frame} {meth : Method} {c : Code} {D : va_G} {ids : Ids} {ad : Lay} {cA : Nat → ClassId} {A : Nat → Prop} {g : Nat} {P : Int → Tab → Prop} (X : Cx p m c meth cX2_stays 4 s args RX2 D cA A nwW) (hr : meth.sig.returnType = some .boolean) (hg : HasH ids g) :
    ∀ (n : Nat) (x1 : Int) (x2 : Int) (x3 : Int) (σ : Tab) (H : Heap) (locs : List Loc) (ls : Array Slot), wlX2_stays_2 g P n x1 x2 x3 σ → ww D ids ad cA A σ s.heap H locs → lv_has ls 4 [(0, .ref (ad g 0 0)), (1, vI x1), (2, vI x2), (3, vI x3)] → W p l e rmX2_stays s m args below meth c H locs 0 0 (MQ below (QI D ids ad cA A P) args s 0 0 A) (F0 m 2 ls []) := by
  intro n
  induction n with
  | zero => intro x1 x2 x3 σ H locs ls hq w hl; exact hq.elim
  | succ n ih =>
    intro x1 x2 x3 σ H locs ls hq w hl
    unfold wlX2_stays_2 at hq
    refine lv_iload_n X.x X.b dX2_stays_2 rfl (lv_at hl 3 rfl) ?_
    refine lv_aload_n X.x X.b dX2_stays_3 rfl (lv_at hl 0 rfl) ?_
    refine x_get X w (hg 0 0 (by decide)) rfl in_X2 rfl 12 (by decide) q215 rfl rfl dX2_stays_4 ?_
    obtain ⟨o1, hq⟩ := hq
    obtain ⟨o2, hq⟩ := hq
    refine ra_icmp_ge (tgt := 56) X.x X.b o1 o2 dX2_stays_7 (by decide) (fun c3 => ?_) (fun c3 => ?_)
    · have hq := hq.1 c3
      refine ra_iconst X.x X.b dX2_stays_56 ?_
      exact x_zret X hr w (by decide) hq dX2_stays_57
    · have hq := hq.2 c3
      refine lv_aload_n X.x X.b dX2_stays_10 rfl (lv_at hl 0 rfl) ?_
      refine x_get X w (hg 0 0 (by decide)) rfl in_X2 rfl 1 (by decide) q200 rfl rfl dX2_stays_11 ?_
      refine lv_iload_n X.x X.b dX2_stays_14 rfl (lv_at hl 3 rfl) ?_
      obtain ⟨o4, hq⟩ := hq
      refine x_aald X w (hg 2 0 (by decide)) (.object RX5) rfl rfl rfl (by decide) o4.1 o4.2 rfl dX2_stays_15 ?_
      refine x_get X w (hg 14 x3.toNat (tn o4)) rfl in_X5 rfl 4 (by decide) q139 rfl rfl dX2_stays_16 ?_
      obtain ⟨o5, hq⟩ := hq
      refine ra_if_eq (tgt := 50) X.x X.b o5 dX2_stays_19 (by decide) (fun c6 => ?_) (fun c6 => ?_)
      · have hq := hq.1 c6
        refine lv_iinc (v := Int32.ofInt (x3 + 1)) (lv' := [(3, vI (x3 + 1)), (0, .ref (ad g 0 0)), (1, vI x1), (2, vI x2)]) X.x X.b dX2_stays_50 hl (k := 3) rfl (Int32.ofInt_add _ _).symm (by decide) rfl (fun ls hl => ?_)
        refine lv_goto (tgt := 2) X.x X.b dX2_stays_53 (by decide) ?_
        exact ih x1 x2 (x3 + 1) σ _ _ _ hq w (lv_sub hl [1, 2, 3, 0] rfl)
      · have hq := hq.2 c6
        refine lv_aload_n X.x X.b dX2_stays_22 rfl (lv_at hl 0 rfl) ?_
        refine x_get X w (hg 0 0 (by decide)) rfl in_X2 rfl 1 (by decide) q200 rfl rfl dX2_stays_23 ?_
        refine lv_iload_n X.x X.b dX2_stays_26 rfl (lv_at hl 3 rfl) ?_
        refine x_aald X w (hg 2 0 (by decide)) (.object RX5) rfl rfl rfl (by decide) o4.1 o4.2 rfl dX2_stays_27 ?_
        refine x_get X w (hg 14 x3.toNat (tn o4)) rfl in_X5 rfl 5 (by decide) q140 rfl rfl dX2_stays_28 ?_
        obtain ⟨o7, hq⟩ := hq
        refine ra_if_ne (tgt := 50) X.x X.b o7 dX2_stays_31 (by decide) (fun c8 => ?_) (fun c8 => ?_)
        · have hq := hq.1 c8
          refine lv_iinc (v := Int32.ofInt (x3 + 1)) (lv' := [(3, vI (x3 + 1)), (0, .ref (ad g 0 0)), (1, vI x1), (2, vI x2)]) X.x X.b dX2_stays_50 hl (k := 3) rfl (Int32.ofInt_add _ _).symm (by decide) rfl (fun ls hl => ?_)
          refine lv_goto (tgt := 2) X.x X.b dX2_stays_53 (by decide) ?_
          exact ih x1 x2 (x3 + 1) σ _ _ _ hq w (lv_sub hl [1, 2, 3, 0] rfl)
        · have hq := hq.2 c8
          refine lv_aload_n X.x X.b dX2_stays_34 rfl (lv_at hl 0 rfl) ?_
          refine x_get X w (hg 0 0 (by decide)) rfl in_X2 rfl 1 (by decide) q200 rfl rfl dX2_stays_35 ?_
          refine lv_iload_n X.x X.b dX2_stays_38 rfl (lv_at hl 3 rfl) ?_
          refine x_aald X w (hg 2 0 (by decide)) (.object RX5) rfl rfl rfl (by decide) o4.1 o4.2 rfl dX2_stays_39 ?_
          refine lv_iload_n X.x X.b dX2_stays_40 rfl (lv_at hl 1 rfl) ?_
          refine lv_iload_n X.x X.b dX2_stays_41 rfl (lv_at hl 2 rfl) ?_
          refine x_callVi (n := 2) (As := [vI x1, vI x2]) (rest := []) X w (hg 14 x3.toNat (tn o4)) rfl rfl (mX5_goes l D ids ad cA A g hg x3.toNat (tn o4) x1 x2 σ _ hq) (lw_V q484 q485 q486 q40 q487) ⟨rfl, rfl⟩ (by decide +kernel) ⟨Nat.le_of_ble_eq_true rfl, Nat.le_of_ble_eq_true rfl⟩ ⟨Nat.le_refl _, Nat.le_refl _⟩ rfl hl.1 rfl (Nat.le_of_ble_eq_true rfl) dX2_stays_42 (fun z9 σ9 H locs hq w => ?_)
          obtain ⟨o10, hq⟩ := hq
          refine ra_if_eq (tgt := 50) X.x X.b o10 dX2_stays_45 (by decide) (fun c11 => ?_) (fun c11 => ?_)
          · have hq := hq.1 c11
            refine lv_iinc (v := Int32.ofInt (x3 + 1)) (lv' := [(3, vI (x3 + 1)), (0, .ref (ad g 0 0)), (1, vI x1), (2, vI x2)]) X.x X.b dX2_stays_50 hl (k := 3) rfl (Int32.ofInt_add _ _).symm (by decide) rfl (fun ls hl => ?_)
            refine lv_goto (tgt := 2) X.x X.b dX2_stays_53 (by decide) ?_
            exact ih x1 x2 (x3 + 1) σ9 _ _ _ hq w (lv_sub hl [1, 2, 3, 0] rfl)
          · have hq := hq.2 c11
            refine ra_iconst X.x X.b dX2_stays_48 ?_
            exact x_zret X hr w (by decide) hq dX2_stays_49
set_option maxHeartbeats 4000000 in
set_option maxRecDepth 100000 in
theorem mX2_stays (l : Launch) (D : va_G) (ids : Ids) (ad : Lay) (cA : Nat → ClassId) (A : Nat → Prop) (g : Nat) (hg : HasH ids g) (x1 : Int) (x2 : Int) (σ : Tab) (P : Int → Tab → Prop) (hq : wpX2_stays g x1 x2 σ P) : Met l yX2_stays (ws_ yX2_stays cX2_stays 4 (some .boolean)) rmX2_stays (PcW D ids ad cA A σ [.ref (ad g 0 0), vI x1, vI x2]) (QI D ids ad cA A P) 0 0 A := by
  refine m_entry (own := RX2) (by decide) (Nat.le_of_ble_eq_true rfl) rfl ?_
  intro p e s m below meth c ls X hr w hl
  have hl : lv_has ls 4 [(0, .ref (ad g 0 0)), (1, vI x1), (2, vI x2)] := hl
  unfold wpX2_stays at hq
  refine ra_iconst X.x X.b dX2_stays_0 ?_
  refine lv_istore_n (lv' := [(3, vI 0), (0, .ref (ad g 0 0)), (1, vI x1), (2, vI x2)]) X.x X.b dX2_stays_1 rfl hl (by decide) rfl (fun ls hl => ?_)
  obtain ⟨n1, hq⟩ := hq
  exact klX2_stays_2 X hr hg  n1 x1 x2 0 σ _ _ _ hq w (lv_sub hl [1, 2, 3, 0] rfl)
def wlX2_within_3 (g : Nat) (g1 : Nat) (k1 : Nat) (i1 : Nat) (P : Int → Tab → Prop) : Nat → Int → Int → Int → Tab → Prop
  | 0, _, _, _, _ => False
  | n + 1, x2, x3, x4, σ => (inI x4 ∧ (inI (σ g 0 0 12) ∧ ((σ g 0 0 12 ≤ x4 → P 0 σ) ∧ (¬ (σ g 0 0 12 ≤ x4) → ((0 ≤ x4 ∧ x4 < 128) ∧ (inI (σ g 14 x4.toNat 4) ∧ ((σ g 14 x4.toNat 4 = 0 → wlX2_within_3 g g1 k1 i1 P n x2 x3 (x4 + 1) σ) ∧ (¬ (σ g 14 x4.toNat 4 = 0) → wpX3_same g 15 x4.toNat g1 k1 i1 σ (fun z7 σ7 => (inI z7 ∧ ((z7 = 0 → wlX2_within_3 g g1 k1 i1 P n x2 x3 (x4 + 1) σ7) ∧ (¬ (z7 = 0) → ((0 ≤ x4 ∧ x4 < 128) ∧ wpX5_goes g x4.toNat x2 x3 σ7 (fun z11 σ11 => (inI z11 ∧ ((z11 = 0 → wlX2_within_3 g g1 k1 i1 P n x2 x3 (x4 + 1) σ11) ∧ (¬ (z11 = 0) → P 1 σ11)))))))))))))))))
def wpX2_within (g : Nat) (g1 k1 i1 : Nat) (x2 : Int) (x3 : Int) (σ : Tab) (P : Int → Tab → Prop) : Prop := (∃ k : Nat, wlX2_within_3 g g1 k1 i1 P k x2 x3 0 σ)
abbrev rmX2_within : Room := { frames := 1, cells := 0, slots := 0, locals := 22 }
set_option maxHeartbeats 4000000 in
set_option maxRecDepth 100000 in
theorem klX2_within_3 {l : Launch} {p : Program} {e : Env} {s : State} {m : MethodId} {args : Array Value} {below : List Frame} {meth : Method} {c : Code} {D : va_G} {ids : Ids} {ad : Lay} {cA : Nat → ClassId} {A : Nat → Prop} {g : Nat} {g1 : Nat} {k1 : Nat} {i1 : Nat} {P : Int → Tab → Prop} (X : Cx p m c meth cX2_within 5 s args RX2 D cA A nwW) (hr : meth.sig.returnType = some .boolean) (hg : HasH ids g) (d1 : (g1, k1, i1) ∈ ids) (p1 : isPl k1) :
    ∀ (n : Nat) (x2 : Int) (x3 : Int) (x4 : Int) (σ : Tab) (H : Heap) (locs : List Loc) (ls : Array Slot), wlX2_within_3 g g1 k1 i1 P n x2 x3 x4 σ → ww D ids ad cA A σ s.heap H locs → lv_has ls 5 [(0, .ref (ad g 0 0)), (1, .ref (ad g1 k1 i1)), (2, vI x2), (3, vI x3), (4, vI x4)] → W p l e rmX2_within s m args below meth c H locs 0 0 (MQ below (QI D ids ad cA A P) args s 0 0 A) (F0 m 3 ls []) := by
  intro n
  induction n with
  | zero => intro x2 x3 x4 σ H locs ls hq w hl; exact hq.elim
  | succ n ih =>
    intro x2 x3 x4 σ H locs ls hq w hl
    unfold wlX2_within_3 at hq
    refine lv_iload X.x X.b dX2_within_3 (lv_at hl 4 rfl) ?_
    refine lv_aload_n X.x X.b dX2_within_5 rfl (lv_at hl 0 rfl) ?_
    refine x_get X w (hg 0 0 (by decide)) rfl in_X2 rfl 12 (by decide) q215 rfl rfl dX2_within_6 ?_
    obtain ⟨o1, hq⟩ := hq
    obtain ⟨o2, hq⟩ := hq
    refine ra_icmp_ge (tgt := 65) X.x X.b o1 o2 dX2_within_9 (by decide) (fun c3 => ?_) (fun c3 => ?_)
    · have hq := hq.1 c3
      refine ra_iconst X.x X.b dX2_within_65 ?_
      exact x_zret X hr w (by decide) hq dX2_within_66
    · have hq := hq.2 c3
      refine lv_aload_n X.x X.b dX2_within_12 rfl (lv_at hl 0 rfl) ?_
      refine x_get X w (hg 0 0 (by decide)) rfl in_X2 rfl 1 (by decide) q200 rfl rfl dX2_within_13 ?_
      refine lv_iload X.x X.b dX2_within_16 (lv_at hl 4 rfl) ?_
      obtain ⟨o4, hq⟩ := hq
      refine x_aald X w (hg 2 0 (by decide)) (.object RX5) rfl rfl rfl (by decide) o4.1 o4.2 rfl dX2_within_18 ?_
      refine x_get X w (hg 14 x4.toNat (tn o4)) rfl in_X5 rfl 4 (by decide) q139 rfl rfl dX2_within_19 ?_
      obtain ⟨o5, hq⟩ := hq
      refine ra_if_eq (tgt := 59) X.x X.b o5 dX2_within_22 (by decide) (fun c6 => ?_) (fun c6 => ?_)
      · have hq := hq.1 c6
        refine lv_iinc (v := Int32.ofInt (x4 + 1)) (lv' := [(4, vI (x4 + 1)), (0, .ref (ad g 0 0)), (1, .ref (ad g1 k1 i1)), (2, vI x2), (3, vI x3)]) X.x X.b dX2_within_59 hl (k := 4) rfl (Int32.ofInt_add _ _).symm (by decide) rfl (fun ls hl => ?_)
        refine lv_goto (tgt := 3) X.x X.b dX2_within_62 (by decide) ?_
        exact ih x2 x3 (x4 + 1) σ _ _ _ hq w (lv_sub hl [1, 2, 3, 4, 0] rfl)
      · have hq := hq.2 c6
        refine lv_aload_n X.x X.b dX2_within_25 rfl (lv_at hl 0 rfl) ?_
        refine x_get X w (hg 0 0 (by decide)) rfl in_X2 rfl 1 (by decide) q200 rfl rfl dX2_within_26 ?_
        refine lv_iload X.x X.b dX2_within_29 (lv_at hl 4 rfl) ?_
        refine x_aald X w (hg 2 0 (by decide)) (.object RX5) rfl rfl rfl (by decide) o4.1 o4.2 rfl dX2_within_31 ?_
        refine x_get X w (hg 14 x4.toNat (tn o4)) rfl in_X5 rfl 0 (by decide) q132 rfl rfl dX2_within_32 ?_
        refine lv_aload_n X.x X.b dX2_within_35 rfl (lv_at hl 1 rfl) ?_
        refine x_callVi (n := 1) (As := [.ref (ad g1 k1 i1)]) (rest := []) X w (hg 15 x4.toNat (tn o4)) rfl rfl (mX3_same l D ids ad cA A g 15 x4.toNat (hg 15 x4.toNat (tn o4)) (by unfold isPl; decide) g1 k1 i1 d1 p1 σ _ hq) (lw_V q496 q497 q498 q38 q499) ⟨rfl, rfl⟩ (by decide +kernel) ⟨Nat.le_of_ble_eq_true rfl, Nat.le_of_ble_eq_true rfl⟩ ⟨Nat.le_refl _, Nat.le_refl _⟩ rfl hl.1 rfl (Nat.le_of_ble_eq_true rfl) dX2_within_36 (fun z7 σ7 H locs hq w => ?_)
        obtain ⟨o8, hq⟩ := hq
        refine ra_if_eq (tgt := 59) X.x X.b o8 dX2_within_39 (by decide) (fun c9 => ?_) (fun c9 => ?_)
        · have hq := hq.1 c9
          refine lv_iinc (v := Int32.ofInt (x4 + 1)) (lv' := [(4, vI (x4 + 1)), (0, .ref (ad g 0 0)), (1, .ref (ad g1 k1 i1)), (2, vI x2), (3, vI x3)]) X.x X.b dX2_within_59 hl (k := 4) rfl (Int32.ofInt_add _ _).symm (by decide) rfl (fun ls hl => ?_)
          refine lv_goto (tgt := 3) X.x X.b dX2_within_62 (by decide) ?_
          exact ih x2 x3 (x4 + 1) σ7 _ _ _ hq w (lv_sub hl [1, 2, 3, 4, 0] rfl)
        · have hq := hq.2 c9
          refine lv_aload_n X.x X.b dX2_within_42 rfl (lv_at hl 0 rfl) ?_
          refine x_get X w (hg 0 0 (by decide)) rfl in_X2 rfl 1 (by decide) q200 rfl rfl dX2_within_43 ?_
          refine lv_iload X.x X.b dX2_within_46 (lv_at hl 4 rfl) ?_
          obtain ⟨o10, hq⟩ := hq
          refine x_aald X w (hg 2 0 (by decide)) (.object RX5) rfl rfl rfl (by decide) o10.1 o10.2 rfl dX2_within_48 ?_
          refine lv_iload_n X.x X.b dX2_within_49 rfl (lv_at hl 2 rfl) ?_
          refine lv_iload_n X.x X.b dX2_within_50 rfl (lv_at hl 3 rfl) ?_
          refine x_callVi (n := 2) (As := [vI x2, vI x3]) (rest := []) X w (hg 14 x4.toNat (tn o10)) rfl rfl (mX5_goes l D ids ad cA A g hg x4.toNat (tn o10) x2 x3 σ7 _ hq) (lw_V q484 q485 q486 q40 q487) ⟨rfl, rfl⟩ (by decide +kernel) ⟨Nat.le_of_ble_eq_true rfl, Nat.le_of_ble_eq_true rfl⟩ ⟨Nat.le_refl _, Nat.le_refl _⟩ rfl hl.1 rfl (Nat.le_of_ble_eq_true rfl) dX2_within_51 (fun z11 σ11 H locs hq w => ?_)
          obtain ⟨o12, hq⟩ := hq
          refine ra_if_eq (tgt := 59) X.x X.b o12 dX2_within_54 (by decide) (fun c13 => ?_) (fun c13 => ?_)
          · have hq := hq.1 c13
            refine lv_iinc (v := Int32.ofInt (x4 + 1)) (lv' := [(4, vI (x4 + 1)), (0, .ref (ad g 0 0)), (1, .ref (ad g1 k1 i1)), (2, vI x2), (3, vI x3)]) X.x X.b dX2_within_59 hl (k := 4) rfl (Int32.ofInt_add _ _).symm (by decide) rfl (fun ls hl => ?_)
            refine lv_goto (tgt := 3) X.x X.b dX2_within_62 (by decide) ?_
            exact ih x2 x3 (x4 + 1) σ11 _ _ _ hq w (lv_sub hl [1, 2, 3, 4, 0] rfl)
          · have hq := hq.2 c13
            refine ra_iconst X.x X.b dX2_within_57 ?_
            exact x_zret X hr w (by decide) hq dX2_within_58
set_option maxHeartbeats 4000000 in
set_option maxRecDepth 100000 in
theorem mX2_within (l : Launch) (D : va_G) (ids : Ids) (ad : Lay) (cA : Nat → ClassId) (A : Nat → Prop) (g : Nat) (hg : HasH ids g) (g1 k1 i1 : Nat) (d1 : (g1, k1, i1) ∈ ids) (p1 : isPl k1) (x2 : Int) (x3 : Int) (σ : Tab) (P : Int → Tab → Prop) (hq : wpX2_within g g1 k1 i1 x2 x3 σ P) : Met l yX2_within (ws_ yX2_within cX2_within 5 (some .boolean)) rmX2_within (PcW D ids ad cA A σ [.ref (ad g 0 0), .ref (ad g1 k1 i1), vI x2, vI x3]) (QI D ids ad cA A P) 0 0 A := by
  refine m_entry (own := RX2) (by decide) (Nat.le_of_ble_eq_true rfl) rfl ?_
  intro p e s m below meth c ls X hr w hl
  have hl : lv_has ls 5 [(0, .ref (ad g 0 0)), (1, .ref (ad g1 k1 i1)), (2, vI x2), (3, vI x3)] := hl
  unfold wpX2_within at hq
  refine ra_iconst X.x X.b dX2_within_0 ?_
  refine lv_istore (lv' := [(4, vI 0), (0, .ref (ad g 0 0)), (1, .ref (ad g1 k1 i1)), (2, vI x2), (3, vI x3)]) X.x X.b dX2_within_1 hl (by decide) rfl (fun ls hl => ?_)
  obtain ⟨n1, hq⟩ := hq
  exact klX2_within_3 X hr hg d1 p1  n1 x2 x3 0 σ _ _ _ hq w (lv_sub hl [1, 2, 3, 4, 0] rfl)
def wlX2_faceOf_13 (g : Nat) (P : Int → Tab → Prop) (K2 : Int → Int → Int → Tab → Prop) : Nat → Int → Int → Int → Int → Tab → Prop
  | 0, _, _, _, _, _ => False
  | n + 1, x1, x2, x3, x4, σ => ((0 ≤ x3 ∧ x3 < 44) ∧ ((0 ≤ σ g 3 0 x3.toNat ∧ σ g 3 0 x3.toNat < 44) ∧ (inI x4 ∧ (inI (σ g 16 ((σ g 3 0 x3.toNat).toNat) 2) ∧ ((σ g 16 ((σ g 3 0 x3.toNat).toNat) 2 ≤ x4 → K2 x1 x2 (x3 + 1) σ) ∧ (¬ (σ g 16 ((σ g 3 0 x3.toNat).toNat) 2 ≤ x4) → ((0 ≤ x4 ∧ x4 < 24) ∧ (inI (σ g 18 ((σ g 3 0 x3.toNat).toNat) x4.toNat) ∧ (inI x1 ∧ ((σ g 18 ((σ g 3 0 x3.toNat).toNat) x4.toNat ≠ x1 → wlX2_faceOf_13 g P K2 n x1 x2 x3 (x4 + 1) σ) ∧ (¬ (σ g 18 ((σ g 3 0 x3.toNat).toNat) x4.toNat ≠ x1) → wpX6_next g ((σ g 3 0 x3.toNat).toNat) x4 σ (fun z10 σ10 => (inI z10 ∧ (inI x2 ∧ ((z10 ≠ x2 → wlX2_faceOf_13 g P K2 n x1 x2 x3 (x4 + 1) σ10) ∧ (¬ (z10 ≠ x2) → P x3 σ10))))))))))))))))
def wlX2_faceOf_2 (g : Nat) (P : Int → Tab → Prop) : Nat → Int → Int → Int → Tab → Prop
  | 0, _, _, _, _ => False
  | n + 1, x1, x2, x3, σ => (inI x3 ∧ (inI (σ g 0 0 13) ∧ ((σ g 0 0 13 ≤ x3 → P (-1) σ) ∧ (¬ (σ g 0 0 13 ≤ x3) → (∃ k : Nat, wlX2_faceOf_13 g P (fun x1 x2 x3 τ => wlX2_faceOf_2 g P n x1 x2 x3 τ) k x1 x2 x3 0 σ)))))
def wpX2_faceOf (g : Nat) (x1 : Int) (x2 : Int) (σ : Tab) (P : Int → Tab → Prop) : Prop := (∃ k : Nat, wlX2_faceOf_2 g P k x1 x2 0 σ)
abbrev rmX2_faceOf : Room := { frames := 1, cells := 0, slots := 0, locals := 21 }
set_option maxHeartbeats 4000000 in
set_option maxRecDepth 100000 in
theorem klX2_faceOf_13 {l : Launch} {p : Program} {e : Env} {s : State} {m : MethodId} {args : Array Value} {below : List Frame} {meth : Method} {c : Code} {D : va_G} {ids : Ids} {ad : Lay} {cA : Nat → ClassId} {A : Nat → Prop} {g : Nat} {P : Int → Tab → Prop} {K2 : Int → Int → Int → Tab → Prop} (X : Cx p m c meth cX2_faceOf 5 s args RX2 D cA A nwW) (hr : meth.sig.returnType = some .int) (hg : HasH ids g) (kk2 : ∀ (x1 : Int) (x2 : Int) (x3 : Int) (σ : Tab) (H : Heap) (locs : List Loc) (ls : Array Slot), K2 x1 x2 x3 σ → ww D ids ad cA A σ s.heap H locs → lv_has ls 5 [(0, .ref (ad g 0 0)), (1, vI x1), (2, vI x2), (3, vI x3)] → W p l e rmX2_faceOf s m args below meth c H locs 0 0 (MQ below (QI D ids ad cA A P) args s 0 0 A) (F0 m 2 ls [])) :
    ∀ (n : Nat) (x1 : Int) (x2 : Int) (x3 : Int) (x4 : Int) (σ : Tab) (H : Heap) (locs : List Loc) (ls : Array Slot), wlX2_faceOf_13 g P K2 n x1 x2 x3 x4 σ → ww D ids ad cA A σ s.heap H locs → lv_has ls 5 [(0, .ref (ad g 0 0)), (1, vI x1), (2, vI x2), (3, vI x3), (4, vI x4)] → W p l e rmX2_faceOf s m args below meth c H locs 0 0 (MQ below (QI D ids ad cA A P) args s 0 0 A) (F0 m 13 ls []) := by
  intro n
  induction n with
  | zero => intro x1 x2 x3 x4 σ H locs ls hq w hl; exact hq.elim
  | succ n ih =>
    intro x1 x2 x3 x4 σ H locs ls hq w hl
    unfold wlX2_faceOf_13 at hq
    refine lv_iload X.x X.b dX2_faceOf_13 (lv_at hl 4 rfl) ?_
    refine lv_aload_n X.x X.b dX2_faceOf_15 rfl (lv_at hl 0 rfl) ?_
    refine x_get X w (hg 0 0 (by decide)) rfl in_X2 rfl 2 (by decide) q201 rfl rfl dX2_faceOf_16 ?_
    refine lv_iload_n X.x X.b dX2_faceOf_19 rfl (lv_at hl 3 rfl) ?_
    obtain ⟨o1, hq⟩ := hq
    refine x_aald X w (hg 3 0 (by decide)) (.object RX6) rfl rfl rfl (by decide) o1.1 o1.2 rfl dX2_faceOf_20 ?_
    obtain ⟨o2, hq⟩ := hq
    refine x_get X w (hg 16 ((σ g 3 0 x3.toNat).toNat) (tn o2)) rfl in_X6 rfl 2 (by decide) q168 rfl rfl dX2_faceOf_21 ?_
    obtain ⟨o3, hq⟩ := hq
    obtain ⟨o4, hq⟩ := hq
    refine ra_icmp_ge (tgt := 66) X.x X.b o3 o4 dX2_faceOf_24 (by decide) (fun c5 => ?_) (fun c5 => ?_)
    · have hq := hq.1 c5
      refine lv_iinc (v := Int32.ofInt (x3 + 1)) (lv' := [(3, vI (x3 + 1)), (0, .ref (ad g 0 0)), (1, vI x1), (2, vI x2), (4, vI x4)]) X.x X.b dX2_faceOf_66 hl (k := 3) rfl (Int32.ofInt_add _ _).symm (by decide) rfl (fun ls hl => ?_)
      refine lv_goto (tgt := 2) X.x X.b dX2_faceOf_69 (by decide) ?_
      exact kk2 x1 x2 (x3 + 1) σ _ _ _ hq w (lv_sub hl [1, 2, 3, 0] rfl)
    · have hq := hq.2 c5
      refine lv_aload_n X.x X.b dX2_faceOf_27 rfl (lv_at hl 0 rfl) ?_
      refine x_get X w (hg 0 0 (by decide)) rfl in_X2 rfl 2 (by decide) q201 rfl rfl dX2_faceOf_28 ?_
      refine lv_iload_n X.x X.b dX2_faceOf_31 rfl (lv_at hl 3 rfl) ?_
      refine x_aald X w (hg 3 0 (by decide)) (.object RX6) rfl rfl rfl (by decide) o1.1 o1.2 rfl dX2_faceOf_32 ?_
      refine x_get X w (hg 16 ((σ g 3 0 x3.toNat).toNat) (tn o2)) rfl in_X6 rfl 1 (by decide) q165 rfl rfl dX2_faceOf_33 ?_
      refine lv_iload X.x X.b dX2_faceOf_36 (lv_at hl 4 rfl) ?_
      obtain ⟨o6, hq⟩ := hq
      refine x_iald X w (hg 18 ((σ g 3 0 x3.toNat).toNat) (tn o2)) rfl (by decide) o6.1 o6.2 dX2_faceOf_38 ?_
      refine lv_iload_n X.x X.b dX2_faceOf_39 rfl (lv_at hl 1 rfl) ?_
      obtain ⟨o7, hq⟩ := hq
      obtain ⟨o8, hq⟩ := hq
      refine ra_icmp_ne (tgt := 60) X.x X.b o7 o8 dX2_faceOf_40 (by decide) (fun c9 => ?_) (fun c9 => ?_)
      · have hq := hq.1 c9
        refine lv_iinc (v := Int32.ofInt (x4 + 1)) (lv' := [(4, vI (x4 + 1)), (0, .ref (ad g 0 0)), (1, vI x1), (2, vI x2), (3, vI x3)]) X.x X.b dX2_faceOf_60 hl (k := 4) rfl (Int32.ofInt_add _ _).symm (by decide) rfl (fun ls hl => ?_)
        refine lv_goto (tgt := 13) X.x X.b dX2_faceOf_63 (by decide) ?_
        exact ih x1 x2 x3 (x4 + 1) σ _ _ _ hq w (lv_sub hl [1, 2, 3, 4, 0] rfl)
      · have hq := hq.2 c9
        refine lv_aload_n X.x X.b dX2_faceOf_43 rfl (lv_at hl 0 rfl) ?_
        refine x_get X w (hg 0 0 (by decide)) rfl in_X2 rfl 2 (by decide) q201 rfl rfl dX2_faceOf_44 ?_
        refine lv_iload_n X.x X.b dX2_faceOf_47 rfl (lv_at hl 3 rfl) ?_
        refine x_aald X w (hg 3 0 (by decide)) (.object RX6) rfl rfl rfl (by decide) o1.1 o1.2 rfl dX2_faceOf_48 ?_
        refine lv_iload X.x X.b dX2_faceOf_49 (lv_at hl 4 rfl) ?_
        refine x_callVi (n := 1) (As := [vI x4]) (rest := []) X w (hg 16 ((σ g 3 0 x3.toNat).toNat) (tn o2)) rfl rfl (mX6_next l D ids ad cA A g hg ((σ g 3 0 x3.toNat).toNat) (tn o2) x4 σ _ hq) (lw_V q523 q524 q525 q41 q526) ⟨rfl, rfl⟩ (by decide +kernel) ⟨Nat.le_of_ble_eq_true rfl, Nat.le_of_ble_eq_true rfl⟩ ⟨Nat.le_refl _, Nat.le_refl _⟩ rfl hl.1 rfl (Nat.le_of_ble_eq_true rfl) dX2_faceOf_51 (fun z10 σ10 H locs hq w => ?_)
        refine lv_iload_n X.x X.b dX2_faceOf_54 rfl (lv_at hl 2 rfl) ?_
        obtain ⟨o11, hq⟩ := hq
        obtain ⟨o12, hq⟩ := hq
        refine ra_icmp_ne (tgt := 60) X.x X.b o11 o12 dX2_faceOf_55 (by decide) (fun c13 => ?_) (fun c13 => ?_)
        · have hq := hq.1 c13
          refine lv_iinc (v := Int32.ofInt (x4 + 1)) (lv' := [(4, vI (x4 + 1)), (0, .ref (ad g 0 0)), (1, vI x1), (2, vI x2), (3, vI x3)]) X.x X.b dX2_faceOf_60 hl (k := 4) rfl (Int32.ofInt_add _ _).symm (by decide) rfl (fun ls hl => ?_)
          refine lv_goto (tgt := 13) X.x X.b dX2_faceOf_63 (by decide) ?_
          exact ih x1 x2 x3 (x4 + 1) σ10 _ _ _ hq w (lv_sub hl [1, 2, 3, 4, 0] rfl)
        · have hq := hq.2 c13
          refine lv_iload_n X.x X.b dX2_faceOf_58 rfl (lv_at hl 3 rfl) ?_
          exact x_iret X hr w hq dX2_faceOf_59
set_option maxHeartbeats 4000000 in
set_option maxRecDepth 100000 in
theorem klX2_faceOf_2 {l : Launch} {p : Program} {e : Env} {s : State} {m : MethodId} {args : Array Value} {below : List Frame} {meth : Method} {c : Code} {D : va_G} {ids : Ids} {ad : Lay} {cA : Nat → ClassId} {A : Nat → Prop} {g : Nat} {P : Int → Tab → Prop} (X : Cx p m c meth cX2_faceOf 5 s args RX2 D cA A nwW) (hr : meth.sig.returnType = some .int) (hg : HasH ids g) :
    ∀ (n : Nat) (x1 : Int) (x2 : Int) (x3 : Int) (σ : Tab) (H : Heap) (locs : List Loc) (ls : Array Slot), wlX2_faceOf_2 g P n x1 x2 x3 σ → ww D ids ad cA A σ s.heap H locs → lv_has ls 5 [(0, .ref (ad g 0 0)), (1, vI x1), (2, vI x2), (3, vI x3)] → W p l e rmX2_faceOf s m args below meth c H locs 0 0 (MQ below (QI D ids ad cA A P) args s 0 0 A) (F0 m 2 ls []) := by
  intro n
  induction n with
  | zero => intro x1 x2 x3 σ H locs ls hq w hl; exact hq.elim
  | succ n ih =>
    intro x1 x2 x3 σ H locs ls hq w hl
    unfold wlX2_faceOf_2 at hq
    refine lv_iload_n X.x X.b dX2_faceOf_2 rfl (lv_at hl 3 rfl) ?_
    refine lv_aload_n X.x X.b dX2_faceOf_3 rfl (lv_at hl 0 rfl) ?_
    refine x_get X w (hg 0 0 (by decide)) rfl in_X2 rfl 13 (by decide) q216 rfl rfl dX2_faceOf_4 ?_
    obtain ⟨o1, hq⟩ := hq
    obtain ⟨o2, hq⟩ := hq
    refine ra_icmp_ge (tgt := 72) X.x X.b o1 o2 dX2_faceOf_7 (by decide) (fun c3 => ?_) (fun c3 => ?_)
    · have hq := hq.1 c3
      refine ra_iconst X.x X.b dX2_faceOf_72 ?_
      exact x_iret X hr w hq dX2_faceOf_73
    · have hq := hq.2 c3
      refine ra_iconst X.x X.b dX2_faceOf_10 ?_
      refine lv_istore (lv' := [(4, vI 0), (0, .ref (ad g 0 0)), (1, vI x1), (2, vI x2), (3, vI x3)]) X.x X.b dX2_faceOf_11 hl (by decide) rfl (fun ls hl => ?_)
      obtain ⟨n4, hq⟩ := hq
      exact klX2_faceOf_13 X hr hg (fun a0 a1 a2 τ H L ls q w h => ih a0 a1 a2 τ H L ls q w h) n4 x1 x2 x3 0 σ _ _ _ hq w (lv_sub hl [1, 2, 3, 4, 0] rfl)
set_option maxHeartbeats 4000000 in
set_option maxRecDepth 100000 in
theorem mX2_faceOf (l : Launch) (D : va_G) (ids : Ids) (ad : Lay) (cA : Nat → ClassId) (A : Nat → Prop) (g : Nat) (hg : HasH ids g) (x1 : Int) (x2 : Int) (σ : Tab) (P : Int → Tab → Prop) (hq : wpX2_faceOf g x1 x2 σ P) : Met l yX2_faceOf (ws_ yX2_faceOf cX2_faceOf 5 (some .int)) rmX2_faceOf (PcW D ids ad cA A σ [.ref (ad g 0 0), vI x1, vI x2]) (QI D ids ad cA A P) 0 0 A := by
  refine m_entry (own := RX2) (by decide) (Nat.le_of_ble_eq_true rfl) rfl ?_
  intro p e s m below meth c ls X hr w hl
  have hl : lv_has ls 5 [(0, .ref (ad g 0 0)), (1, vI x1), (2, vI x2)] := hl
  unfold wpX2_faceOf at hq
  refine ra_iconst X.x X.b dX2_faceOf_0 ?_
  refine lv_istore_n (lv' := [(3, vI 0), (0, .ref (ad g 0 0)), (1, vI x1), (2, vI x2)]) X.x X.b dX2_faceOf_1 rfl hl (by decide) rfl (fun ls hl => ?_)
  obtain ⟨n1, hq⟩ := hq
  exact klX2_faceOf_2 X hr hg  n1 x1 x2 0 σ _ _ _ hq w (lv_sub hl [1, 2, 3, 0] rfl)
def wlX2_triangle_50 (g : Nat) (P : Tab → Prop) (x1 : Int) (x2 : Int) (x3 : Int) (x4 : Int) (σ : Tab) : Prop := ((0 ≤ x4 ∧ x4 < 128) ∧ (∀ σ2 : Tab, σ2 = st σ g 14 x4.toNat 1 x1 → (∀ σ3 : Tab, σ3 = st σ2 g 14 x4.toNat 2 x2 → (∀ σ4 : Tab, σ4 = st σ3 g 14 x4.toNat 3 x3 → (∀ σ5 : Tab, σ5 = st σ4 g 14 x4.toNat 4 1 → (∀ σ6 : Tab, σ6 = st σ5 g 14 x4.toNat 5 0 → ((0 ≤ x1 ∧ x1 < 24) ∧ ((0 ≤ x2 ∧ x2 < 24) ∧ ((0 ≤ x3 ∧ x3 < 24) ∧ wpX3_through g 15 x4.toNat g 13 x1.toNat g 13 x2.toNat g 13 x3.toNat σ6 (fun z10 σ10 => P σ10))))))))))
def wlX2_triangle_31 (g : Nat) (P : Tab → Prop) (x1 : Int) (x2 : Int) (x3 : Int) (x4 : Int) (σ : Tab) : Prop := (inI x4 ∧ (inI (σ g 0 0 12) ∧ ((x4 ≠ σ g 0 0 12 → wlX2_triangle_50 g P x1 x2 x3 x4 σ) ∧ (¬ (x4 ≠ σ g 0 0 12) → (∀ σ4 : Tab, σ4 = st σ g 0 0 12 ((σ g 0 0 12) + 1) → wlX2_triangle_50 g P x1 x2 x3 x4 σ4)))))
def wlX2_triangle_3 (g : Nat) (P : Tab → Prop) : Nat → Int → Int → Int → Int → Tab → Prop
  | 0, _, _, _, _, _ => False
  | n + 1, x1, x2, x3, x4, σ => (inI x4 ∧ (inI (σ g 0 0 12) ∧ ((σ g 0 0 12 ≤ x4 → wlX2_triangle_31 g P x1 x2 x3 x4 σ) ∧ (¬ (σ g 0 0 12 ≤ x4) → ((0 ≤ x4 ∧ x4 < 128) ∧ (inI (σ g 14 x4.toNat 4) ∧ ((σ g 14 x4.toNat 4 = 0 → wlX2_triangle_31 g P x1 x2 x3 x4 σ) ∧ (¬ (σ g 14 x4.toNat 4 = 0) → wlX2_triangle_3 g P n x1 x2 x3 (x4 + 1) σ))))))))
def wpX2_triangle (g : Nat) (x1 : Int) (x2 : Int) (x3 : Int) (σ : Tab) (P : Tab → Prop) : Prop := (∃ k : Nat, wlX2_triangle_3 g P k x1 x2 x3 0 σ)
abbrev rmX2_triangle : Room := { frames := 2, cells := 0, slots := 0, locals := 66 }
set_option maxHeartbeats 4000000 in
set_option maxRecDepth 100000 in
theorem klX2_triangle_50 {l : Launch} {p : Program} {e : Env} {s : State} {m : MethodId} {args : Array Value} {below : List Frame} {meth : Method} {c : Code} {D : va_G} {ids : Ids} {ad : Lay} {cA : Nat → ClassId} {A : Nat → Prop} {g : Nat} {P : Tab → Prop} (X : Cx p m c meth cX2_triangle 6 s args RX2 D cA A nwW) (hr : meth.sig.returnType = none) (hg : HasH ids g) :
    ∀ (x1 : Int) (x2 : Int) (x3 : Int) (x4 : Int) (σ : Tab) (H : Heap) (locs : List Loc) (ls : Array Slot), wlX2_triangle_50 g P x1 x2 x3 x4 σ → ww D ids ad cA A σ s.heap H locs → lv_has ls 6 [(0, .ref (ad g 0 0)), (1, vI x1), (2, vI x2), (3, vI x3), (4, vI x4)] → W p l e rmX2_triangle s m args below meth c H locs 0 0 (MQ below (QV D ids ad cA A P) args s 0 0 A) (F0 m 50 ls []) := by
  intro x1 x2 x3 x4 σ H locs ls hq w hl
  unfold wlX2_triangle_50 at hq
  refine lv_aload_n X.x X.b dX2_triangle_50 rfl (lv_at hl 0 rfl) ?_
  refine x_get X w (hg 0 0 (by decide)) rfl in_X2 rfl 1 (by decide) q200 rfl rfl dX2_triangle_51 ?_
  refine lv_iload X.x X.b dX2_triangle_54 (lv_at hl 4 rfl) ?_
  obtain ⟨o1, hq⟩ := hq
  refine x_aald X w (hg 2 0 (by decide)) (.object RX5) rfl rfl rfl (by decide) o1.1 o1.2 rfl dX2_triangle_56 ?_
  refine lv_astore (lv' := [(5, .ref (ad g 14 x4.toNat)), (0, .ref (ad g 0 0)), (1, vI x1), (2, vI x2), (3, vI x3), (4, vI x4)]) X.x X.b dX2_triangle_57 hl (by decide) rfl (fun ls hl => ?_)
  refine lv_aload X.x X.b dX2_triangle_59 (lv_at hl 0 rfl) ?_
  refine lv_iload_n X.x X.b dX2_triangle_61 rfl (lv_at hl 2 rfl) ?_
  refine x_put (z := x1) X w (hg 14 x4.toNat (tn o1)) rfl in_X5 tyX5 tyX5_ok nmX5 rfl 1 (by decide) q134 rfl rfl rfl rfl (Nat.le_of_ble_eq_true rfl) rfl dX2_triangle_62 (fun σ2 H locs eσ2 w => ?_)
  have hq := hq σ2 eσ2
  refine lv_aload X.x X.b dX2_triangle_65 (lv_at hl 0 rfl) ?_
  refine lv_iload_n X.x X.b dX2_triangle_67 rfl (lv_at hl 3 rfl) ?_
  refine x_put (z := x2) X w (hg 14 x4.toNat (tn o1)) rfl in_X5 tyX5 tyX5_ok nmX5 rfl 2 (by decide) q136 rfl rfl rfl rfl (Nat.le_of_ble_eq_true rfl) rfl dX2_triangle_68 (fun σ3 H locs eσ3 w => ?_)
  have hq := hq σ3 eσ3
  refine lv_aload X.x X.b dX2_triangle_71 (lv_at hl 0 rfl) ?_
  refine lv_iload_n X.x X.b dX2_triangle_73 rfl (lv_at hl 4 rfl) ?_
  refine x_put (z := x3) X w (hg 14 x4.toNat (tn o1)) rfl in_X5 tyX5 tyX5_ok nmX5 rfl 3 (by decide) q138 rfl rfl rfl rfl (Nat.le_of_ble_eq_true rfl) rfl dX2_triangle_74 (fun σ4 H locs eσ4 w => ?_)
  have hq := hq σ4 eσ4
  refine lv_aload X.x X.b dX2_triangle_77 (lv_at hl 0 rfl) ?_
  refine ra_iconst X.x X.b dX2_triangle_79 ?_
  refine x_put (z := 1) X w (hg 14 x4.toNat (tn o1)) rfl in_X5 tyX5 tyX5_ok nmX5 rfl 4 (by decide) q139 rfl rfl (by decide) (by decide) (Nat.le_of_ble_eq_true rfl) rfl dX2_triangle_80 (fun σ5 H locs eσ5 w => ?_)
  have hq := hq σ5 eσ5
  refine lv_aload X.x X.b dX2_triangle_83 (lv_at hl 0 rfl) ?_
  refine ra_iconst X.x X.b dX2_triangle_85 ?_
  refine x_put (z := 0) X w (hg 14 x4.toNat (tn o1)) rfl in_X5 tyX5 tyX5_ok nmX5 rfl 5 (by decide) q140 rfl rfl (by decide) (by decide) (Nat.le_of_ble_eq_true rfl) rfl dX2_triangle_86 (fun σ6 H locs eσ6 w => ?_)
  have hq := hq σ6 eσ6
  refine lv_aload X.x X.b dX2_triangle_89 (lv_at hl 0 rfl) ?_
  refine x_get X w (hg 14 x4.toNat (tn o1)) rfl in_X5 rfl 0 (by decide) q132 rfl rfl dX2_triangle_91 ?_
  refine lv_aload_n X.x X.b dX2_triangle_94 rfl (lv_at hl 1 rfl) ?_
  refine x_get X w (hg 0 0 (by decide)) rfl in_X2 rfl 0 (by decide) q199 rfl rfl dX2_triangle_95 ?_
  refine lv_iload_n X.x X.b dX2_triangle_98 rfl (lv_at hl 2 rfl) ?_
  obtain ⟨o7, hq⟩ := hq
  refine x_aald X w (hg 1 0 (by decide)) (.object RX4) rfl rfl rfl (by decide) o7.1 o7.2 rfl dX2_triangle_99 ?_
  refine lv_aload_n X.x X.b dX2_triangle_100 rfl (lv_at hl 1 rfl) ?_
  refine x_get X w (hg 0 0 (by decide)) rfl in_X2 rfl 0 (by decide) q199 rfl rfl dX2_triangle_101 ?_
  refine lv_iload_n X.x X.b dX2_triangle_104 rfl (lv_at hl 3 rfl) ?_
  obtain ⟨o8, hq⟩ := hq
  refine x_aald X w (hg 1 0 (by decide)) (.object RX4) rfl rfl rfl (by decide) o8.1 o8.2 rfl dX2_triangle_105 ?_
  refine lv_aload_n X.x X.b dX2_triangle_106 rfl (lv_at hl 1 rfl) ?_
  refine x_get X w (hg 0 0 (by decide)) rfl in_X2 rfl 0 (by decide) q199 rfl rfl dX2_triangle_107 ?_
  refine lv_iload_n X.x X.b dX2_triangle_110 rfl (lv_at hl 4 rfl) ?_
  obtain ⟨o9, hq⟩ := hq
  refine x_aald X w (hg 1 0 (by decide)) (.object RX4) rfl rfl rfl (by decide) o9.1 o9.2 rfl dX2_triangle_111 ?_
  refine x_callVi (n := 3) (As := [.ref (ad g 13 x1.toNat), .ref (ad g 13 x2.toNat), .ref (ad g 13 x3.toNat)]) (rest := []) X w (hg 15 x4.toNat (tn o1)) rfl rfl (mX3_through l D ids ad cA A g 15 x4.toNat (hg 15 x4.toNat (tn o1)) (by unfold isPl; decide) g 13 x1.toNat (hg 13 x1.toNat (tn o7)) (by unfold isPt; decide) g 13 x2.toNat (hg 13 x2.toNat (tn o8)) (by unfold isPt; decide) g 13 x3.toNat (hg 13 x3.toNat (tn o9)) (by unfold isPt; decide) σ6 _ hq) (lw_V q452 q453 q454 q38 q455) ⟨rfl, rfl⟩ (by decide +kernel) ⟨Nat.le_of_ble_eq_true rfl, Nat.le_of_ble_eq_true rfl⟩ ⟨Nat.le_refl _, Nat.le_refl _⟩ rfl hl.1 rfl (Nat.le_of_ble_eq_true rfl) dX2_triangle_112 (fun z10 σ10 H locs hq w => ?_)
  refine lv_pop X.x X.b dX2_triangle_115 rfl ?_
  exact x_vret X hr w hq dX2_triangle_116
set_option maxHeartbeats 4000000 in
set_option maxRecDepth 100000 in
theorem klX2_triangle_31 {l : Launch} {p : Program} {e : Env} {s : State} {m : MethodId} {args : Array Value} {below : List Frame} {meth : Method} {c : Code} {D : va_G} {ids : Ids} {ad : Lay} {cA : Nat → ClassId} {A : Nat → Prop} {g : Nat} {P : Tab → Prop} (X : Cx p m c meth cX2_triangle 6 s args RX2 D cA A nwW) (hr : meth.sig.returnType = none) (hg : HasH ids g) :
    ∀ (x1 : Int) (x2 : Int) (x3 : Int) (x4 : Int) (σ : Tab) (H : Heap) (locs : List Loc) (ls : Array Slot), wlX2_triangle_31 g P x1 x2 x3 x4 σ → ww D ids ad cA A σ s.heap H locs → lv_has ls 6 [(0, .ref (ad g 0 0)), (1, vI x1), (2, vI x2), (3, vI x3), (4, vI x4)] → W p l e rmX2_triangle s m args below meth c H locs 0 0 (MQ below (QV D ids ad cA A P) args s 0 0 A) (F0 m 31 ls []) := by
  intro x1 x2 x3 x4 σ H locs ls hq w hl
  unfold wlX2_triangle_31 at hq
  refine lv_iload X.x X.b dX2_triangle_31 (lv_at hl 4 rfl) ?_
  refine lv_aload_n X.x X.b dX2_triangle_33 rfl (lv_at hl 0 rfl) ?_
  refine x_get X w (hg 0 0 (by decide)) rfl in_X2 rfl 12 (by decide) q215 rfl rfl dX2_triangle_34 ?_
  obtain ⟨o1, hq⟩ := hq
  obtain ⟨o2, hq⟩ := hq
  refine ra_icmp_ne (tgt := 50) X.x X.b o1 o2 dX2_triangle_37 (by decide) (fun c3 => ?_) (fun c3 => ?_)
  · have hq := hq.1 c3
    exact klX2_triangle_50 X hr hg  x1 x2 x3 x4 σ _ _ _ hq w (lv_sub hl [0, 1, 2, 3, 4] rfl)
  · have hq := hq.2 c3
    refine lv_aload_n X.x X.b dX2_triangle_40 rfl (lv_at hl 0 rfl) ?_
    refine lv_dup X.x X.b dX2_triangle_41 rfl ?_
    refine x_get X w (hg 0 0 (by decide)) rfl in_X2 rfl 12 (by decide) q215 rfl rfl dX2_triangle_42 ?_
    refine ra_iconst X.x X.b dX2_triangle_45 ?_
    refine ra_iadd X.x X.b dX2_triangle_46 ?_
    refine x_put (z := ((σ g 0 0 12) + 1)) X w (hg 0 0 (by decide)) rfl in_X2 tyX2 tyX2_ok nmX2 rfl 12 (by decide) q215 rfl rfl rfl rfl (Nat.le_of_ble_eq_true rfl) rfl dX2_triangle_47 (fun σ4 H locs eσ4 w => ?_)
    have hq := hq σ4 eσ4
    exact klX2_triangle_50 X hr hg  x1 x2 x3 x4 σ4 _ _ _ hq w (lv_sub hl [0, 1, 2, 3, 4] rfl)
set_option maxHeartbeats 4000000 in
set_option maxRecDepth 100000 in
theorem klX2_triangle_3 {l : Launch} {p : Program} {e : Env} {s : State} {m : MethodId} {args : Array Value} {below : List Frame} {meth : Method} {c : Code} {D : va_G} {ids : Ids} {ad : Lay} {cA : Nat → ClassId} {A : Nat → Prop} {g : Nat} {P : Tab → Prop} (X : Cx p m c meth cX2_triangle 6 s args RX2 D cA A nwW) (hr : meth.sig.returnType = none) (hg : HasH ids g) :
    ∀ (n : Nat) (x1 : Int) (x2 : Int) (x3 : Int) (x4 : Int) (σ : Tab) (H : Heap) (locs : List Loc) (ls : Array Slot), wlX2_triangle_3 g P n x1 x2 x3 x4 σ → ww D ids ad cA A σ s.heap H locs → lv_has ls 6 [(0, .ref (ad g 0 0)), (1, vI x1), (2, vI x2), (3, vI x3), (4, vI x4)] → W p l e rmX2_triangle s m args below meth c H locs 0 0 (MQ below (QV D ids ad cA A P) args s 0 0 A) (F0 m 3 ls []) := by
  intro n
  induction n with
  | zero => intro x1 x2 x3 x4 σ H locs ls hq w hl; exact hq.elim
  | succ n ih =>
    intro x1 x2 x3 x4 σ H locs ls hq w hl
    unfold wlX2_triangle_3 at hq
    refine lv_iload X.x X.b dX2_triangle_3 (lv_at hl 4 rfl) ?_
    refine lv_aload_n X.x X.b dX2_triangle_5 rfl (lv_at hl 0 rfl) ?_
    refine x_get X w (hg 0 0 (by decide)) rfl in_X2 rfl 12 (by decide) q215 rfl rfl dX2_triangle_6 ?_
    obtain ⟨o1, hq⟩ := hq
    obtain ⟨o2, hq⟩ := hq
    refine ra_icmp_ge (tgt := 31) X.x X.b o1 o2 dX2_triangle_9 (by decide) (fun c3 => ?_) (fun c3 => ?_)
    · have hq := hq.1 c3
      exact klX2_triangle_31 X hr hg  x1 x2 x3 x4 σ _ _ _ hq w (lv_sub hl [0, 1, 2, 3, 4] rfl)
    · have hq := hq.2 c3
      refine lv_aload_n X.x X.b dX2_triangle_12 rfl (lv_at hl 0 rfl) ?_
      refine x_get X w (hg 0 0 (by decide)) rfl in_X2 rfl 1 (by decide) q200 rfl rfl dX2_triangle_13 ?_
      refine lv_iload X.x X.b dX2_triangle_16 (lv_at hl 4 rfl) ?_
      obtain ⟨o4, hq⟩ := hq
      refine x_aald X w (hg 2 0 (by decide)) (.object RX5) rfl rfl rfl (by decide) o4.1 o4.2 rfl dX2_triangle_18 ?_
      refine x_get X w (hg 14 x4.toNat (tn o4)) rfl in_X5 rfl 4 (by decide) q139 rfl rfl dX2_triangle_19 ?_
      obtain ⟨o5, hq⟩ := hq
      refine ra_if_eq (tgt := 31) X.x X.b o5 dX2_triangle_22 (by decide) (fun c6 => ?_) (fun c6 => ?_)
      · have hq := hq.1 c6
        exact klX2_triangle_31 X hr hg  x1 x2 x3 x4 σ _ _ _ hq w (lv_sub hl [0, 1, 2, 3, 4] rfl)
      · have hq := hq.2 c6
        refine lv_iinc (v := Int32.ofInt (x4 + 1)) (lv' := [(4, vI (x4 + 1)), (0, .ref (ad g 0 0)), (1, vI x1), (2, vI x2), (3, vI x3)]) X.x X.b dX2_triangle_25 hl (k := 4) rfl (Int32.ofInt_add _ _).symm (by decide) rfl (fun ls hl => ?_)
        refine lv_goto (tgt := 3) X.x X.b dX2_triangle_28 (by decide) ?_
        exact ih x1 x2 x3 (x4 + 1) σ _ _ _ hq w (lv_sub hl [1, 2, 3, 4, 0] rfl)
set_option maxHeartbeats 4000000 in
set_option maxRecDepth 100000 in
theorem mX2_triangle (l : Launch) (D : va_G) (ids : Ids) (ad : Lay) (cA : Nat → ClassId) (A : Nat → Prop) (g : Nat) (hg : HasH ids g) (x1 : Int) (x2 : Int) (x3 : Int) (σ : Tab) (P : Tab → Prop) (hq : wpX2_triangle g x1 x2 x3 σ P) : Met l yX2_triangle (ws_ yX2_triangle cX2_triangle 6 (none)) rmX2_triangle (PcW D ids ad cA A σ [.ref (ad g 0 0), vI x1, vI x2, vI x3]) (QV D ids ad cA A P) 0 0 A := by
  refine m_entry (own := RX2) (by decide) (Nat.le_of_ble_eq_true rfl) rfl ?_
  intro p e s m below meth c ls X hr w hl
  have hl : lv_has ls 6 [(0, .ref (ad g 0 0)), (1, vI x1), (2, vI x2), (3, vI x3)] := hl
  unfold wpX2_triangle at hq
  refine ra_iconst X.x X.b dX2_triangle_0 ?_
  refine lv_istore (lv' := [(4, vI 0), (0, .ref (ad g 0 0)), (1, vI x1), (2, vI x2), (3, vI x3)]) X.x X.b dX2_triangle_1 hl (by decide) rfl (fun ls hl => ?_)
  obtain ⟨n1, hq⟩ := hq
  exact klX2_triangle_3 X hr hg  n1 x1 x2 x3 0 σ _ _ _ hq w (lv_sub hl [1, 2, 3, 4, 0] rfl)
def wlX2_begin_147 (g : Nat) (P : Int → Tab → Prop) (x2 : Int) (x3 : Int) (x5 : Int) (y0 : Int) (σ : Tab) : Prop := wpX2_triangle g 0 x5 y0 σ (fun σ1 => wpX2_triangle g 0 y0 x3 σ1 (fun σ2 => wpX2_triangle g y0 x5 x3 σ2 (fun σ3 => wpX2_triangle g x5 0 x3 σ3 (fun σ4 => (∀ σ5 : Tab, σ5 = st σ4 g 6 0 0 x2 → P x3 σ5)))))
def wlX2_begin_123 (g : Nat) (P : Int → Tab → Prop) (x1 : Int) (x2 : Int) (x3 : Int) (y0 : Int) (σ : Tab) : Prop := (inI y0 ∧ ((y0 = 0 → ((y0 = 0 → wlX2_begin_147 g P x2 x3 x1 x2 σ) ∧ (¬ (y0 = 0) → wlX2_begin_147 g P x2 x3 x1 x1 σ))) ∧ (¬ (y0 = 0) → ((y0 = 0 → wlX2_begin_147 g P x2 x3 x2 x2 σ) ∧ (¬ (y0 = 0) → wlX2_begin_147 g P x2 x3 x2 x1 σ)))))
def wlX2_begin_90 (g : Nat) (P : Int → Tab → Prop) (x1 : Int) (x2 : Int) (x3 : Int) (σ : Tab) : Prop := (inI x3 ∧ (inI (σ g 0 0 11) ∧ ((x3 < σ g 0 0 11 → ((0 ≤ x3 ∧ x3 < 24) ∧ wpX3_above g 12 0 g 13 x3.toNat σ (fun z5 σ5 => (inL z5 ∧ ((z5 ≤ 0 → wlX2_begin_123 g P x1 x2 x3 0 σ5) ∧ (¬ (z5 ≤ 0) → wlX2_begin_123 g P x1 x2 x3 1 σ5)))))) ∧ (¬ (x3 < σ g 0 0 11) → P (-1) σ))))
def wlX2_begin_58 (g : Nat) (P : Int → Tab → Prop) : Nat → Int → Int → Int → Tab → Prop
  | 0, _, _, _, _ => False
  | n + 1, x1, x2, x3, σ => (inI x3 ∧ (inI (σ g 0 0 11) ∧ ((σ g 0 0 11 ≤ x3 → wlX2_begin_90 g P x1 x2 x3 σ) ∧ (¬ (σ g 0 0 11 ≤ x3) → ((0 ≤ x3 ∧ x3 < 24) ∧ wpX3_above g 12 0 g 13 x3.toNat σ (fun z5 σ5 => (inL z5 ∧ ((z5 ≠ 0 → wlX2_begin_90 g P x1 x2 x3 σ5) ∧ (¬ (z5 ≠ 0) → wlX2_begin_58 g P n x1 x2 (x3 + 1) σ5)))))))))
def wlX2_begin_46 (g : Nat) (P : Int → Tab → Prop) (x1 : Int) (x2 : Int) (σ : Tab) : Prop := (inI x2 ∧ (inI (σ g 0 0 11) ∧ ((x2 < σ g 0 0 11 → (∃ k : Nat, wlX2_begin_58 g P k x1 x2 2 σ)) ∧ (¬ (x2 < σ g 0 0 11) → P (-1) σ))))
def wlX2_begin_4 (g : Nat) (P : Int → Tab → Prop) : Nat → Int → Int → Tab → Prop
  | 0, _, _, _ => False
  | n + 1, x1, x2, σ => (inI x2 ∧ (inI (σ g 0 0 11) ∧ ((σ g 0 0 11 ≤ x2 → wlX2_begin_46 g P x1 x2 σ) ∧ (¬ (σ g 0 0 11 ≤ x2) → ((0 ≤ x1 ∧ x1 < 24) ∧ ((0 ≤ x2 ∧ x2 < 24) ∧ wpX3_through g 12 0 g 13 0 g 13 x1.toNat g 13 x2.toNat σ (fun z6 σ6 => (inI z6 ∧ ((z6 ≠ 0 → wlX2_begin_46 g P x1 x2 σ6) ∧ (¬ (z6 ≠ 0) → wlX2_begin_4 g P n x1 (x2 + 1) σ6))))))))))
def wpX2_begin (g : Nat) (σ : Tab) (P : Int → Tab → Prop) : Prop := (∃ k : Nat, wlX2_begin_4 g P k 1 2 σ)
abbrev rmX2_begin : Room := { frames := 3, cells := 0, slots := 0, locals := 91 }
set_option maxHeartbeats 4000000 in
set_option maxRecDepth 100000 in
theorem klX2_begin_147 {l : Launch} {p : Program} {e : Env} {s : State} {m : MethodId} {args : Array Value} {below : List Frame} {meth : Method} {c : Code} {D : va_G} {ids : Ids} {ad : Lay} {cA : Nat → ClassId} {A : Nat → Prop} {g : Nat} {P : Int → Tab → Prop} (X : Cx p m c meth cX2_begin 7 s args RX2 D cA A nwW) (hr : meth.sig.returnType = some .int) (hg : HasH ids g) :
    ∀ (x2 : Int) (x3 : Int) (x5 : Int) (y0 : Int) (σ : Tab) (H : Heap) (locs : List Loc) (ls : Array Slot), wlX2_begin_147 g P x2 x3 x5 y0 σ → ww D ids ad cA A σ s.heap H locs → lv_has ls 7 [(0, .ref (ad g 0 0)), (2, vI x2), (3, vI x3), (5, vI x5)] → W p l e rmX2_begin s m args below meth c H locs 0 0 (MQ below (QI D ids ad cA A P) args s 0 0 A) (F0 m 147 ls [vI y0]) := by
  intro x2 x3 x5 y0 σ H locs ls hq w hl
  unfold wlX2_begin_147 at hq
  refine lv_istore (lv' := [(6, vI y0), (0, .ref (ad g 0 0)), (2, vI x2), (3, vI x3), (5, vI x5)]) X.x X.b dX2_begin_147 hl (by decide) rfl (fun ls hl => ?_)
  refine lv_aload_n X.x X.b dX2_begin_149 rfl (lv_at hl 1 rfl) ?_
  refine ra_iconst X.x X.b dX2_begin_150 ?_
  refine lv_iload X.x X.b dX2_begin_151 (lv_at hl 4 rfl) ?_
  refine lv_iload X.x X.b dX2_begin_153 (lv_at hl 0 rfl) ?_
  refine x_callVv (n := 3) (As := [vI 0, vI x5, vI y0]) (rest := []) X w (hg 0 0 (by decide)) rfl rfl (mX2_triangle l D ids ad cA A g hg 0 x5 y0 σ _ hq) (lw_V q467 q469 qs3 q37 q470) ⟨rfl, rfl⟩ (by decide +kernel) ⟨Nat.le_of_ble_eq_true rfl, Nat.le_of_ble_eq_true rfl⟩ ⟨Nat.le_refl _, Nat.le_refl _⟩ rfl hl.1 rfl (Nat.le_of_ble_eq_true rfl) dX2_begin_155 (fun σ1 H locs hq w => ?_)
  refine lv_aload_n X.x X.b dX2_begin_158 rfl (lv_at hl 1 rfl) ?_
  refine ra_iconst X.x X.b dX2_begin_159 ?_
  refine lv_iload X.x X.b dX2_begin_160 (lv_at hl 0 rfl) ?_
  refine lv_iload_n X.x X.b dX2_begin_162 rfl (lv_at hl 3 rfl) ?_
  refine x_callVv (n := 3) (As := [vI 0, vI y0, vI x3]) (rest := []) X w (hg 0 0 (by decide)) rfl rfl (mX2_triangle l D ids ad cA A g hg 0 y0 x3 σ1 _ hq) (lw_V q467 q469 qs3 q37 q470) ⟨rfl, rfl⟩ (by decide +kernel) ⟨Nat.le_of_ble_eq_true rfl, Nat.le_of_ble_eq_true rfl⟩ ⟨Nat.le_refl _, Nat.le_refl _⟩ rfl hl.1 rfl (Nat.le_of_ble_eq_true rfl) dX2_begin_163 (fun σ2 H locs hq w => ?_)
  refine lv_aload_n X.x X.b dX2_begin_166 rfl (lv_at hl 1 rfl) ?_
  refine lv_iload X.x X.b dX2_begin_167 (lv_at hl 0 rfl) ?_
  refine lv_iload X.x X.b dX2_begin_169 (lv_at hl 4 rfl) ?_
  refine lv_iload_n X.x X.b dX2_begin_171 rfl (lv_at hl 3 rfl) ?_
  refine x_callVv (n := 3) (As := [vI y0, vI x5, vI x3]) (rest := []) X w (hg 0 0 (by decide)) rfl rfl (mX2_triangle l D ids ad cA A g hg y0 x5 x3 σ2 _ hq) (lw_V q467 q469 qs3 q37 q470) ⟨rfl, rfl⟩ (by decide +kernel) ⟨Nat.le_of_ble_eq_true rfl, Nat.le_of_ble_eq_true rfl⟩ ⟨Nat.le_refl _, Nat.le_refl _⟩ rfl hl.1 rfl (Nat.le_of_ble_eq_true rfl) dX2_begin_172 (fun σ3 H locs hq w => ?_)
  refine lv_aload_n X.x X.b dX2_begin_175 rfl (lv_at hl 1 rfl) ?_
  refine lv_iload X.x X.b dX2_begin_176 (lv_at hl 4 rfl) ?_
  refine ra_iconst X.x X.b dX2_begin_178 ?_
  refine lv_iload_n X.x X.b dX2_begin_179 rfl (lv_at hl 3 rfl) ?_
  refine x_callVv (n := 3) (As := [vI x5, vI 0, vI x3]) (rest := []) X w (hg 0 0 (by decide)) rfl rfl (mX2_triangle l D ids ad cA A g hg x5 0 x3 σ3 _ hq) (lw_V q467 q469 qs3 q37 q470) ⟨rfl, rfl⟩ (by decide +kernel) ⟨Nat.le_of_ble_eq_true rfl, Nat.le_of_ble_eq_true rfl⟩ ⟨Nat.le_refl _, Nat.le_refl _⟩ rfl hl.1 rfl (Nat.le_of_ble_eq_true rfl) dX2_begin_180 (fun σ4 H locs hq w => ?_)
  refine lv_aload_n X.x X.b dX2_begin_183 rfl (lv_at hl 1 rfl) ?_
  refine x_get X w (hg 0 0 (by decide)) rfl in_X2 rfl 5 (by decide) q206 rfl rfl dX2_begin_184 ?_
  refine ra_iconst X.x X.b dX2_begin_187 ?_
  refine lv_iload_n X.x X.b dX2_begin_188 rfl (lv_at hl 2 rfl) ?_
  refine x_iast X w (hg 6 0 (by decide)) (fun _ => rfl) (by decide) (by decide) (by decide) dX2_begin_189 (fun σ5 H locs eσ5 w => ?_)
  have hq := hq σ5 eσ5
  refine lv_iload_n X.x X.b dX2_begin_190 rfl (lv_at hl 3 rfl) ?_
  exact x_iret X hr w hq dX2_begin_191
set_option maxHeartbeats 4000000 in
set_option maxRecDepth 100000 in
theorem klX2_begin_123 {l : Launch} {p : Program} {e : Env} {s : State} {m : MethodId} {args : Array Value} {below : List Frame} {meth : Method} {c : Code} {D : va_G} {ids : Ids} {ad : Lay} {cA : Nat → ClassId} {A : Nat → Prop} {g : Nat} {P : Int → Tab → Prop} (X : Cx p m c meth cX2_begin 7 s args RX2 D cA A nwW) (hr : meth.sig.returnType = some .int) (hg : HasH ids g) :
    ∀ (x1 : Int) (x2 : Int) (x3 : Int) (y0 : Int) (σ : Tab) (H : Heap) (locs : List Loc) (ls : Array Slot), wlX2_begin_123 g P x1 x2 x3 y0 σ → ww D ids ad cA A σ s.heap H locs → lv_has ls 7 [(0, .ref (ad g 0 0)), (1, vI x1), (2, vI x2), (3, vI x3)] → W p l e rmX2_begin s m args below meth c H locs 0 0 (MQ below (QI D ids ad cA A P) args s 0 0 A) (F0 m 123 ls [vI y0]) := by
  intro x1 x2 x3 y0 σ H locs ls hq w hl
  unfold wlX2_begin_123 at hq
  refine lv_istore (lv' := [(4, vI y0), (0, .ref (ad g 0 0)), (1, vI x1), (2, vI x2), (3, vI x3)]) X.x X.b dX2_begin_123 hl (by decide) rfl (fun ls hl => ?_)
  refine lv_iload X.x X.b dX2_begin_125 (lv_at hl 0 rfl) ?_
  obtain ⟨o1, hq⟩ := hq
  refine ra_if_eq (tgt := 134) X.x X.b o1 dX2_begin_127 (by decide) (fun c2 => ?_) (fun c2 => ?_)
  · have hq := hq.1 c2
    refine lv_iload_n X.x X.b dX2_begin_134 rfl (lv_at hl 2 rfl) ?_
    refine lv_istore (lv' := [(5, vI x1), (4, vI y0), (0, .ref (ad g 0 0)), (1, vI x1), (2, vI x2), (3, vI x3)]) X.x X.b dX2_begin_135 hl (by decide) rfl (fun ls hl => ?_)
    refine lv_iload X.x X.b dX2_begin_137 (lv_at hl 1 rfl) ?_
    refine ra_if_eq (tgt := 146) X.x X.b o1 dX2_begin_139 (by decide) (fun c3 => ?_) (fun c3 => ?_)
    · have hq := hq.1 c3
      refine lv_iload_n X.x X.b dX2_begin_146 rfl (lv_at hl 4 rfl) ?_
      exact klX2_begin_147 X hr hg  x2 x3 x1 x2 σ _ _ _ hq w (lv_sub hl [2, 4, 5, 0] rfl)
    · have hq := hq.2 c3
      refine lv_iload_n X.x X.b dX2_begin_142 rfl (lv_at hl 3 rfl) ?_
      refine lv_goto (tgt := 147) X.x X.b dX2_begin_143 (by decide) ?_
      exact klX2_begin_147 X hr hg  x2 x3 x1 x1 σ _ _ _ hq w (lv_sub hl [2, 4, 5, 0] rfl)
  · have hq := hq.2 c2
    refine lv_iload_n X.x X.b dX2_begin_130 rfl (lv_at hl 3 rfl) ?_
    refine lv_goto (tgt := 135) X.x X.b dX2_begin_131 (by decide) ?_
    refine lv_istore (lv' := [(5, vI x2), (4, vI y0), (0, .ref (ad g 0 0)), (1, vI x1), (2, vI x2), (3, vI x3)]) X.x X.b dX2_begin_135 hl (by decide) rfl (fun ls hl => ?_)
    refine lv_iload X.x X.b dX2_begin_137 (lv_at hl 1 rfl) ?_
    refine ra_if_eq (tgt := 146) X.x X.b o1 dX2_begin_139 (by decide) (fun c4 => ?_) (fun c4 => ?_)
    · have hq := hq.1 c4
      refine lv_iload_n X.x X.b dX2_begin_146 rfl (lv_at hl 4 rfl) ?_
      exact klX2_begin_147 X hr hg  x2 x3 x2 x2 σ _ _ _ hq w (lv_sub hl [2, 4, 5, 0] rfl)
    · have hq := hq.2 c4
      refine lv_iload_n X.x X.b dX2_begin_142 rfl (lv_at hl 3 rfl) ?_
      refine lv_goto (tgt := 147) X.x X.b dX2_begin_143 (by decide) ?_
      exact klX2_begin_147 X hr hg  x2 x3 x2 x1 σ _ _ _ hq w (lv_sub hl [2, 4, 5, 0] rfl)
set_option maxHeartbeats 4000000 in
set_option maxRecDepth 100000 in
theorem klX2_begin_90 {l : Launch} {p : Program} {e : Env} {s : State} {m : MethodId} {args : Array Value} {below : List Frame} {meth : Method} {c : Code} {D : va_G} {ids : Ids} {ad : Lay} {cA : Nat → ClassId} {A : Nat → Prop} {g : Nat} {P : Int → Tab → Prop} (X : Cx p m c meth cX2_begin 7 s args RX2 D cA A nwW) (hr : meth.sig.returnType = some .int) (hg : HasH ids g) :
    ∀ (x1 : Int) (x2 : Int) (x3 : Int) (σ : Tab) (H : Heap) (locs : List Loc) (ls : Array Slot), wlX2_begin_90 g P x1 x2 x3 σ → ww D ids ad cA A σ s.heap H locs → lv_has ls 7 [(0, .ref (ad g 0 0)), (1, vI x1), (2, vI x2), (3, vI x3)] → W p l e rmX2_begin s m args below meth c H locs 0 0 (MQ below (QI D ids ad cA A P) args s 0 0 A) (F0 m 90 ls []) := by
  intro x1 x2 x3 σ H locs ls hq w hl
  unfold wlX2_begin_90 at hq
  refine lv_iload_n X.x X.b dX2_begin_90 rfl (lv_at hl 3 rfl) ?_
  refine lv_aload_n X.x X.b dX2_begin_91 rfl (lv_at hl 0 rfl) ?_
  refine x_get X w (hg 0 0 (by decide)) rfl in_X2 rfl 11 (by decide) q214 rfl rfl dX2_begin_92 ?_
  obtain ⟨o1, hq⟩ := hq
  obtain ⟨o2, hq⟩ := hq
  refine ra_icmp_lt (tgt := 100) X.x X.b o1 o2 dX2_begin_95 (by decide) (fun c3 => ?_) (fun c3 => ?_)
  · have hq := hq.1 c3
    refine lv_aload_n X.x X.b dX2_begin_100 rfl (lv_at hl 0 rfl) ?_
    refine x_get X w (hg 0 0 (by decide)) rfl in_X2 rfl 10 (by decide) q213 rfl rfl dX2_begin_101 ?_
    refine lv_aload_n X.x X.b dX2_begin_104 rfl (lv_at hl 0 rfl) ?_
    refine x_get X w (hg 0 0 (by decide)) rfl in_X2 rfl 0 (by decide) q199 rfl rfl dX2_begin_105 ?_
    refine lv_iload_n X.x X.b dX2_begin_108 rfl (lv_at hl 3 rfl) ?_
    obtain ⟨o4, hq⟩ := hq
    refine x_aald X w (hg 1 0 (by decide)) (.object RX4) rfl rfl rfl (by decide) o4.1 o4.2 rfl dX2_begin_109 ?_
    refine x_callVl (n := 1) (As := [.ref (ad g 13 x3.toNat)]) (rest := []) X w (hg 12 0 (by decide)) rfl rfl (mX3_above l D ids ad cA A g 12 0 (hg 12 0 (by decide)) (by unfold isPl; decide) g 13 x3.toNat (hg 13 x3.toNat (tn o4)) (by unfold isPt; decide) σ _ hq) (lw_V q459 q460 q461 q38 q462) ⟨rfl, rfl⟩ (by decide +kernel) ⟨Nat.le_of_ble_eq_true rfl, Nat.le_of_ble_eq_true rfl⟩ ⟨Nat.le_refl _, Nat.le_refl _⟩ rfl hl.1 rfl (Nat.le_of_ble_eq_true rfl) dX2_begin_110 (fun z5 σ5 H locs hq w => ?_)
    refine ra_lconst (z := 0) X.x X.b dX2_begin_113 rfl ?_
    obtain ⟨o6, hq⟩ := hq
    refine ra_lcmp_le (tgt := 122) X.x X.b o6 ⟨by decide, by decide⟩ dX2_begin_114 dX2_begin_115 (by decide) (fun c7 => ?_) (fun c7 => ?_)
    · have hq := hq.1 c7
      refine ra_iconst X.x X.b dX2_begin_122 ?_
      exact klX2_begin_123 X hr hg  x1 x2 x3 0 σ5 _ _ _ hq w (lv_sub hl [0, 1, 2, 3] rfl)
    · have hq := hq.2 c7
      refine ra_iconst X.x X.b dX2_begin_118 ?_
      refine lv_goto (tgt := 123) X.x X.b dX2_begin_119 (by decide) ?_
      exact klX2_begin_123 X hr hg  x1 x2 x3 1 σ5 _ _ _ hq w (lv_sub hl [0, 1, 2, 3] rfl)
  · have hq := hq.2 c3
    refine ra_iconst X.x X.b dX2_begin_98 ?_
    exact x_iret X hr w hq dX2_begin_99
set_option maxHeartbeats 4000000 in
set_option maxRecDepth 100000 in
theorem klX2_begin_58 {l : Launch} {p : Program} {e : Env} {s : State} {m : MethodId} {args : Array Value} {below : List Frame} {meth : Method} {c : Code} {D : va_G} {ids : Ids} {ad : Lay} {cA : Nat → ClassId} {A : Nat → Prop} {g : Nat} {P : Int → Tab → Prop} (X : Cx p m c meth cX2_begin 7 s args RX2 D cA A nwW) (hr : meth.sig.returnType = some .int) (hg : HasH ids g) :
    ∀ (n : Nat) (x1 : Int) (x2 : Int) (x3 : Int) (σ : Tab) (H : Heap) (locs : List Loc) (ls : Array Slot), wlX2_begin_58 g P n x1 x2 x3 σ → ww D ids ad cA A σ s.heap H locs → lv_has ls 7 [(0, .ref (ad g 0 0)), (1, vI x1), (2, vI x2), (3, vI x3)] → W p l e rmX2_begin s m args below meth c H locs 0 0 (MQ below (QI D ids ad cA A P) args s 0 0 A) (F0 m 58 ls []) := by
  intro n
  induction n with
  | zero => intro x1 x2 x3 σ H locs ls hq w hl; exact hq.elim
  | succ n ih =>
    intro x1 x2 x3 σ H locs ls hq w hl
    unfold wlX2_begin_58 at hq
    refine lv_iload_n X.x X.b dX2_begin_58 rfl (lv_at hl 3 rfl) ?_
    refine lv_aload_n X.x X.b dX2_begin_59 rfl (lv_at hl 0 rfl) ?_
    refine x_get X w (hg 0 0 (by decide)) rfl in_X2 rfl 11 (by decide) q214 rfl rfl dX2_begin_60 ?_
    obtain ⟨o1, hq⟩ := hq
    obtain ⟨o2, hq⟩ := hq
    refine ra_icmp_ge (tgt := 90) X.x X.b o1 o2 dX2_begin_63 (by decide) (fun c3 => ?_) (fun c3 => ?_)
    · have hq := hq.1 c3
      exact klX2_begin_90 X hr hg  x1 x2 x3 σ _ _ _ hq w (lv_sub hl [0, 1, 2, 3] rfl)
    · have hq := hq.2 c3
      refine lv_aload_n X.x X.b dX2_begin_66 rfl (lv_at hl 0 rfl) ?_
      refine x_get X w (hg 0 0 (by decide)) rfl in_X2 rfl 10 (by decide) q213 rfl rfl dX2_begin_67 ?_
      refine lv_aload_n X.x X.b dX2_begin_70 rfl (lv_at hl 0 rfl) ?_
      refine x_get X w (hg 0 0 (by decide)) rfl in_X2 rfl 0 (by decide) q199 rfl rfl dX2_begin_71 ?_
      refine lv_iload_n X.x X.b dX2_begin_74 rfl (lv_at hl 3 rfl) ?_
      obtain ⟨o4, hq⟩ := hq
      refine x_aald X w (hg 1 0 (by decide)) (.object RX4) rfl rfl rfl (by decide) o4.1 o4.2 rfl dX2_begin_75 ?_
      refine x_callVl (n := 1) (As := [.ref (ad g 13 x3.toNat)]) (rest := []) X w (hg 12 0 (by decide)) rfl rfl (mX3_above l D ids ad cA A g 12 0 (hg 12 0 (by decide)) (by unfold isPl; decide) g 13 x3.toNat (hg 13 x3.toNat (tn o4)) (by unfold isPt; decide) σ _ hq) (lw_V q459 q460 q461 q38 q462) ⟨rfl, rfl⟩ (by decide +kernel) ⟨Nat.le_of_ble_eq_true rfl, Nat.le_of_ble_eq_true rfl⟩ ⟨Nat.le_refl _, Nat.le_refl _⟩ rfl hl.1 rfl (Nat.le_of_ble_eq_true rfl) dX2_begin_76 (fun z5 σ5 H locs hq w => ?_)
      refine ra_lconst (z := 0) X.x X.b dX2_begin_79 rfl ?_
      obtain ⟨o6, hq⟩ := hq
      refine ra_lcmp_ne (tgt := 90) X.x X.b o6 ⟨by decide, by decide⟩ dX2_begin_80 dX2_begin_81 (by decide) (fun c7 => ?_) (fun c7 => ?_)
      · have hq := hq.1 c7
        exact klX2_begin_90 X hr hg  x1 x2 x3 σ5 _ _ _ hq w (lv_sub hl [0, 1, 2, 3] rfl)
      · have hq := hq.2 c7
        refine lv_iinc (v := Int32.ofInt (x3 + 1)) (lv' := [(3, vI (x3 + 1)), (0, .ref (ad g 0 0)), (1, vI x1), (2, vI x2)]) X.x X.b dX2_begin_84 hl (k := 3) rfl (Int32.ofInt_add _ _).symm (by decide) rfl (fun ls hl => ?_)
        refine lv_goto (tgt := 58) X.x X.b dX2_begin_87 (by decide) ?_
        exact ih x1 x2 (x3 + 1) σ5 _ _ _ hq w (lv_sub hl [1, 2, 3, 0] rfl)
set_option maxHeartbeats 4000000 in
set_option maxRecDepth 100000 in
theorem klX2_begin_46 {l : Launch} {p : Program} {e : Env} {s : State} {m : MethodId} {args : Array Value} {below : List Frame} {meth : Method} {c : Code} {D : va_G} {ids : Ids} {ad : Lay} {cA : Nat → ClassId} {A : Nat → Prop} {g : Nat} {P : Int → Tab → Prop} (X : Cx p m c meth cX2_begin 7 s args RX2 D cA A nwW) (hr : meth.sig.returnType = some .int) (hg : HasH ids g) :
    ∀ (x1 : Int) (x2 : Int) (σ : Tab) (H : Heap) (locs : List Loc) (ls : Array Slot), wlX2_begin_46 g P x1 x2 σ → ww D ids ad cA A σ s.heap H locs → lv_has ls 7 [(0, .ref (ad g 0 0)), (1, vI x1), (2, vI x2)] → W p l e rmX2_begin s m args below meth c H locs 0 0 (MQ below (QI D ids ad cA A P) args s 0 0 A) (F0 m 46 ls []) := by
  intro x1 x2 σ H locs ls hq w hl
  unfold wlX2_begin_46 at hq
  refine lv_iload_n X.x X.b dX2_begin_46 rfl (lv_at hl 2 rfl) ?_
  refine lv_aload_n X.x X.b dX2_begin_47 rfl (lv_at hl 0 rfl) ?_
  refine x_get X w (hg 0 0 (by decide)) rfl in_X2 rfl 11 (by decide) q214 rfl rfl dX2_begin_48 ?_
  obtain ⟨o1, hq⟩ := hq
  obtain ⟨o2, hq⟩ := hq
  refine ra_icmp_lt (tgt := 56) X.x X.b o1 o2 dX2_begin_51 (by decide) (fun c3 => ?_) (fun c3 => ?_)
  · have hq := hq.1 c3
    refine ra_iconst X.x X.b dX2_begin_56 ?_
    refine lv_istore_n (lv' := [(3, vI 2), (0, .ref (ad g 0 0)), (1, vI x1), (2, vI x2)]) X.x X.b dX2_begin_57 rfl hl (by decide) rfl (fun ls hl => ?_)
    obtain ⟨n4, hq⟩ := hq
    exact klX2_begin_58 X hr hg  n4 x1 x2 2 σ _ _ _ hq w (lv_sub hl [1, 2, 3, 0] rfl)
  · have hq := hq.2 c3
    refine ra_iconst X.x X.b dX2_begin_54 ?_
    exact x_iret X hr w hq dX2_begin_55
set_option maxHeartbeats 4000000 in
set_option maxRecDepth 100000 in
theorem klX2_begin_4 {l : Launch} {p : Program} {e : Env} {s : State} {m : MethodId} {args : Array Value} {below : List Frame} {meth : Method} {c : Code} {D : va_G} {ids : Ids} {ad : Lay} {cA : Nat → ClassId} {A : Nat → Prop} {g : Nat} {P : Int → Tab → Prop} (X : Cx p m c meth cX2_begin 7 s args RX2 D cA A nwW) (hr : meth.sig.returnType = some .int) (hg : HasH ids g) :
    ∀ (n : Nat) (x1 : Int) (x2 : Int) (σ : Tab) (H : Heap) (locs : List Loc) (ls : Array Slot), wlX2_begin_4 g P n x1 x2 σ → ww D ids ad cA A σ s.heap H locs → lv_has ls 7 [(0, .ref (ad g 0 0)), (1, vI x1), (2, vI x2)] → W p l e rmX2_begin s m args below meth c H locs 0 0 (MQ below (QI D ids ad cA A P) args s 0 0 A) (F0 m 4 ls []) := by
  intro n
  induction n with
  | zero => intro x1 x2 σ H locs ls hq w hl; exact hq.elim
  | succ n ih =>
    intro x1 x2 σ H locs ls hq w hl
    unfold wlX2_begin_4 at hq
    refine lv_iload_n X.x X.b dX2_begin_4 rfl (lv_at hl 2 rfl) ?_
    refine lv_aload_n X.x X.b dX2_begin_5 rfl (lv_at hl 0 rfl) ?_
    refine x_get X w (hg 0 0 (by decide)) rfl in_X2 rfl 11 (by decide) q214 rfl rfl dX2_begin_6 ?_
    obtain ⟨o1, hq⟩ := hq
    obtain ⟨o2, hq⟩ := hq
    refine ra_icmp_ge (tgt := 46) X.x X.b o1 o2 dX2_begin_9 (by decide) (fun c3 => ?_) (fun c3 => ?_)
    · have hq := hq.1 c3
      exact klX2_begin_46 X hr hg  x1 x2 σ _ _ _ hq w (lv_sub hl [0, 1, 2] rfl)
    · have hq := hq.2 c3
      refine lv_aload_n X.x X.b dX2_begin_12 rfl (lv_at hl 0 rfl) ?_
      refine x_get X w (hg 0 0 (by decide)) rfl in_X2 rfl 10 (by decide) q213 rfl rfl dX2_begin_13 ?_
      refine lv_aload_n X.x X.b dX2_begin_16 rfl (lv_at hl 0 rfl) ?_
      refine x_get X w (hg 0 0 (by decide)) rfl in_X2 rfl 0 (by decide) q199 rfl rfl dX2_begin_17 ?_
      refine ra_iconst X.x X.b dX2_begin_20 ?_
      refine x_aald X w (hg 1 0 (by decide)) (.object RX4) rfl rfl rfl (by decide) (by decide) (by decide) rfl dX2_begin_21 ?_
      refine lv_aload_n X.x X.b dX2_begin_22 rfl (lv_at hl 0 rfl) ?_
      refine x_get X w (hg 0 0 (by decide)) rfl in_X2 rfl 0 (by decide) q199 rfl rfl dX2_begin_23 ?_
      refine lv_iload_n X.x X.b dX2_begin_26 rfl (lv_at hl 1 rfl) ?_
      obtain ⟨o4, hq⟩ := hq
      refine x_aald X w (hg 1 0 (by decide)) (.object RX4) rfl rfl rfl (by decide) o4.1 o4.2 rfl dX2_begin_27 ?_
      refine lv_aload_n X.x X.b dX2_begin_28 rfl (lv_at hl 0 rfl) ?_
      refine x_get X w (hg 0 0 (by decide)) rfl in_X2 rfl 0 (by decide) q199 rfl rfl dX2_begin_29 ?_
      refine lv_iload_n X.x X.b dX2_begin_32 rfl (lv_at hl 2 rfl) ?_
      obtain ⟨o5, hq⟩ := hq
      refine x_aald X w (hg 1 0 (by decide)) (.object RX4) rfl rfl rfl (by decide) o5.1 o5.2 rfl dX2_begin_33 ?_
      refine x_callVi (n := 3) (As := [.ref (ad g 13 0), .ref (ad g 13 x1.toNat), .ref (ad g 13 x2.toNat)]) (rest := []) X w (hg 12 0 (by decide)) rfl rfl (mX3_through l D ids ad cA A g 12 0 (hg 12 0 (by decide)) (by unfold isPl; decide) g 13 0 (hg 13 0 (by decide)) (by unfold isPt; decide) g 13 x1.toNat (hg 13 x1.toNat (tn o4)) (by unfold isPt; decide) g 13 x2.toNat (hg 13 x2.toNat (tn o5)) (by unfold isPt; decide) σ _ hq) (lw_V q452 q453 q454 q38 q455) ⟨rfl, rfl⟩ (by decide +kernel) ⟨Nat.le_of_ble_eq_true rfl, Nat.le_of_ble_eq_true rfl⟩ ⟨Nat.le_refl _, Nat.le_refl _⟩ rfl hl.1 rfl (Nat.le_of_ble_eq_true rfl) dX2_begin_34 (fun z6 σ6 H locs hq w => ?_)
      obtain ⟨o7, hq⟩ := hq
      refine ra_if_ne (tgt := 46) X.x X.b o7 dX2_begin_37 (by decide) (fun c8 => ?_) (fun c8 => ?_)
      · have hq := hq.1 c8
        exact klX2_begin_46 X hr hg  x1 x2 σ6 _ _ _ hq w (lv_sub hl [0, 1, 2] rfl)
      · have hq := hq.2 c8
        refine lv_iinc (v := Int32.ofInt (x2 + 1)) (lv' := [(2, vI (x2 + 1)), (0, .ref (ad g 0 0)), (1, vI x1)]) X.x X.b dX2_begin_40 hl (k := 2) rfl (Int32.ofInt_add _ _).symm (by decide) rfl (fun ls hl => ?_)
        refine lv_goto (tgt := 4) X.x X.b dX2_begin_43 (by decide) ?_
        exact ih x1 (x2 + 1) σ6 _ _ _ hq w (lv_sub hl [1, 2, 0] rfl)
set_option maxHeartbeats 4000000 in
set_option maxRecDepth 100000 in
theorem mX2_begin (l : Launch) (D : va_G) (ids : Ids) (ad : Lay) (cA : Nat → ClassId) (A : Nat → Prop) (g : Nat) (hg : HasH ids g) (σ : Tab) (P : Int → Tab → Prop) (hq : wpX2_begin g σ P) : Met l yX2_begin (ws_ yX2_begin cX2_begin 7 (some .int)) rmX2_begin (PcW D ids ad cA A σ [.ref (ad g 0 0)]) (QI D ids ad cA A P) 0 0 A := by
  refine m_entry (own := RX2) (by decide) (Nat.le_of_ble_eq_true rfl) rfl ?_
  intro p e s m below meth c ls X hr w hl
  have hl : lv_has ls 7 [(0, .ref (ad g 0 0))] := hl
  unfold wpX2_begin at hq
  refine ra_iconst X.x X.b dX2_begin_0 ?_
  refine lv_istore_n (lv' := [(1, vI 1), (0, .ref (ad g 0 0))]) X.x X.b dX2_begin_1 rfl hl (by decide) rfl (fun ls hl => ?_)
  refine ra_iconst X.x X.b dX2_begin_2 ?_
  refine lv_istore_n (lv' := [(2, vI 2), (1, vI 1), (0, .ref (ad g 0 0))]) X.x X.b dX2_begin_3 rfl hl (by decide) rfl (fun ls hl => ?_)
  obtain ⟨n1, hq⟩ := hq
  exact klX2_begin_4 X hr hg  n1 1 2 σ _ _ _ hq w (lv_sub hl [2, 1, 0] rfl)
end

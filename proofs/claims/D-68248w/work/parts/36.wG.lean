/-! the walk of X8_across X8_above X8_common X8_knownFace X8_addFace X8_tries X8_in X8_goesOn X8_behind X8_walk (written by wip/D-68248w/tools/genwalk.py) -/
section
def wpX8_across (x1 : Int) (x2 : Int) (x3 : Int) (σ : Tab) (P : Tab → Prop) : Prop := ((0 ≤ x2 ∧ x2 < 24) ∧ ((0 ≤ x1 ∧ x1 < 24) ∧ (∀ y3 : Int, y3 = (σ 0 27 0 x2.toNat) - (σ 0 27 0 x1.toNat) → (∀ y4 : Int, y4 = (σ 0 28 0 x2.toNat) - (σ 0 28 0 x1.toNat) → (∀ y5 : Int, y5 = (σ 0 29 0 x2.toNat) - (σ 0 29 0 x1.toNat) → ((0 ≤ x3 ∧ x3 < 24) ∧ (∀ y7 : Int, y7 = (σ 0 27 0 x3.toNat) - (σ 0 27 0 x1.toNat) → (∀ y8 : Int, y8 = (σ 0 28 0 x3.toNat) - (σ 0 28 0 x1.toNat) → (∀ y9 : Int, y9 = (σ 0 29 0 x3.toNat) - (σ 0 29 0 x1.toNat) → (∀ σ10 : Tab, σ10 = st σ 0 23 0 23 ((y4 * y9) - (y5 * y8)) → (∀ σ11 : Tab, σ11 = st σ10 0 23 0 24 ((y5 * y7) - (y3 * y9)) → (∀ σ12 : Tab, σ12 = st σ11 0 23 0 25 ((y3 * y8) - (y4 * y7)) → P σ12))))))))))))
abbrev rmX8_across : Room := { frames := 0, cells := 0, slots := 0, locals := 0 }
set_option maxHeartbeats 4000000 in
set_option maxRecDepth 100000 in
theorem mX8_across (l : Launch) (D : va_G) (ids : Ids) (ad : Lay) (cA : Nat → ClassId) (A : Nat → Prop) (hM : HasM ids) (x1 : Int) (x2 : Int) (x3 : Int) (σ : Tab) (P : Tab → Prop) (hq : wpX8_across x1 x2 x3 σ P) : Met l yX8_across (ws_ yX8_across cX8_across 16 (none)) rmX8_across (PcW D ids ad cA A σ [.ref (ad 0 23 0), vI x1, vI x2, vI x3]) (QV D ids ad cA A P) 0 0 A := by
  refine m_entry (own := RX8) (by decide) (Nat.le_of_ble_eq_true rfl) rfl ?_
  intro p e s m below meth c ls X hr w hl
  have hl : lv_has ls 16 [(0, .ref (ad 0 23 0)), (1, vI x1), (2, vI x2), (3, vI x3)] := hl
  unfold wpX8_across at hq
  refine lv_aload_n X.x X.b dX8_across_0 rfl (lv_at hl 0 rfl) ?_
  refine x_get X w (hM 23 (by decide)) rfl in_X8 rfl 8 (by decide) q679 rfl rfl dX8_across_1 ?_
  refine lv_iload_n X.x X.b dX8_across_4 rfl (lv_at hl 2 rfl) ?_
  obtain ⟨o1, hq⟩ := hq
  refine x_lald X w (hM 27 (by decide)) rfl (by decide) o1.1 o1.2 dX8_across_5 ?_
  refine lv_aload_n X.x X.b dX8_across_6 rfl (lv_at hl 0 rfl) ?_
  refine x_get X w (hM 23 (by decide)) rfl in_X8 rfl 8 (by decide) q679 rfl rfl dX8_across_7 ?_
  refine lv_iload_n X.x X.b dX8_across_10 rfl (lv_at hl 1 rfl) ?_
  obtain ⟨o2, hq⟩ := hq
  refine x_lald X w (hM 27 (by decide)) rfl (by decide) o2.1 o2.2 dX8_across_11 ?_
  refine ra_lsub X.x X.b dX8_across_12 ?_
  refine ra_nmL (fun y3 ey3 => ?_)
  have hq := hq y3 ey3
  refine lv_lstore (lv' := [(4, vL y3), (0, .ref (ad 0 23 0)), (1, vI x1), (2, vI x2), (3, vI x3)]) X.x X.b dX8_across_13 hl (by decide) rfl (fun ls hl => ?_)
  refine lv_aload_n X.x X.b dX8_across_15 rfl (lv_at hl 1 rfl) ?_
  refine x_get X w (hM 23 (by decide)) rfl in_X8 rfl 9 (by decide) q680 rfl rfl dX8_across_16 ?_
  refine lv_iload_n X.x X.b dX8_across_19 rfl (lv_at hl 3 rfl) ?_
  refine x_lald X w (hM 28 (by decide)) rfl (by decide) o1.1 o1.2 dX8_across_20 ?_
  refine lv_aload_n X.x X.b dX8_across_21 rfl (lv_at hl 1 rfl) ?_
  refine x_get X w (hM 23 (by decide)) rfl in_X8 rfl 9 (by decide) q680 rfl rfl dX8_across_22 ?_
  refine lv_iload_n X.x X.b dX8_across_25 rfl (lv_at hl 2 rfl) ?_
  refine x_lald X w (hM 28 (by decide)) rfl (by decide) o2.1 o2.2 dX8_across_26 ?_
  refine ra_lsub X.x X.b dX8_across_27 ?_
  refine ra_nmL (fun y4 ey4 => ?_)
  have hq := hq y4 ey4
  refine lv_lstore (lv' := [(6, vL y4), (4, vL y3), (0, .ref (ad 0 23 0)), (1, vI x1), (2, vI x2), (3, vI x3)]) X.x X.b dX8_across_28 hl (by decide) rfl (fun ls hl => ?_)
  refine lv_aload_n X.x X.b dX8_across_30 rfl (lv_at hl 2 rfl) ?_
  refine x_get X w (hM 23 (by decide)) rfl in_X8 rfl 10 (by decide) q681 rfl rfl dX8_across_31 ?_
  refine lv_iload_n X.x X.b dX8_across_34 rfl (lv_at hl 4 rfl) ?_
  refine x_lald X w (hM 29 (by decide)) rfl (by decide) o1.1 o1.2 dX8_across_35 ?_
  refine lv_aload_n X.x X.b dX8_across_36 rfl (lv_at hl 2 rfl) ?_
  refine x_get X w (hM 23 (by decide)) rfl in_X8 rfl 10 (by decide) q681 rfl rfl dX8_across_37 ?_
  refine lv_iload_n X.x X.b dX8_across_40 rfl (lv_at hl 3 rfl) ?_
  refine x_lald X w (hM 29 (by decide)) rfl (by decide) o2.1 o2.2 dX8_across_41 ?_
  refine ra_lsub X.x X.b dX8_across_42 ?_
  refine ra_nmL (fun y5 ey5 => ?_)
  have hq := hq y5 ey5
  refine lv_lstore (lv' := [(8, vL y5), (6, vL y4), (4, vL y3), (0, .ref (ad 0 23 0)), (1, vI x1), (2, vI x2), (3, vI x3)]) X.x X.b dX8_across_43 hl (by decide) rfl (fun ls hl => ?_)
  refine lv_aload_n X.x X.b dX8_across_45 rfl (lv_at hl 3 rfl) ?_
  refine x_get X w (hM 23 (by decide)) rfl in_X8 rfl 8 (by decide) q679 rfl rfl dX8_across_46 ?_
  refine lv_iload_n X.x X.b dX8_across_49 rfl (lv_at hl 6 rfl) ?_
  obtain ⟨o6, hq⟩ := hq
  refine x_lald X w (hM 27 (by decide)) rfl (by decide) o6.1 o6.2 dX8_across_50 ?_
  refine lv_aload_n X.x X.b dX8_across_51 rfl (lv_at hl 3 rfl) ?_
  refine x_get X w (hM 23 (by decide)) rfl in_X8 rfl 8 (by decide) q679 rfl rfl dX8_across_52 ?_
  refine lv_iload_n X.x X.b dX8_across_55 rfl (lv_at hl 4 rfl) ?_
  refine x_lald X w (hM 27 (by decide)) rfl (by decide) o2.1 o2.2 dX8_across_56 ?_
  refine ra_lsub X.x X.b dX8_across_57 ?_
  refine ra_nmL (fun y7 ey7 => ?_)
  have hq := hq y7 ey7
  refine lv_lstore (lv' := [(10, vL y7), (8, vL y5), (6, vL y4), (4, vL y3), (0, .ref (ad 0 23 0)), (1, vI x1), (2, vI x2), (3, vI x3)]) X.x X.b dX8_across_58 hl (by decide) rfl (fun ls hl => ?_)
  refine lv_aload_n X.x X.b dX8_across_60 rfl (lv_at hl 4 rfl) ?_
  refine x_get X w (hM 23 (by decide)) rfl in_X8 rfl 9 (by decide) q680 rfl rfl dX8_across_61 ?_
  refine lv_iload_n X.x X.b dX8_across_64 rfl (lv_at hl 7 rfl) ?_
  refine x_lald X w (hM 28 (by decide)) rfl (by decide) o6.1 o6.2 dX8_across_65 ?_
  refine lv_aload_n X.x X.b dX8_across_66 rfl (lv_at hl 4 rfl) ?_
  refine x_get X w (hM 23 (by decide)) rfl in_X8 rfl 9 (by decide) q680 rfl rfl dX8_across_67 ?_
  refine lv_iload_n X.x X.b dX8_across_70 rfl (lv_at hl 5 rfl) ?_
  refine x_lald X w (hM 28 (by decide)) rfl (by decide) o2.1 o2.2 dX8_across_71 ?_
  refine ra_lsub X.x X.b dX8_across_72 ?_
  refine ra_nmL (fun y8 ey8 => ?_)
  have hq := hq y8 ey8
  refine lv_lstore (lv' := [(12, vL y8), (10, vL y7), (8, vL y5), (6, vL y4), (4, vL y3), (0, .ref (ad 0 23 0)), (1, vI x1), (2, vI x2), (3, vI x3)]) X.x X.b dX8_across_73 hl (by decide) rfl (fun ls hl => ?_)
  refine lv_aload_n X.x X.b dX8_across_75 rfl (lv_at hl 5 rfl) ?_
  refine x_get X w (hM 23 (by decide)) rfl in_X8 rfl 10 (by decide) q681 rfl rfl dX8_across_76 ?_
  refine lv_iload_n X.x X.b dX8_across_79 rfl (lv_at hl 8 rfl) ?_
  refine x_lald X w (hM 29 (by decide)) rfl (by decide) o6.1 o6.2 dX8_across_80 ?_
  refine lv_aload_n X.x X.b dX8_across_81 rfl (lv_at hl 5 rfl) ?_
  refine x_get X w (hM 23 (by decide)) rfl in_X8 rfl 10 (by decide) q681 rfl rfl dX8_across_82 ?_
  refine lv_iload_n X.x X.b dX8_across_85 rfl (lv_at hl 6 rfl) ?_
  refine x_lald X w (hM 29 (by decide)) rfl (by decide) o2.1 o2.2 dX8_across_86 ?_
  refine ra_lsub X.x X.b dX8_across_87 ?_
  refine ra_nmL (fun y9 ey9 => ?_)
  have hq := hq y9 ey9
  refine lv_lstore (lv' := [(14, vL y9), (12, vL y8), (10, vL y7), (8, vL y5), (6, vL y4), (4, vL y3), (0, .ref (ad 0 23 0)), (1, vI x1), (2, vI x2), (3, vI x3)]) X.x X.b dX8_across_88 hl (by decide) rfl (fun ls hl => ?_)
  refine lv_aload_n X.x X.b dX8_across_90 rfl (lv_at hl 6 rfl) ?_
  refine lv_lload X.x X.b dX8_across_91 (lv_at hl 4 rfl) ?_
  refine lv_lload X.x X.b dX8_across_93 (lv_at hl 0 rfl) ?_
  refine ra_lmul X.x X.b dX8_across_95 ?_
  refine lv_lload X.x X.b dX8_across_96 (lv_at hl 3 rfl) ?_
  refine lv_lload X.x X.b dX8_across_98 (lv_at hl 1 rfl) ?_
  refine ra_lmul X.x X.b dX8_across_100 ?_
  refine ra_lsub X.x X.b dX8_across_101 ?_
  refine x_put (z := ((y4 * y9) - (y5 * y8))) X w (hM 23 (by decide)) rfl in_X8 tyX8 tyX8_ok nmX8 rfl 23 (by decide) q694 rfl rfl rfl rfl (Nat.le_of_ble_eq_true rfl) rfl dX8_across_102 (fun σ10 H locs eσ10 w => ?_)
  have hq := hq σ10 eσ10
  refine lv_aload_n X.x X.b dX8_across_105 rfl (lv_at hl 6 rfl) ?_
  refine lv_lload X.x X.b dX8_across_106 (lv_at hl 3 rfl) ?_
  refine lv_lload X.x X.b dX8_across_108 (lv_at hl 2 rfl) ?_
  refine ra_lmul X.x X.b dX8_across_110 ?_
  refine lv_lload X.x X.b dX8_across_111 (lv_at hl 5 rfl) ?_
  refine lv_lload X.x X.b dX8_across_113 (lv_at hl 0 rfl) ?_
  refine ra_lmul X.x X.b dX8_across_115 ?_
  refine ra_lsub X.x X.b dX8_across_116 ?_
  refine x_put (z := ((y5 * y7) - (y3 * y9))) X w (hM 23 (by decide)) rfl in_X8 tyX8 tyX8_ok nmX8 rfl 24 (by decide) q695 rfl rfl rfl rfl (Nat.le_of_ble_eq_true rfl) rfl dX8_across_117 (fun σ11 H locs eσ11 w => ?_)
  have hq := hq σ11 eσ11
  refine lv_aload_n X.x X.b dX8_across_120 rfl (lv_at hl 6 rfl) ?_
  refine lv_lload X.x X.b dX8_across_121 (lv_at hl 5 rfl) ?_
  refine lv_lload X.x X.b dX8_across_123 (lv_at hl 1 rfl) ?_
  refine ra_lmul X.x X.b dX8_across_125 ?_
  refine lv_lload X.x X.b dX8_across_126 (lv_at hl 4 rfl) ?_
  refine lv_lload X.x X.b dX8_across_128 (lv_at hl 2 rfl) ?_
  refine ra_lmul X.x X.b dX8_across_130 ?_
  refine ra_lsub X.x X.b dX8_across_131 ?_
  refine x_put (z := ((y3 * y8) - (y4 * y7))) X w (hM 23 (by decide)) rfl in_X8 tyX8 tyX8_ok nmX8 rfl 25 (by decide) q696 rfl rfl rfl rfl (Nat.le_of_ble_eq_true rfl) rfl dX8_across_132 (fun σ12 H locs eσ12 w => ?_)
  have hq := hq σ12 eσ12
  exact x_vret X hr w hq dX8_across_135
def wpX8_above (x1 : Int) (x2 : Int) (σ : Tab) (P : Int → Tab → Prop) : Prop := ((0 ≤ x2 ∧ x2 < 24) ∧ ((0 ≤ x1 ∧ x1 < 24) ∧ P ((((σ 0 23 0 23) * ((σ 0 27 0 x2.toNat) - (σ 0 27 0 x1.toNat))) + ((σ 0 23 0 24) * ((σ 0 28 0 x2.toNat) - (σ 0 28 0 x1.toNat)))) + ((σ 0 23 0 25) * ((σ 0 29 0 x2.toNat) - (σ 0 29 0 x1.toNat)))) σ))
abbrev rmX8_above : Room := { frames := 0, cells := 0, slots := 0, locals := 0 }
set_option maxHeartbeats 4000000 in
set_option maxRecDepth 100000 in
theorem mX8_above (l : Launch) (D : va_G) (ids : Ids) (ad : Lay) (cA : Nat → ClassId) (A : Nat → Prop) (hM : HasM ids) (x1 : Int) (x2 : Int) (σ : Tab) (P : Int → Tab → Prop) (hq : wpX8_above x1 x2 σ P) : Met l yX8_above (ws_ yX8_above cX8_above 3 (some .long)) rmX8_above (PcW D ids ad cA A σ [.ref (ad 0 23 0), vI x1, vI x2]) (QL D ids ad cA A P) 0 0 A := by
  refine m_entry (own := RX8) (by decide) (Nat.le_of_ble_eq_true rfl) rfl ?_
  intro p e s m below meth c ls X hr w hl
  have hl : lv_has ls 3 [(0, .ref (ad 0 23 0)), (1, vI x1), (2, vI x2)] := hl
  unfold wpX8_above at hq
  refine lv_aload_n X.x X.b dX8_above_0 rfl (lv_at hl 0 rfl) ?_
  refine x_get X w (hM 23 (by decide)) rfl in_X8 rfl 23 (by decide) q694 rfl rfl dX8_above_1 ?_
  refine lv_aload_n X.x X.b dX8_above_4 rfl (lv_at hl 0 rfl) ?_
  refine x_get X w (hM 23 (by decide)) rfl in_X8 rfl 8 (by decide) q679 rfl rfl dX8_above_5 ?_
  refine lv_iload_n X.x X.b dX8_above_8 rfl (lv_at hl 2 rfl) ?_
  obtain ⟨o1, hq⟩ := hq
  refine x_lald X w (hM 27 (by decide)) rfl (by decide) o1.1 o1.2 dX8_above_9 ?_
  refine lv_aload_n X.x X.b dX8_above_10 rfl (lv_at hl 0 rfl) ?_
  refine x_get X w (hM 23 (by decide)) rfl in_X8 rfl 8 (by decide) q679 rfl rfl dX8_above_11 ?_
  refine lv_iload_n X.x X.b dX8_above_14 rfl (lv_at hl 1 rfl) ?_
  obtain ⟨o2, hq⟩ := hq
  refine x_lald X w (hM 27 (by decide)) rfl (by decide) o2.1 o2.2 dX8_above_15 ?_
  refine ra_lsub X.x X.b dX8_above_16 ?_
  refine ra_lmul X.x X.b dX8_above_17 ?_
  refine lv_aload_n X.x X.b dX8_above_18 rfl (lv_at hl 0 rfl) ?_
  refine x_get X w (hM 23 (by decide)) rfl in_X8 rfl 24 (by decide) q695 rfl rfl dX8_above_19 ?_
  refine lv_aload_n X.x X.b dX8_above_22 rfl (lv_at hl 0 rfl) ?_
  refine x_get X w (hM 23 (by decide)) rfl in_X8 rfl 9 (by decide) q680 rfl rfl dX8_above_23 ?_
  refine lv_iload_n X.x X.b dX8_above_26 rfl (lv_at hl 2 rfl) ?_
  refine x_lald X w (hM 28 (by decide)) rfl (by decide) o1.1 o1.2 dX8_above_27 ?_
  refine lv_aload_n X.x X.b dX8_above_28 rfl (lv_at hl 0 rfl) ?_
  refine x_get X w (hM 23 (by decide)) rfl in_X8 rfl 9 (by decide) q680 rfl rfl dX8_above_29 ?_
  refine lv_iload_n X.x X.b dX8_above_32 rfl (lv_at hl 1 rfl) ?_
  refine x_lald X w (hM 28 (by decide)) rfl (by decide) o2.1 o2.2 dX8_above_33 ?_
  refine ra_lsub X.x X.b dX8_above_34 ?_
  refine ra_lmul X.x X.b dX8_above_35 ?_
  refine ra_ladd X.x X.b dX8_above_36 ?_
  refine lv_aload_n X.x X.b dX8_above_37 rfl (lv_at hl 0 rfl) ?_
  refine x_get X w (hM 23 (by decide)) rfl in_X8 rfl 25 (by decide) q696 rfl rfl dX8_above_38 ?_
  refine lv_aload_n X.x X.b dX8_above_41 rfl (lv_at hl 0 rfl) ?_
  refine x_get X w (hM 23 (by decide)) rfl in_X8 rfl 10 (by decide) q681 rfl rfl dX8_above_42 ?_
  refine lv_iload_n X.x X.b dX8_above_45 rfl (lv_at hl 2 rfl) ?_
  refine x_lald X w (hM 29 (by decide)) rfl (by decide) o1.1 o1.2 dX8_above_46 ?_
  refine lv_aload_n X.x X.b dX8_above_47 rfl (lv_at hl 0 rfl) ?_
  refine x_get X w (hM 23 (by decide)) rfl in_X8 rfl 10 (by decide) q681 rfl rfl dX8_above_48 ?_
  refine lv_iload_n X.x X.b dX8_above_51 rfl (lv_at hl 1 rfl) ?_
  refine x_lald X w (hM 29 (by decide)) rfl (by decide) o2.1 o2.2 dX8_above_52 ?_
  refine ra_lsub X.x X.b dX8_above_53 ?_
  refine ra_lmul X.x X.b dX8_above_54 ?_
  refine ra_ladd X.x X.b dX8_above_55 ?_
  exact x_lret X hr w hq dX8_above_56
def wlX8_common_33  (P : Int → Tab → Prop) : Nat → Int → Int → Int → Tab → Prop
  | 0, _, _, _, _ => False
  | n + 1, x4, x6, x8, σ => (inI x8 ∧ ((64 ≤ x8 → P x4 σ) ∧ (¬ (64 ≤ x8) → (inL x6 ∧ ((x6 ≤ 0 → P x4 σ) ∧ (¬ (x6 ≤ 0) → (inL x4 ∧ (x6 ≠ 0 ∧ wlX8_common_33 P n x6 (x4.tmod x6) (x8 + 1) σ))))))))
def wlX8_common_13  (P : Int → Tab → Prop) (x2 : Int) (y0 : Int) (σ : Tab) : Prop := (inL x2 ∧ ((0 ≤ x2 → (∃ k : Nat, wlX8_common_33 P k y0 x2 0 σ)) ∧ (¬ (0 ≤ x2) → (∃ k : Nat, wlX8_common_33 P k y0 (0 - x2) 0 σ))))
def wpX8_common (x0 : Int) (x2 : Int) (σ : Tab) (P : Int → Tab → Prop) : Prop := (inL x0 ∧ ((0 ≤ x0 → wlX8_common_13 P x2 x0 σ) ∧ (¬ (0 ≤ x0) → wlX8_common_13 P x2 (0 - x0) σ)))
abbrev rmX8_common : Room := { frames := 0, cells := 0, slots := 0, locals := 0 }
set_option maxHeartbeats 4000000 in
set_option maxRecDepth 100000 in
theorem klX8_common_33 {l : Launch} {p : Program} {e : Env} {s : State} {m : MethodId} {args : Array Value} {below : List Frame} {meth : Method} {c : Code} {D : va_G} {ids : Ids} {ad : Lay} {cA : Nat → ClassId} {A : Nat → Prop}  {P : Int → Tab → Prop} (X : Cx p m c meth cX8_common 11 s args RX8 D cA A nwW) (hr : meth.sig.returnType = some .long)  :
    ∀ (n : Nat) (x4 : Int) (x6 : Int) (x8 : Int) (σ : Tab) (H : Heap) (locs : List Loc) (ls : Array Slot), wlX8_common_33 P n x4 x6 x8 σ → ww D ids ad cA A σ s.heap H locs → lv_has ls 11 [(4, vL x4), (6, vL x6), (8, vI x8)] → W p l e rmX8_common s m args below meth c H locs 0 0 (MQ below (QL D ids ad cA A P) args s 0 0 A) (F0 m 33 ls []) := by
  intro n
  induction n with
  | zero => intro x4 x6 x8 σ H locs ls hq w hl; exact hq.elim
  | succ n ih =>
    intro x4 x6 x8 σ H locs ls hq w hl
    unfold wlX8_common_33 at hq
    refine lv_iload X.x X.b dX8_common_33 (lv_at hl 2 rfl) ?_
    refine ra_bipush X.x X.b dX8_common_35 rfl ?_
    obtain ⟨o1, hq⟩ := hq
    refine ra_icmp_ge (tgt := 68) X.x X.b o1 ⟨by decide, by decide⟩ dX8_common_37 (by decide) (fun c2 => ?_) (fun c2 => ?_)
    · have hq := hq.1 c2
      refine lv_lload X.x X.b dX8_common_68 (lv_at hl 0 rfl) ?_
      exact x_lret X hr w hq dX8_common_70
    · have hq := hq.2 c2
      refine lv_lload X.x X.b dX8_common_40 (lv_at hl 1 rfl) ?_
      refine ra_lconst (z := 0) X.x X.b dX8_common_42 rfl ?_
      obtain ⟨o3, hq⟩ := hq
      refine ra_lcmp_le (tgt := 68) X.x X.b o3 ⟨by decide, by decide⟩ dX8_common_43 dX8_common_44 (by decide) (fun c4 => ?_) (fun c4 => ?_)
      · have hq := hq.1 c4
        refine lv_lload X.x X.b dX8_common_68 (lv_at hl 0 rfl) ?_
        exact x_lret X hr w hq dX8_common_70
      · have hq := hq.2 c4
        refine lv_lload X.x X.b dX8_common_47 (lv_at hl 0 rfl) ?_
        refine lv_lload X.x X.b dX8_common_49 (lv_at hl 1 rfl) ?_
        obtain ⟨o5, hq⟩ := hq
        obtain ⟨o6, hq⟩ := hq
        refine ra_lrem X.x X.b o5 o3 o6 dX8_common_51 ?_
        refine lv_lstore (lv' := [(9, vL (x4.tmod x6)), (4, vL x4), (6, vL x6), (8, vI x8)]) X.x X.b dX8_common_52 hl (by decide) rfl (fun ls hl => ?_)
        refine lv_lload X.x X.b dX8_common_54 (lv_at hl 2 rfl) ?_
        refine lv_lstore (lv' := [(4, vL x6), (9, vL (x4.tmod x6)), (6, vL x6), (8, vI x8)]) X.x X.b dX8_common_56 hl (by decide) rfl (fun ls hl => ?_)
        refine lv_lload X.x X.b dX8_common_58 (lv_at hl 1 rfl) ?_
        refine lv_lstore (lv' := [(6, vL (x4.tmod x6)), (4, vL x6), (9, vL (x4.tmod x6)), (8, vI x8)]) X.x X.b dX8_common_60 hl (by decide) rfl (fun ls hl => ?_)
        refine lv_iinc (v := Int32.ofInt (x8 + 1)) (lv' := [(8, vI (x8 + 1)), (6, vL (x4.tmod x6)), (4, vL x6), (9, vL (x4.tmod x6))]) X.x X.b dX8_common_62 hl (k := 3) rfl (Int32.ofInt_add _ _).symm (by decide) rfl (fun ls hl => ?_)
        refine lv_goto (tgt := 33) X.x X.b dX8_common_65 (by decide) ?_
        exact ih x6 (x4.tmod x6) (x8 + 1) σ _ _ _ hq w (lv_sub hl [2, 1, 0] rfl)
set_option maxHeartbeats 4000000 in
set_option maxRecDepth 100000 in
theorem klX8_common_13 {l : Launch} {p : Program} {e : Env} {s : State} {m : MethodId} {args : Array Value} {below : List Frame} {meth : Method} {c : Code} {D : va_G} {ids : Ids} {ad : Lay} {cA : Nat → ClassId} {A : Nat → Prop}  {P : Int → Tab → Prop} (X : Cx p m c meth cX8_common 11 s args RX8 D cA A nwW) (hr : meth.sig.returnType = some .long)  :
    ∀ (x2 : Int) (y0 : Int) (σ : Tab) (H : Heap) (locs : List Loc) (ls : Array Slot), wlX8_common_13 P x2 y0 σ → ww D ids ad cA A σ s.heap H locs → lv_has ls 11 [(2, vL x2)] → W p l e rmX8_common s m args below meth c H locs 0 0 (MQ below (QL D ids ad cA A P) args s 0 0 A) (F0 m 13 ls [vL y0]) := by
  intro x2 y0 σ H locs ls hq w hl
  unfold wlX8_common_13 at hq
  refine lv_lstore (lv' := [(4, vL y0), (2, vL x2)]) X.x X.b dX8_common_13 hl (by decide) rfl (fun ls hl => ?_)
  refine lv_lload_n X.x X.b dX8_common_15 rfl (lv_at hl 1 rfl) ?_
  refine ra_lconst (z := 0) X.x X.b dX8_common_16 rfl ?_
  obtain ⟨o1, hq⟩ := hq
  refine ra_lcmp_ge (tgt := 27) X.x X.b o1 ⟨by decide, by decide⟩ dX8_common_17 dX8_common_18 (by decide) (fun c2 => ?_) (fun c2 => ?_)
  · have hq := hq.1 c2
    refine lv_lload_n X.x X.b dX8_common_27 rfl (lv_at hl 1 rfl) ?_
    refine lv_lstore (lv' := [(6, vL x2), (4, vL y0), (2, vL x2)]) X.x X.b dX8_common_28 hl (by decide) rfl (fun ls hl => ?_)
    refine ra_iconst X.x X.b dX8_common_30 ?_
    refine lv_istore (lv' := [(8, vI 0), (6, vL x2), (4, vL y0), (2, vL x2)]) X.x X.b dX8_common_31 hl (by decide) rfl (fun ls hl => ?_)
    obtain ⟨n3, hq⟩ := hq
    exact klX8_common_33 X hr   n3 y0 x2 0 σ _ _ _ hq w (lv_sub hl [2, 1, 0] rfl)
  · have hq := hq.2 c2
    refine ra_lconst (z := 0) X.x X.b dX8_common_21 rfl ?_
    refine lv_lload_n X.x X.b dX8_common_22 rfl (lv_at hl 1 rfl) ?_
    refine ra_lsub X.x X.b dX8_common_23 ?_
    refine lv_goto (tgt := 28) X.x X.b dX8_common_24 (by decide) ?_
    refine lv_lstore (lv' := [(6, vL (0 - x2)), (4, vL y0), (2, vL x2)]) X.x X.b dX8_common_28 hl (by decide) rfl (fun ls hl => ?_)
    refine ra_iconst X.x X.b dX8_common_30 ?_
    refine lv_istore (lv' := [(8, vI 0), (6, vL (0 - x2)), (4, vL y0), (2, vL x2)]) X.x X.b dX8_common_31 hl (by decide) rfl (fun ls hl => ?_)
    obtain ⟨n4, hq⟩ := hq
    exact klX8_common_33 X hr   n4 y0 (0 - x2) 0 σ _ _ _ hq w (lv_sub hl [2, 1, 0] rfl)
set_option maxHeartbeats 4000000 in
set_option maxRecDepth 100000 in
theorem mX8_common (l : Launch) (D : va_G) (ids : Ids) (ad : Lay) (cA : Nat → ClassId) (A : Nat → Prop) (x0 : Int) (x2 : Int) (σ : Tab) (P : Int → Tab → Prop) (hq : wpX8_common x0 x2 σ P) : Met l yX8_common (ws_ yX8_common cX8_common 11 (some .long)) rmX8_common (PcW D ids ad cA A σ [vL x0, vL x2]) (QL D ids ad cA A P) 0 0 A := by
  refine m_entry (own := RX8) (by decide) (Nat.le_of_ble_eq_true rfl) rfl ?_
  intro p e s m below meth c ls X hr w hl
  have hl : lv_has ls 11 [(0, vL x0), (2, vL x2)] := hl
  unfold wpX8_common at hq
  refine lv_lload_n X.x X.b dX8_common_0 rfl (lv_at hl 0 rfl) ?_
  refine ra_lconst (z := 0) X.x X.b dX8_common_1 rfl ?_
  obtain ⟨o1, hq⟩ := hq
  refine ra_lcmp_ge (tgt := 12) X.x X.b o1 ⟨by decide, by decide⟩ dX8_common_2 dX8_common_3 (by decide) (fun c2 => ?_) (fun c2 => ?_)
  · have hq := hq.1 c2
    refine lv_lload_n X.x X.b dX8_common_12 rfl (lv_at hl 0 rfl) ?_
    exact klX8_common_13 X hr   x2 x0 σ _ _ _ hq w (lv_sub hl [1] rfl)
  · have hq := hq.2 c2
    refine ra_lconst (z := 0) X.x X.b dX8_common_6 rfl ?_
    refine lv_lload_n X.x X.b dX8_common_7 rfl (lv_at hl 0 rfl) ?_
    refine ra_lsub X.x X.b dX8_common_8 ?_
    refine lv_goto (tgt := 13) X.x X.b dX8_common_9 (by decide) ?_
    exact klX8_common_13 X hr   x2 (0 - x0) σ _ _ _ hq w (lv_sub hl [1] rfl)
def wlX8_knownFace_5  (P : Int → Tab → Prop) : Nat → Int → Int → Int → Tab → Prop
  | 0, _, _, _, _ => False
  | n + 1, x1, x3, x4, σ => (inI x4 ∧ (inI (σ 0 23 0 11) ∧ ((σ 0 23 0 11 ≤ x4 → ((x3 = 0 ∨ x3 = 1) ∧ P x3 σ)) ∧ (¬ (σ 0 23 0 11 ≤ x4) → (inI x3 ∧ ((x3 ≠ 0 → wlX8_knownFace_5 P n x1 1 (x4 + 1) σ) ∧ (¬ (x3 ≠ 0) → ((0 ≤ x4 ∧ x4 < 64) ∧ (inL (σ 0 30 0 x4.toNat) ∧ (inL (σ 0 23 0 23) ∧ ((σ 0 30 0 x4.toNat ≠ σ 0 23 0 23 → wlX8_knownFace_5 P n x1 0 (x4 + 1) σ) ∧ (¬ (σ 0 30 0 x4.toNat ≠ σ 0 23 0 23) → (inL (σ 0 31 0 x4.toNat) ∧ (inL (σ 0 23 0 24) ∧ ((σ 0 31 0 x4.toNat ≠ σ 0 23 0 24 → wlX8_knownFace_5 P n x1 0 (x4 + 1) σ) ∧ (¬ (σ 0 31 0 x4.toNat ≠ σ 0 23 0 24) → (inL (σ 0 32 0 x4.toNat) ∧ (inL (σ 0 23 0 25) ∧ ((σ 0 32 0 x4.toNat ≠ σ 0 23 0 25 → wlX8_knownFace_5 P n x1 0 (x4 + 1) σ) ∧ (¬ (σ 0 32 0 x4.toNat ≠ σ 0 23 0 25) → (inL (σ 0 33 0 x4.toNat) ∧ (inL x1 ∧ ((σ 0 33 0 x4.toNat ≠ x1 → wlX8_knownFace_5 P n x1 0 (x4 + 1) σ) ∧ (¬ (σ 0 33 0 x4.toNat ≠ x1) → wlX8_knownFace_5 P n x1 1 (x4 + 1) σ))))))))))))))))))))))))
def wpX8_knownFace (x1 : Int) (σ : Tab) (P : Int → Tab → Prop) : Prop := (∃ k : Nat, wlX8_knownFace_5 P k x1 0 0 σ)
abbrev rmX8_knownFace : Room := { frames := 0, cells := 0, slots := 0, locals := 0 }
set_option maxHeartbeats 4000000 in
set_option maxRecDepth 100000 in
theorem klX8_knownFace_5 {l : Launch} {p : Program} {e : Env} {s : State} {m : MethodId} {args : Array Value} {below : List Frame} {meth : Method} {c : Code} {D : va_G} {ids : Ids} {ad : Lay} {cA : Nat → ClassId} {A : Nat → Prop}  {P : Int → Tab → Prop} (X : Cx p m c meth cX8_knownFace 5 s args RX8 D cA A nwW) (hr : meth.sig.returnType = some .boolean) (hM : HasM ids) :
    ∀ (n : Nat) (x1 : Int) (x3 : Int) (x4 : Int) (σ : Tab) (H : Heap) (locs : List Loc) (ls : Array Slot), wlX8_knownFace_5 P n x1 x3 x4 σ → ww D ids ad cA A σ s.heap H locs → lv_has ls 5 [(0, .ref (ad 0 23 0)), (1, vL x1), (3, vI x3), (4, vI x4)] → W p l e rmX8_knownFace s m args below meth c H locs 0 0 (MQ below (QI D ids ad cA A P) args s 0 0 A) (F0 m 5 ls []) := by
  intro n
  induction n with
  | zero => intro x1 x3 x4 σ H locs ls hq w hl; exact hq.elim
  | succ n ih =>
    intro x1 x3 x4 σ H locs ls hq w hl
    unfold wlX8_knownFace_5 at hq
    refine lv_iload X.x X.b dX8_knownFace_5 (lv_at hl 3 rfl) ?_
    refine lv_aload_n X.x X.b dX8_knownFace_7 rfl (lv_at hl 0 rfl) ?_
    refine x_get X w (hM 23 (by decide)) rfl in_X8 rfl 11 (by decide) q682 rfl rfl dX8_knownFace_8 ?_
    obtain ⟨o1, hq⟩ := hq
    obtain ⟨o2, hq⟩ := hq
    refine ra_icmp_ge (tgt := 87) X.x X.b o1 o2 dX8_knownFace_11 (by decide) (fun c3 => ?_) (fun c3 => ?_)
    · have hq := hq.1 c3
      refine lv_iload_n X.x X.b dX8_knownFace_87 rfl (lv_at hl 2 rfl) ?_
      obtain ⟨o4, hq⟩ := hq
      exact x_zret X hr w o4 hq dX8_knownFace_88
    · have hq := hq.2 c3
      refine lv_iload_n X.x X.b dX8_knownFace_14 rfl (lv_at hl 2 rfl) ?_
      obtain ⟨o5, hq⟩ := hq
      refine ra_if_ne (tgt := 75) X.x X.b o5 dX8_knownFace_15 (by decide) (fun c6 => ?_) (fun c6 => ?_)
      · have hq := hq.1 c6
        refine ra_iconst X.x X.b dX8_knownFace_75 ?_
        refine lv_goto (tgt := 80) X.x X.b dX8_knownFace_76 (by decide) ?_
        refine lv_istore_n (lv' := [(3, vI 1), (0, .ref (ad 0 23 0)), (1, vL x1), (4, vI x4)]) X.x X.b dX8_knownFace_80 rfl hl (by decide) rfl (fun ls hl => ?_)
        refine lv_iinc (v := Int32.ofInt (x4 + 1)) (lv' := [(4, vI (x4 + 1)), (3, vI 1), (0, .ref (ad 0 23 0)), (1, vL x1)]) X.x X.b dX8_knownFace_81 hl (k := 3) rfl (Int32.ofInt_add _ _).symm (by decide) rfl (fun ls hl => ?_)
        refine lv_goto (tgt := 5) X.x X.b dX8_knownFace_84 (by decide) ?_
        exact ih x1 1 (x4 + 1) σ _ _ _ hq w (lv_sub hl [2, 3, 1, 0] rfl)
      · have hq := hq.2 c6
        refine lv_aload_n X.x X.b dX8_knownFace_18 rfl (lv_at hl 0 rfl) ?_
        refine x_get X w (hM 23 (by decide)) rfl in_X8 rfl 12 (by decide) q683 rfl rfl dX8_knownFace_19 ?_
        refine lv_iload X.x X.b dX8_knownFace_22 (lv_at hl 3 rfl) ?_
        obtain ⟨o7, hq⟩ := hq
        refine x_lald X w (hM 30 (by decide)) rfl (by decide) o7.1 o7.2 dX8_knownFace_24 ?_
        refine lv_aload_n X.x X.b dX8_knownFace_25 rfl (lv_at hl 0 rfl) ?_
        refine x_get X w (hM 23 (by decide)) rfl in_X8 rfl 23 (by decide) q694 rfl rfl dX8_knownFace_26 ?_
        obtain ⟨o8, hq⟩ := hq
        obtain ⟨o9, hq⟩ := hq
        refine ra_lcmp_ne (tgt := 79) X.x X.b o8 o9 dX8_knownFace_29 dX8_knownFace_30 (by decide) (fun c10 => ?_) (fun c10 => ?_)
        · have hq := hq.1 c10
          refine ra_iconst X.x X.b dX8_knownFace_79 ?_
          refine lv_istore_n (lv' := [(3, vI 0), (0, .ref (ad 0 23 0)), (1, vL x1), (4, vI x4)]) X.x X.b dX8_knownFace_80 rfl hl (by decide) rfl (fun ls hl => ?_)
          refine lv_iinc (v := Int32.ofInt (x4 + 1)) (lv' := [(4, vI (x4 + 1)), (3, vI 0), (0, .ref (ad 0 23 0)), (1, vL x1)]) X.x X.b dX8_knownFace_81 hl (k := 3) rfl (Int32.ofInt_add _ _).symm (by decide) rfl (fun ls hl => ?_)
          refine lv_goto (tgt := 5) X.x X.b dX8_knownFace_84 (by decide) ?_
          exact ih x1 0 (x4 + 1) σ _ _ _ hq w (lv_sub hl [2, 3, 1, 0] rfl)
        · have hq := hq.2 c10
          refine lv_aload_n X.x X.b dX8_knownFace_33 rfl (lv_at hl 0 rfl) ?_
          refine x_get X w (hM 23 (by decide)) rfl in_X8 rfl 13 (by decide) q684 rfl rfl dX8_knownFace_34 ?_
          refine lv_iload X.x X.b dX8_knownFace_37 (lv_at hl 3 rfl) ?_
          refine x_lald X w (hM 31 (by decide)) rfl (by decide) o7.1 o7.2 dX8_knownFace_39 ?_
          refine lv_aload_n X.x X.b dX8_knownFace_40 rfl (lv_at hl 0 rfl) ?_
          refine x_get X w (hM 23 (by decide)) rfl in_X8 rfl 24 (by decide) q695 rfl rfl dX8_knownFace_41 ?_
          obtain ⟨o11, hq⟩ := hq
          obtain ⟨o12, hq⟩ := hq
          refine ra_lcmp_ne (tgt := 79) X.x X.b o11 o12 dX8_knownFace_44 dX8_knownFace_45 (by decide) (fun c13 => ?_) (fun c13 => ?_)
          · have hq := hq.1 c13
            refine ra_iconst X.x X.b dX8_knownFace_79 ?_
            refine lv_istore_n (lv' := [(3, vI 0), (0, .ref (ad 0 23 0)), (1, vL x1), (4, vI x4)]) X.x X.b dX8_knownFace_80 rfl hl (by decide) rfl (fun ls hl => ?_)
            refine lv_iinc (v := Int32.ofInt (x4 + 1)) (lv' := [(4, vI (x4 + 1)), (3, vI 0), (0, .ref (ad 0 23 0)), (1, vL x1)]) X.x X.b dX8_knownFace_81 hl (k := 3) rfl (Int32.ofInt_add _ _).symm (by decide) rfl (fun ls hl => ?_)
            refine lv_goto (tgt := 5) X.x X.b dX8_knownFace_84 (by decide) ?_
            exact ih x1 0 (x4 + 1) σ _ _ _ hq w (lv_sub hl [2, 3, 1, 0] rfl)
          · have hq := hq.2 c13
            refine lv_aload_n X.x X.b dX8_knownFace_48 rfl (lv_at hl 0 rfl) ?_
            refine x_get X w (hM 23 (by decide)) rfl in_X8 rfl 14 (by decide) q685 rfl rfl dX8_knownFace_49 ?_
            refine lv_iload X.x X.b dX8_knownFace_52 (lv_at hl 3 rfl) ?_
            refine x_lald X w (hM 32 (by decide)) rfl (by decide) o7.1 o7.2 dX8_knownFace_54 ?_
            refine lv_aload_n X.x X.b dX8_knownFace_55 rfl (lv_at hl 0 rfl) ?_
            refine x_get X w (hM 23 (by decide)) rfl in_X8 rfl 25 (by decide) q696 rfl rfl dX8_knownFace_56 ?_
            obtain ⟨o14, hq⟩ := hq
            obtain ⟨o15, hq⟩ := hq
            refine ra_lcmp_ne (tgt := 79) X.x X.b o14 o15 dX8_knownFace_59 dX8_knownFace_60 (by decide) (fun c16 => ?_) (fun c16 => ?_)
            · have hq := hq.1 c16
              refine ra_iconst X.x X.b dX8_knownFace_79 ?_
              refine lv_istore_n (lv' := [(3, vI 0), (0, .ref (ad 0 23 0)), (1, vL x1), (4, vI x4)]) X.x X.b dX8_knownFace_80 rfl hl (by decide) rfl (fun ls hl => ?_)
              refine lv_iinc (v := Int32.ofInt (x4 + 1)) (lv' := [(4, vI (x4 + 1)), (3, vI 0), (0, .ref (ad 0 23 0)), (1, vL x1)]) X.x X.b dX8_knownFace_81 hl (k := 3) rfl (Int32.ofInt_add _ _).symm (by decide) rfl (fun ls hl => ?_)
              refine lv_goto (tgt := 5) X.x X.b dX8_knownFace_84 (by decide) ?_
              exact ih x1 0 (x4 + 1) σ _ _ _ hq w (lv_sub hl [2, 3, 1, 0] rfl)
            · have hq := hq.2 c16
              refine lv_aload_n X.x X.b dX8_knownFace_63 rfl (lv_at hl 0 rfl) ?_
              refine x_get X w (hM 23 (by decide)) rfl in_X8 rfl 15 (by decide) q686 rfl rfl dX8_knownFace_64 ?_
              refine lv_iload X.x X.b dX8_knownFace_67 (lv_at hl 3 rfl) ?_
              refine x_lald X w (hM 33 (by decide)) rfl (by decide) o7.1 o7.2 dX8_knownFace_69 ?_
              refine lv_lload_n X.x X.b dX8_knownFace_70 rfl (lv_at hl 1 rfl) ?_
              obtain ⟨o17, hq⟩ := hq
              obtain ⟨o18, hq⟩ := hq
              refine ra_lcmp_ne (tgt := 79) X.x X.b o17 o18 dX8_knownFace_71 dX8_knownFace_72 (by decide) (fun c19 => ?_) (fun c19 => ?_)
              · have hq := hq.1 c19
                refine ra_iconst X.x X.b dX8_knownFace_79 ?_
                refine lv_istore_n (lv' := [(3, vI 0), (0, .ref (ad 0 23 0)), (1, vL x1), (4, vI x4)]) X.x X.b dX8_knownFace_80 rfl hl (by decide) rfl (fun ls hl => ?_)
                refine lv_iinc (v := Int32.ofInt (x4 + 1)) (lv' := [(4, vI (x4 + 1)), (3, vI 0), (0, .ref (ad 0 23 0)), (1, vL x1)]) X.x X.b dX8_knownFace_81 hl (k := 3) rfl (Int32.ofInt_add _ _).symm (by decide) rfl (fun ls hl => ?_)
                refine lv_goto (tgt := 5) X.x X.b dX8_knownFace_84 (by decide) ?_
                exact ih x1 0 (x4 + 1) σ _ _ _ hq w (lv_sub hl [2, 3, 1, 0] rfl)
              · have hq := hq.2 c19
                refine ra_iconst X.x X.b dX8_knownFace_75 ?_
                refine lv_goto (tgt := 80) X.x X.b dX8_knownFace_76 (by decide) ?_
                refine lv_istore_n (lv' := [(3, vI 1), (0, .ref (ad 0 23 0)), (1, vL x1), (4, vI x4)]) X.x X.b dX8_knownFace_80 rfl hl (by decide) rfl (fun ls hl => ?_)
                refine lv_iinc (v := Int32.ofInt (x4 + 1)) (lv' := [(4, vI (x4 + 1)), (3, vI 1), (0, .ref (ad 0 23 0)), (1, vL x1)]) X.x X.b dX8_knownFace_81 hl (k := 3) rfl (Int32.ofInt_add _ _).symm (by decide) rfl (fun ls hl => ?_)
                refine lv_goto (tgt := 5) X.x X.b dX8_knownFace_84 (by decide) ?_
                exact ih x1 1 (x4 + 1) σ _ _ _ hq w (lv_sub hl [2, 3, 1, 0] rfl)
set_option maxHeartbeats 4000000 in
set_option maxRecDepth 100000 in
theorem mX8_knownFace (l : Launch) (D : va_G) (ids : Ids) (ad : Lay) (cA : Nat → ClassId) (A : Nat → Prop) (hM : HasM ids) (x1 : Int) (σ : Tab) (P : Int → Tab → Prop) (hq : wpX8_knownFace x1 σ P) : Met l yX8_knownFace (ws_ yX8_knownFace cX8_knownFace 5 (some .boolean)) rmX8_knownFace (PcW D ids ad cA A σ [.ref (ad 0 23 0), vL x1]) (QI D ids ad cA A P) 0 0 A := by
  refine m_entry (own := RX8) (by decide) (Nat.le_of_ble_eq_true rfl) rfl ?_
  intro p e s m below meth c ls X hr w hl
  have hl : lv_has ls 5 [(0, .ref (ad 0 23 0)), (1, vL x1)] := hl
  unfold wpX8_knownFace at hq
  refine ra_iconst X.x X.b dX8_knownFace_0 ?_
  refine lv_istore_n (lv' := [(3, vI 0), (0, .ref (ad 0 23 0)), (1, vL x1)]) X.x X.b dX8_knownFace_1 rfl hl (by decide) rfl (fun ls hl => ?_)
  refine ra_iconst X.x X.b dX8_knownFace_2 ?_
  refine lv_istore (lv' := [(4, vI 0), (3, vI 0), (0, .ref (ad 0 23 0)), (1, vL x1)]) X.x X.b dX8_knownFace_3 hl (by decide) rfl (fun ls hl => ?_)
  obtain ⟨n1, hq⟩ := hq
  exact klX8_knownFace_5 X hr hM  n1 x1 0 0 σ _ _ _ hq w (lv_sub hl [2, 3, 1, 0] rfl)
def wpX8_addFace (x1 : Int) (σ : Tab) (P : Tab → Prop) : Prop := wpX8_knownFace x1 σ (fun z1 σ1 => (inI z1 ∧ ((z1 ≠ 0 → P σ1) ∧ (¬ (z1 ≠ 0) → ((0 ≤ σ1 0 23 0 11 ∧ σ1 0 23 0 11 < 64) ∧ (∀ σ5 : Tab, σ5 = st σ1 0 30 0 ((σ1 0 23 0 11).toNat) (σ1 0 23 0 23) → ((0 ≤ σ5 0 23 0 11 ∧ σ5 0 23 0 11 < 64) ∧ (∀ σ7 : Tab, σ7 = st σ5 0 31 0 ((σ5 0 23 0 11).toNat) (σ5 0 23 0 24) → ((0 ≤ σ7 0 23 0 11 ∧ σ7 0 23 0 11 < 64) ∧ (∀ σ9 : Tab, σ9 = st σ7 0 32 0 ((σ7 0 23 0 11).toNat) (σ7 0 23 0 25) → ((0 ≤ σ9 0 23 0 11 ∧ σ9 0 23 0 11 < 64) ∧ (∀ σ11 : Tab, σ11 = st σ9 0 33 0 ((σ9 0 23 0 11).toNat) x1 → (∀ σ12 : Tab, σ12 = st σ11 0 23 0 11 ((σ11 0 23 0 11) + 1) → P σ12)))))))))))))
abbrev rmX8_addFace : Room := { frames := 1, cells := 0, slots := 0, locals := 24 }
set_option maxHeartbeats 4000000 in
set_option maxRecDepth 100000 in
theorem mX8_addFace (l : Launch) (D : va_G) (ids : Ids) (ad : Lay) (cA : Nat → ClassId) (A : Nat → Prop) (hM : HasM ids) (x1 : Int) (σ : Tab) (P : Tab → Prop) (hq : wpX8_addFace x1 σ P) : Met l yX8_addFace (ws_ yX8_addFace cX8_addFace 3 (none)) rmX8_addFace (PcW D ids ad cA A σ [.ref (ad 0 23 0), vL x1]) (QV D ids ad cA A P) 0 0 A := by
  refine m_entry (own := RX8) (by decide) (Nat.le_of_ble_eq_true rfl) rfl ?_
  intro p e s m below meth c ls X hr w hl
  have hl : lv_has ls 3 [(0, .ref (ad 0 23 0)), (1, vL x1)] := hl
  unfold wpX8_addFace at hq
  refine lv_aload_n X.x X.b dX8_addFace_0 rfl (lv_at hl 0 rfl) ?_
  refine lv_lload_n X.x X.b dX8_addFace_1 rfl (lv_at hl 1 rfl) ?_
  refine x_callVi (n := 1) (As := [vL x1]) (rest := []) X w (hM 23 (by decide)) rfl rfl (mX8_knownFace l D ids ad cA A hM x1 σ _ hq) (lw_V q809 q811 qs23 q43 q812) ⟨rfl, rfl⟩ (by decide +kernel) ⟨Nat.le_of_ble_eq_true rfl, Nat.le_of_ble_eq_true rfl⟩ ⟨Nat.le_refl _, Nat.le_refl _⟩ rfl hl.1 rfl (Nat.le_of_ble_eq_true rfl) dX8_addFace_2 (fun z1 σ1 H locs hq w => ?_)
  obtain ⟨o2, hq⟩ := hq
  refine ra_if_ne (tgt := 67) X.x X.b o2 dX8_addFace_5 (by decide) (fun c3 => ?_) (fun c3 => ?_)
  · have hq := hq.1 c3
    exact x_vret X hr w hq dX8_addFace_67
  · have hq := hq.2 c3
    refine lv_aload_n X.x X.b dX8_addFace_8 rfl (lv_at hl 0 rfl) ?_
    refine x_get X w (hM 23 (by decide)) rfl in_X8 rfl 12 (by decide) q683 rfl rfl dX8_addFace_9 ?_
    refine lv_aload_n X.x X.b dX8_addFace_12 rfl (lv_at hl 0 rfl) ?_
    refine x_get X w (hM 23 (by decide)) rfl in_X8 rfl 11 (by decide) q682 rfl rfl dX8_addFace_13 ?_
    refine lv_aload_n X.x X.b dX8_addFace_16 rfl (lv_at hl 0 rfl) ?_
    refine x_get X w (hM 23 (by decide)) rfl in_X8 rfl 23 (by decide) q694 rfl rfl dX8_addFace_17 ?_
    obtain ⟨o4, hq⟩ := hq
    refine x_last X w (hM 30 (by decide)) (fun _ => rfl) (by decide) o4.1 o4.2 dX8_addFace_20 (fun σ5 H locs eσ5 w => ?_)
    have hq := hq σ5 eσ5
    refine lv_aload_n X.x X.b dX8_addFace_21 rfl (lv_at hl 0 rfl) ?_
    refine x_get X w (hM 23 (by decide)) rfl in_X8 rfl 13 (by decide) q684 rfl rfl dX8_addFace_22 ?_
    refine lv_aload_n X.x X.b dX8_addFace_25 rfl (lv_at hl 0 rfl) ?_
    refine x_get X w (hM 23 (by decide)) rfl in_X8 rfl 11 (by decide) q682 rfl rfl dX8_addFace_26 ?_
    refine lv_aload_n X.x X.b dX8_addFace_29 rfl (lv_at hl 0 rfl) ?_
    refine x_get X w (hM 23 (by decide)) rfl in_X8 rfl 24 (by decide) q695 rfl rfl dX8_addFace_30 ?_
    obtain ⟨o6, hq⟩ := hq
    refine x_last X w (hM 31 (by decide)) (fun _ => rfl) (by decide) o6.1 o6.2 dX8_addFace_33 (fun σ7 H locs eσ7 w => ?_)
    have hq := hq σ7 eσ7
    refine lv_aload_n X.x X.b dX8_addFace_34 rfl (lv_at hl 0 rfl) ?_
    refine x_get X w (hM 23 (by decide)) rfl in_X8 rfl 14 (by decide) q685 rfl rfl dX8_addFace_35 ?_
    refine lv_aload_n X.x X.b dX8_addFace_38 rfl (lv_at hl 0 rfl) ?_
    refine x_get X w (hM 23 (by decide)) rfl in_X8 rfl 11 (by decide) q682 rfl rfl dX8_addFace_39 ?_
    refine lv_aload_n X.x X.b dX8_addFace_42 rfl (lv_at hl 0 rfl) ?_
    refine x_get X w (hM 23 (by decide)) rfl in_X8 rfl 25 (by decide) q696 rfl rfl dX8_addFace_43 ?_
    obtain ⟨o8, hq⟩ := hq
    refine x_last X w (hM 32 (by decide)) (fun _ => rfl) (by decide) o8.1 o8.2 dX8_addFace_46 (fun σ9 H locs eσ9 w => ?_)
    have hq := hq σ9 eσ9
    refine lv_aload_n X.x X.b dX8_addFace_47 rfl (lv_at hl 0 rfl) ?_
    refine x_get X w (hM 23 (by decide)) rfl in_X8 rfl 15 (by decide) q686 rfl rfl dX8_addFace_48 ?_
    refine lv_aload_n X.x X.b dX8_addFace_51 rfl (lv_at hl 0 rfl) ?_
    refine x_get X w (hM 23 (by decide)) rfl in_X8 rfl 11 (by decide) q682 rfl rfl dX8_addFace_52 ?_
    refine lv_lload_n X.x X.b dX8_addFace_55 rfl (lv_at hl 1 rfl) ?_
    obtain ⟨o10, hq⟩ := hq
    refine x_last X w (hM 33 (by decide)) (fun _ => rfl) (by decide) o10.1 o10.2 dX8_addFace_56 (fun σ11 H locs eσ11 w => ?_)
    have hq := hq σ11 eσ11
    refine lv_aload_n X.x X.b dX8_addFace_57 rfl (lv_at hl 0 rfl) ?_
    refine lv_dup X.x X.b dX8_addFace_58 rfl ?_
    refine x_get X w (hM 23 (by decide)) rfl in_X8 rfl 11 (by decide) q682 rfl rfl dX8_addFace_59 ?_
    refine ra_iconst X.x X.b dX8_addFace_62 ?_
    refine ra_iadd X.x X.b dX8_addFace_63 ?_
    refine x_put (z := ((σ11 0 23 0 11) + 1)) X w (hM 23 (by decide)) rfl in_X8 tyX8 tyX8_ok nmX8 rfl 11 (by decide) q682 rfl rfl rfl rfl (Nat.le_of_ble_eq_true rfl) rfl dX8_addFace_64 (fun σ12 H locs eσ12 w => ?_)
    have hq := hq σ12 eσ12
    exact x_vret X hr w hq dX8_addFace_67
def wlX8_tries_139  (P : Int → Tab → Prop) (x1 : Int) (y0 : Int) (σ : Tab) : Prop := wpX8_common (σ 0 23 0 23) (σ 0 23 0 24) σ (fun z1 σ1 => wpX8_common z1 (σ1 0 23 0 25) σ1 (fun z2 σ2 => (inL (σ2 0 23 0 23) ∧ (inL (y0 * z2) ∧ (y0 * z2 ≠ 0 ∧ (∀ σ6 : Tab, σ6 = st σ2 0 23 0 23 ((σ2 0 23 0 23).tdiv (y0 * z2)) → (inL (σ6 0 23 0 24) ∧ (inL (y0 * z2) ∧ (y0 * z2 ≠ 0 ∧ (∀ σ10 : Tab, σ10 = st σ6 0 23 0 24 ((σ6 0 23 0 24).tdiv (y0 * z2)) → (inL (σ10 0 23 0 25) ∧ (inL (y0 * z2) ∧ (y0 * z2 ≠ 0 ∧ (∀ σ14 : Tab, σ14 = st σ10 0 23 0 25 ((σ10 0 23 0 25).tdiv (y0 * z2)) → ((0 ≤ x1 ∧ x1 < 24) ∧ wpX8_addFace ((((σ14 0 23 0 23) * (σ14 0 27 0 x1.toNat)) + ((σ14 0 23 0 24) * (σ14 0 28 0 x1.toNat))) + ((σ14 0 23 0 25) * (σ14 0 29 0 x1.toNat))) σ14 (fun σ16 => P 0 σ16))))))))))))))))
def wlX8_tries_117  (P : Int → Tab → Prop) (x1 : Int) (x4 : Int) (x5 : Int) (σ : Tab) : Prop := (inI x4 ∧ ((x4 = 0 → ((x4 ≠ 0 → wlX8_tries_139 P x1 (-1) σ) ∧ (¬ (x4 ≠ 0) → wlX8_tries_139 P x1 1 σ))) ∧ (¬ (x4 = 0) → (inI x5 ∧ ((x5 ≠ 0 → P 0 σ) ∧ (¬ (x5 ≠ 0) → ((x4 ≠ 0 → wlX8_tries_139 P x1 (-1) σ) ∧ (¬ (x4 ≠ 0) → wlX8_tries_139 P x1 1 σ))))))))
def wlX8_tries_79  (P : Int → Tab → Prop) (K45 : Int → Int → Int → Int → Tab → Prop) (x1 : Int) (x5 : Int) (x6 : Int) (x7 : Int) (y0 : Int) (σ : Tab) : Prop := (inL x7 ∧ ((0 ≤ x7 → K45 x1 y0 x5 (x6 + 1) σ) ∧ (¬ (0 ≤ x7) → K45 x1 y0 (x5 + 1) (x6 + 1) σ)))
def wlX8_tries_45  (P : Int → Tab → Prop) : Nat → Int → Int → Int → Int → Tab → Prop
  | 0, _, _, _, _, _ => False
  | n + 1, x1, x4, x5, x6, σ => (inI x6 ∧ (inI (σ 0 23 0 7) ∧ ((σ 0 23 0 7 ≤ x6 → (inI x4 ∧ ((x4 ≠ 0 → wlX8_tries_117 P x1 x4 x5 σ) ∧ (¬ (x4 ≠ 0) → (inI x5 ∧ ((x5 ≠ 0 → wlX8_tries_117 P x1 x4 x5 σ) ∧ (¬ (x5 ≠ 0) → P 1 σ))))))) ∧ (¬ (σ 0 23 0 7 ≤ x6) → wpX8_above x1 x6 σ (fun z8 σ8 => (inL z8 ∧ ((z8 ≤ 0 → wlX8_tries_79 P (fun x1 x4 x5 x6 τ => wlX8_tries_45 P n x1 x4 x5 x6 τ) x1 x5 x6 z8 x4 σ8) ∧ (¬ (z8 ≤ 0) → wlX8_tries_79 P (fun x1 x4 x5 x6 τ => wlX8_tries_45 P n x1 x4 x5 x6 τ) x1 x5 x6 z8 (x4 + 1) σ8))))))))
def wpX8_tries (x1 : Int) (x2 : Int) (x3 : Int) (σ : Tab) (P : Int → Tab → Prop) : Prop := wpX8_across x1 x2 x3 σ (fun σ1 => (inL (σ1 0 23 0 23) ∧ ((σ1 0 23 0 23 ≠ 0 → (∃ k : Nat, wlX8_tries_45 P k x1 0 0 0 σ1)) ∧ (¬ (σ1 0 23 0 23 ≠ 0) → (inL (σ1 0 23 0 24) ∧ ((σ1 0 23 0 24 ≠ 0 → (∃ k : Nat, wlX8_tries_45 P k x1 0 0 0 σ1)) ∧ (¬ (σ1 0 23 0 24 ≠ 0) → (inL (σ1 0 23 0 25) ∧ ((σ1 0 23 0 25 ≠ 0 → (∃ k : Nat, wlX8_tries_45 P k x1 0 0 0 σ1)) ∧ (¬ (σ1 0 23 0 25 ≠ 0) → P 0 σ1))))))))))
abbrev rmX8_tries : Room := { frames := 2, cells := 0, slots := 0, locals := 46 }
set_option maxHeartbeats 4000000 in
set_option maxRecDepth 100000 in
theorem klX8_tries_139 {l : Launch} {p : Program} {e : Env} {s : State} {m : MethodId} {args : Array Value} {below : List Frame} {meth : Method} {c : Code} {D : va_G} {ids : Ids} {ad : Lay} {cA : Nat → ClassId} {A : Nat → Prop}  {P : Int → Tab → Prop} (X : Cx p m c meth cX8_tries 10 s args RX8 D cA A nwW) (hr : meth.sig.returnType = some .boolean) (hM : HasM ids) :
    ∀ (x1 : Int) (y0 : Int) (σ : Tab) (H : Heap) (locs : List Loc) (ls : Array Slot), wlX8_tries_139 P x1 y0 σ → ww D ids ad cA A σ s.heap H locs → lv_has ls 10 [(0, .ref (ad 0 23 0)), (1, vI x1)] → W p l e rmX8_tries s m args below meth c H locs 0 0 (MQ below (QI D ids ad cA A P) args s 0 0 A) (F0 m 139 ls [vL y0]) := by
  intro x1 y0 σ H locs ls hq w hl
  unfold wlX8_tries_139 at hq
  refine lv_lstore (lv' := [(6, vL y0), (0, .ref (ad 0 23 0)), (1, vI x1)]) X.x X.b dX8_tries_139 hl (by decide) rfl (fun ls hl => ?_)
  refine lv_lload X.x X.b dX8_tries_141 (lv_at hl 0 rfl) ?_
  refine lv_aload_n X.x X.b dX8_tries_143 rfl (lv_at hl 1 rfl) ?_
  refine x_get X w (hM 23 (by decide)) rfl in_X8 rfl 23 (by decide) q694 rfl rfl dX8_tries_144 ?_
  refine lv_aload_n X.x X.b dX8_tries_147 rfl (lv_at hl 1 rfl) ?_
  refine x_get X w (hM 23 (by decide)) rfl in_X8 rfl 24 (by decide) q695 rfl rfl dX8_tries_148 ?_
  refine x_callSl (n := 2) (As := [vL (σ 0 23 0 23), vL (σ 0 23 0 24)]) (rest := [vL y0]) X w (mX8_common l D ids ad cA A (σ 0 23 0 23) (σ 0 23 0 24) σ _ hq) (lw_S q802 q803 q43 q804) ⟨rfl, rfl⟩ (by decide +kernel) ⟨Nat.le_of_ble_eq_true rfl, Nat.le_of_ble_eq_true rfl⟩ ⟨Nat.le_refl _, Nat.le_refl _⟩ rfl hl.1 rfl (Nat.le_of_ble_eq_true rfl) dX8_tries_151 (fun z1 σ1 H locs hq w => ?_)
  refine lv_aload_n X.x X.b dX8_tries_154 rfl (lv_at hl 1 rfl) ?_
  refine x_get X w (hM 23 (by decide)) rfl in_X8 rfl 25 (by decide) q696 rfl rfl dX8_tries_155 ?_
  refine x_callSl (n := 2) (As := [vL z1, vL (σ1 0 23 0 25)]) (rest := [vL y0]) X w (mX8_common l D ids ad cA A z1 (σ1 0 23 0 25) σ1 _ hq) (lw_S q802 q803 q43 q804) ⟨rfl, rfl⟩ (by decide +kernel) ⟨Nat.le_of_ble_eq_true rfl, Nat.le_of_ble_eq_true rfl⟩ ⟨Nat.le_refl _, Nat.le_refl _⟩ rfl hl.1 rfl (Nat.le_of_ble_eq_true rfl) dX8_tries_158 (fun z2 σ2 H locs hq w => ?_)
  refine ra_lmul X.x X.b dX8_tries_161 ?_
  refine lv_lstore (lv' := [(8, vL (y0 * z2)), (6, vL y0), (0, .ref (ad 0 23 0)), (1, vI x1)]) X.x X.b dX8_tries_162 hl (by decide) rfl (fun ls hl => ?_)
  refine lv_aload_n X.x X.b dX8_tries_164 rfl (lv_at hl 2 rfl) ?_
  refine lv_aload_n X.x X.b dX8_tries_165 rfl (lv_at hl 2 rfl) ?_
  refine x_get X w (hM 23 (by decide)) rfl in_X8 rfl 23 (by decide) q694 rfl rfl dX8_tries_166 ?_
  refine lv_lload X.x X.b dX8_tries_169 (lv_at hl 0 rfl) ?_
  obtain ⟨o3, hq⟩ := hq
  obtain ⟨o4, hq⟩ := hq
  obtain ⟨o5, hq⟩ := hq
  refine ra_ldiv X.x X.b o3 o4 o5 dX8_tries_171 ?_
  refine x_put (z := ((σ2 0 23 0 23).tdiv (y0 * z2))) X w (hM 23 (by decide)) rfl in_X8 tyX8 tyX8_ok nmX8 rfl 23 (by decide) q694 rfl rfl rfl rfl (Nat.le_of_ble_eq_true rfl) rfl dX8_tries_172 (fun σ6 H locs eσ6 w => ?_)
  have hq := hq σ6 eσ6
  refine lv_aload_n X.x X.b dX8_tries_175 rfl (lv_at hl 2 rfl) ?_
  refine lv_aload_n X.x X.b dX8_tries_176 rfl (lv_at hl 2 rfl) ?_
  refine x_get X w (hM 23 (by decide)) rfl in_X8 rfl 24 (by decide) q695 rfl rfl dX8_tries_177 ?_
  refine lv_lload X.x X.b dX8_tries_180 (lv_at hl 0 rfl) ?_
  obtain ⟨o7, hq⟩ := hq
  obtain ⟨o8, hq⟩ := hq
  obtain ⟨o9, hq⟩ := hq
  refine ra_ldiv X.x X.b o7 o8 o9 dX8_tries_182 ?_
  refine x_put (z := ((σ6 0 23 0 24).tdiv (y0 * z2))) X w (hM 23 (by decide)) rfl in_X8 tyX8 tyX8_ok nmX8 rfl 24 (by decide) q695 rfl rfl rfl rfl (Nat.le_of_ble_eq_true rfl) rfl dX8_tries_183 (fun σ10 H locs eσ10 w => ?_)
  have hq := hq σ10 eσ10
  refine lv_aload_n X.x X.b dX8_tries_186 rfl (lv_at hl 2 rfl) ?_
  refine lv_aload_n X.x X.b dX8_tries_187 rfl (lv_at hl 2 rfl) ?_
  refine x_get X w (hM 23 (by decide)) rfl in_X8 rfl 25 (by decide) q696 rfl rfl dX8_tries_188 ?_
  refine lv_lload X.x X.b dX8_tries_191 (lv_at hl 0 rfl) ?_
  obtain ⟨o11, hq⟩ := hq
  obtain ⟨o12, hq⟩ := hq
  obtain ⟨o13, hq⟩ := hq
  refine ra_ldiv X.x X.b o11 o12 o13 dX8_tries_193 ?_
  refine x_put (z := ((σ10 0 23 0 25).tdiv (y0 * z2))) X w (hM 23 (by decide)) rfl in_X8 tyX8 tyX8_ok nmX8 rfl 25 (by decide) q696 rfl rfl rfl rfl (Nat.le_of_ble_eq_true rfl) rfl dX8_tries_194 (fun σ14 H locs eσ14 w => ?_)
  have hq := hq σ14 eσ14
  refine lv_aload_n X.x X.b dX8_tries_197 rfl (lv_at hl 2 rfl) ?_
  refine lv_aload_n X.x X.b dX8_tries_198 rfl (lv_at hl 2 rfl) ?_
  refine x_get X w (hM 23 (by decide)) rfl in_X8 rfl 23 (by decide) q694 rfl rfl dX8_tries_199 ?_
  refine lv_aload_n X.x X.b dX8_tries_202 rfl (lv_at hl 2 rfl) ?_
  refine x_get X w (hM 23 (by decide)) rfl in_X8 rfl 8 (by decide) q679 rfl rfl dX8_tries_203 ?_
  refine lv_iload_n X.x X.b dX8_tries_206 rfl (lv_at hl 3 rfl) ?_
  obtain ⟨o15, hq⟩ := hq
  refine x_lald X w (hM 27 (by decide)) rfl (by decide) o15.1 o15.2 dX8_tries_207 ?_
  refine ra_lmul X.x X.b dX8_tries_208 ?_
  refine lv_aload_n X.x X.b dX8_tries_209 rfl (lv_at hl 2 rfl) ?_
  refine x_get X w (hM 23 (by decide)) rfl in_X8 rfl 24 (by decide) q695 rfl rfl dX8_tries_210 ?_
  refine lv_aload_n X.x X.b dX8_tries_213 rfl (lv_at hl 2 rfl) ?_
  refine x_get X w (hM 23 (by decide)) rfl in_X8 rfl 9 (by decide) q680 rfl rfl dX8_tries_214 ?_
  refine lv_iload_n X.x X.b dX8_tries_217 rfl (lv_at hl 3 rfl) ?_
  refine x_lald X w (hM 28 (by decide)) rfl (by decide) o15.1 o15.2 dX8_tries_218 ?_
  refine ra_lmul X.x X.b dX8_tries_219 ?_
  refine ra_ladd X.x X.b dX8_tries_220 ?_
  refine lv_aload_n X.x X.b dX8_tries_221 rfl (lv_at hl 2 rfl) ?_
  refine x_get X w (hM 23 (by decide)) rfl in_X8 rfl 25 (by decide) q696 rfl rfl dX8_tries_222 ?_
  refine lv_aload_n X.x X.b dX8_tries_225 rfl (lv_at hl 2 rfl) ?_
  refine x_get X w (hM 23 (by decide)) rfl in_X8 rfl 10 (by decide) q681 rfl rfl dX8_tries_226 ?_
  refine lv_iload_n X.x X.b dX8_tries_229 rfl (lv_at hl 3 rfl) ?_
  refine x_lald X w (hM 29 (by decide)) rfl (by decide) o15.1 o15.2 dX8_tries_230 ?_
  refine ra_lmul X.x X.b dX8_tries_231 ?_
  refine ra_ladd X.x X.b dX8_tries_232 ?_
  refine x_callVv (n := 1) (As := [vL ((((σ14 0 23 0 23) * (σ14 0 27 0 x1.toNat)) + ((σ14 0 23 0 24) * (σ14 0 28 0 x1.toNat))) + ((σ14 0 23 0 25) * (σ14 0 29 0 x1.toNat)))]) (rest := []) X w (hM 23 (by decide)) rfl rfl (mX8_addFace l D ids ad cA A hM ((((σ14 0 23 0 23) * (σ14 0 27 0 x1.toNat)) + ((σ14 0 23 0 24) * (σ14 0 28 0 x1.toNat))) + ((σ14 0 23 0 25) * (σ14 0 29 0 x1.toNat))) σ14 _ hq) (lw_V q805 q807 qs22 q43 q808) ⟨rfl, rfl⟩ (by decide +kernel) ⟨Nat.le_of_ble_eq_true rfl, Nat.le_of_ble_eq_true rfl⟩ ⟨Nat.le_refl _, Nat.le_refl _⟩ rfl hl.1 rfl (Nat.le_of_ble_eq_true rfl) dX8_tries_233 (fun σ16 H locs hq w => ?_)
  refine ra_iconst X.x X.b dX8_tries_236 ?_
  exact x_zret X hr w (by decide) hq dX8_tries_237
set_option maxHeartbeats 4000000 in
set_option maxRecDepth 100000 in
theorem klX8_tries_117 {l : Launch} {p : Program} {e : Env} {s : State} {m : MethodId} {args : Array Value} {below : List Frame} {meth : Method} {c : Code} {D : va_G} {ids : Ids} {ad : Lay} {cA : Nat → ClassId} {A : Nat → Prop}  {P : Int → Tab → Prop} (X : Cx p m c meth cX8_tries 10 s args RX8 D cA A nwW) (hr : meth.sig.returnType = some .boolean) (hM : HasM ids) :
    ∀ (x1 : Int) (x4 : Int) (x5 : Int) (σ : Tab) (H : Heap) (locs : List Loc) (ls : Array Slot), wlX8_tries_117 P x1 x4 x5 σ → ww D ids ad cA A σ s.heap H locs → lv_has ls 10 [(0, .ref (ad 0 23 0)), (1, vI x1), (4, vI x4), (5, vI x5)] → W p l e rmX8_tries s m args below meth c H locs 0 0 (MQ below (QI D ids ad cA A P) args s 0 0 A) (F0 m 117 ls []) := by
  intro x1 x4 x5 σ H locs ls hq w hl
  unfold wlX8_tries_117 at hq
  refine lv_iload X.x X.b dX8_tries_117 (lv_at hl 2 rfl) ?_
  obtain ⟨o1, hq⟩ := hq
  refine ra_if_eq (tgt := 127) X.x X.b o1 dX8_tries_119 (by decide) (fun c2 => ?_) (fun c2 => ?_)
  · have hq := hq.1 c2
    refine lv_iload X.x X.b dX8_tries_127 (lv_at hl 2 rfl) ?_
    refine ra_if_ne (tgt := 136) X.x X.b o1 dX8_tries_129 (by decide) (fun c3 => ?_) (fun c3 => ?_)
    · have hq := hq.1 c3
      refine ra_ldc2Z (z := (-1)) X.x X.b X.o (X.t _ q801) (by decide) dX8_tries_136 ?_
      exact klX8_tries_139 X hr hM  x1 (-1) σ _ _ _ hq w (lv_sub hl [0, 1] rfl)
    · have hq := hq.2 c3
      refine ra_lconst (z := 1) X.x X.b dX8_tries_132 rfl ?_
      refine lv_goto (tgt := 139) X.x X.b dX8_tries_133 (by decide) ?_
      exact klX8_tries_139 X hr hM  x1 1 σ _ _ _ hq w (lv_sub hl [0, 1] rfl)
  · have hq := hq.2 c2
    refine lv_iload X.x X.b dX8_tries_122 (lv_at hl 3 rfl) ?_
    obtain ⟨o4, hq⟩ := hq
    refine ra_if_ne (tgt := 236) X.x X.b o4 dX8_tries_124 (by decide) (fun c5 => ?_) (fun c5 => ?_)
    · have hq := hq.1 c5
      refine ra_iconst X.x X.b dX8_tries_236 ?_
      exact x_zret X hr w (by decide) hq dX8_tries_237
    · have hq := hq.2 c5
      refine lv_iload X.x X.b dX8_tries_127 (lv_at hl 2 rfl) ?_
      refine ra_if_ne (tgt := 136) X.x X.b o1 dX8_tries_129 (by decide) (fun c6 => ?_) (fun c6 => ?_)
      · have hq := hq.1 c6
        refine ra_ldc2Z (z := (-1)) X.x X.b X.o (X.t _ q801) (by decide) dX8_tries_136 ?_
        exact klX8_tries_139 X hr hM  x1 (-1) σ _ _ _ hq w (lv_sub hl [0, 1] rfl)
      · have hq := hq.2 c6
        refine ra_lconst (z := 1) X.x X.b dX8_tries_132 rfl ?_
        refine lv_goto (tgt := 139) X.x X.b dX8_tries_133 (by decide) ?_
        exact klX8_tries_139 X hr hM  x1 1 σ _ _ _ hq w (lv_sub hl [0, 1] rfl)
set_option maxHeartbeats 4000000 in
set_option maxRecDepth 100000 in
theorem klX8_tries_79 {l : Launch} {p : Program} {e : Env} {s : State} {m : MethodId} {args : Array Value} {below : List Frame} {meth : Method} {c : Code} {D : va_G} {ids : Ids} {ad : Lay} {cA : Nat → ClassId} {A : Nat → Prop}  {P : Int → Tab → Prop} {K45 : Int → Int → Int → Int → Tab → Prop} (X : Cx p m c meth cX8_tries 10 s args RX8 D cA A nwW) (hr : meth.sig.returnType = some .boolean) (hM : HasM ids) (kk45 : ∀ (x1 : Int) (x4 : Int) (x5 : Int) (x6 : Int) (σ : Tab) (H : Heap) (locs : List Loc) (ls : Array Slot), K45 x1 x4 x5 x6 σ → ww D ids ad cA A σ s.heap H locs → lv_has ls 10 [(0, .ref (ad 0 23 0)), (1, vI x1), (4, vI x4), (5, vI x5), (6, vI x6)] → W p l e rmX8_tries s m args below meth c H locs 0 0 (MQ below (QI D ids ad cA A P) args s 0 0 A) (F0 m 45 ls [])) :
    ∀ (x1 : Int) (x5 : Int) (x6 : Int) (x7 : Int) (y0 : Int) (σ : Tab) (H : Heap) (locs : List Loc) (ls : Array Slot), wlX8_tries_79 P K45 x1 x5 x6 x7 y0 σ → ww D ids ad cA A σ s.heap H locs → lv_has ls 10 [(0, .ref (ad 0 23 0)), (1, vI x1), (5, vI x5), (6, vI x6), (7, vL x7)] → W p l e rmX8_tries s m args below meth c H locs 0 0 (MQ below (QI D ids ad cA A P) args s 0 0 A) (F0 m 79 ls [vI y0]) := by
  intro x1 x5 x6 x7 y0 σ H locs ls hq w hl
  unfold wlX8_tries_79 at hq
  refine lv_istore (lv' := [(4, vI y0), (0, .ref (ad 0 23 0)), (1, vI x1), (5, vI x5), (6, vI x6), (7, vL x7)]) X.x X.b dX8_tries_79 hl (by decide) rfl (fun ls hl => ?_)
  refine lv_lload X.x X.b dX8_tries_81 (lv_at hl 5 rfl) ?_
  refine ra_lconst (z := 0) X.x X.b dX8_tries_83 rfl ?_
  obtain ⟨o1, hq⟩ := hq
  refine ra_lcmp_ge (tgt := 95) X.x X.b o1 ⟨by decide, by decide⟩ dX8_tries_84 dX8_tries_85 (by decide) (fun c2 => ?_) (fun c2 => ?_)
  · have hq := hq.1 c2
    refine lv_iload X.x X.b dX8_tries_95 (lv_at hl 3 rfl) ?_
    refine lv_istore (lv' := [(5, vI x5), (4, vI y0), (0, .ref (ad 0 23 0)), (1, vI x1), (6, vI x6), (7, vL x7)]) X.x X.b dX8_tries_97 hl (by decide) rfl (fun ls hl => ?_)
    refine lv_iinc (v := Int32.ofInt (x6 + 1)) (lv' := [(6, vI (x6 + 1)), (5, vI x5), (4, vI y0), (0, .ref (ad 0 23 0)), (1, vI x1), (7, vL x7)]) X.x X.b dX8_tries_99 hl (k := 4) rfl (Int32.ofInt_add _ _).symm (by decide) rfl (fun ls hl => ?_)
    refine lv_goto (tgt := 45) X.x X.b dX8_tries_102 (by decide) ?_
    exact kk45 x1 y0 x5 (x6 + 1) σ _ _ _ hq w (lv_sub hl [3, 4, 2, 1, 0] rfl)
  · have hq := hq.2 c2
    refine lv_iload X.x X.b dX8_tries_88 (lv_at hl 3 rfl) ?_
    refine ra_iconst X.x X.b dX8_tries_90 ?_
    refine ra_iadd X.x X.b dX8_tries_91 ?_
    refine lv_goto (tgt := 97) X.x X.b dX8_tries_92 (by decide) ?_
    refine lv_istore (lv' := [(5, vI (x5 + 1)), (4, vI y0), (0, .ref (ad 0 23 0)), (1, vI x1), (6, vI x6), (7, vL x7)]) X.x X.b dX8_tries_97 hl (by decide) rfl (fun ls hl => ?_)
    refine lv_iinc (v := Int32.ofInt (x6 + 1)) (lv' := [(6, vI (x6 + 1)), (5, vI (x5 + 1)), (4, vI y0), (0, .ref (ad 0 23 0)), (1, vI x1), (7, vL x7)]) X.x X.b dX8_tries_99 hl (k := 4) rfl (Int32.ofInt_add _ _).symm (by decide) rfl (fun ls hl => ?_)
    refine lv_goto (tgt := 45) X.x X.b dX8_tries_102 (by decide) ?_
    exact kk45 x1 y0 (x5 + 1) (x6 + 1) σ _ _ _ hq w (lv_sub hl [3, 4, 2, 1, 0] rfl)
set_option maxHeartbeats 4000000 in
set_option maxRecDepth 100000 in
theorem klX8_tries_45 {l : Launch} {p : Program} {e : Env} {s : State} {m : MethodId} {args : Array Value} {below : List Frame} {meth : Method} {c : Code} {D : va_G} {ids : Ids} {ad : Lay} {cA : Nat → ClassId} {A : Nat → Prop}  {P : Int → Tab → Prop} (X : Cx p m c meth cX8_tries 10 s args RX8 D cA A nwW) (hr : meth.sig.returnType = some .boolean) (hM : HasM ids) :
    ∀ (n : Nat) (x1 : Int) (x4 : Int) (x5 : Int) (x6 : Int) (σ : Tab) (H : Heap) (locs : List Loc) (ls : Array Slot), wlX8_tries_45 P n x1 x4 x5 x6 σ → ww D ids ad cA A σ s.heap H locs → lv_has ls 10 [(0, .ref (ad 0 23 0)), (1, vI x1), (4, vI x4), (5, vI x5), (6, vI x6)] → W p l e rmX8_tries s m args below meth c H locs 0 0 (MQ below (QI D ids ad cA A P) args s 0 0 A) (F0 m 45 ls []) := by
  intro n
  induction n with
  | zero => intro x1 x4 x5 x6 σ H locs ls hq w hl; exact hq.elim
  | succ n ih =>
    intro x1 x4 x5 x6 σ H locs ls hq w hl
    unfold wlX8_tries_45 at hq
    refine lv_iload X.x X.b dX8_tries_45 (lv_at hl 4 rfl) ?_
    refine lv_aload_n X.x X.b dX8_tries_47 rfl (lv_at hl 0 rfl) ?_
    refine x_get X w (hM 23 (by decide)) rfl in_X8 rfl 7 (by decide) q678 rfl rfl dX8_tries_48 ?_
    obtain ⟨o1, hq⟩ := hq
    obtain ⟨o2, hq⟩ := hq
    refine ra_icmp_ge (tgt := 105) X.x X.b o1 o2 dX8_tries_51 (by decide) (fun c3 => ?_) (fun c3 => ?_)
    · have hq := hq.1 c3
      refine lv_iload X.x X.b dX8_tries_105 (lv_at hl 2 rfl) ?_
      obtain ⟨o4, hq⟩ := hq
      refine ra_if_ne (tgt := 117) X.x X.b o4 dX8_tries_107 (by decide) (fun c5 => ?_) (fun c5 => ?_)
      · have hq := hq.1 c5
        exact klX8_tries_117 X hr hM  x1 x4 x5 σ _ _ _ hq w (lv_sub hl [0, 1, 2, 3] rfl)
      · have hq := hq.2 c5
        refine lv_iload X.x X.b dX8_tries_110 (lv_at hl 3 rfl) ?_
        obtain ⟨o6, hq⟩ := hq
        refine ra_if_ne (tgt := 117) X.x X.b o6 dX8_tries_112 (by decide) (fun c7 => ?_) (fun c7 => ?_)
        · have hq := hq.1 c7
          exact klX8_tries_117 X hr hM  x1 x4 x5 σ _ _ _ hq w (lv_sub hl [0, 1, 2, 3] rfl)
        · have hq := hq.2 c7
          refine ra_iconst X.x X.b dX8_tries_115 ?_
          exact x_zret X hr w (by decide) hq dX8_tries_116
    · have hq := hq.2 c3
      refine lv_aload_n X.x X.b dX8_tries_54 rfl (lv_at hl 0 rfl) ?_
      refine lv_iload_n X.x X.b dX8_tries_55 rfl (lv_at hl 1 rfl) ?_
      refine lv_iload X.x X.b dX8_tries_56 (lv_at hl 4 rfl) ?_
      refine x_callVl (n := 2) (As := [vI x1, vI x6]) (rest := []) X w (hM 23 (by decide)) rfl rfl (mX8_above l D ids ad cA A hM x1 x6 σ _ hq) (lw_V q797 q799 qs21 q43 q800) ⟨rfl, rfl⟩ (by decide +kernel) ⟨Nat.le_of_ble_eq_true rfl, Nat.le_of_ble_eq_true rfl⟩ ⟨Nat.le_refl _, Nat.le_refl _⟩ rfl hl.1 rfl (Nat.le_of_ble_eq_true rfl) dX8_tries_58 (fun z8 σ8 H locs hq w => ?_)
      refine lv_lstore (lv' := [(7, vL z8), (0, .ref (ad 0 23 0)), (1, vI x1), (4, vI x4), (5, vI x5), (6, vI x6)]) X.x X.b dX8_tries_61 hl (by decide) rfl (fun ls hl => ?_)
      refine lv_lload X.x X.b dX8_tries_63 (lv_at hl 0 rfl) ?_
      refine ra_lconst (z := 0) X.x X.b dX8_tries_65 rfl ?_
      obtain ⟨o9, hq⟩ := hq
      refine ra_lcmp_le (tgt := 77) X.x X.b o9 ⟨by decide, by decide⟩ dX8_tries_66 dX8_tries_67 (by decide) (fun c10 => ?_) (fun c10 => ?_)
      · have hq := hq.1 c10
        refine lv_iload X.x X.b dX8_tries_77 (lv_at hl 3 rfl) ?_
        exact klX8_tries_79 X hr hM (fun a0 a1 a2 a3 τ H L ls q w h => ih a0 a1 a2 a3 τ H L ls q w h) x1 x5 x6 z8 x4 σ8 _ _ _ hq w (lv_sub hl [1, 2, 4, 5, 0] rfl)
      · have hq := hq.2 c10
        refine lv_iload X.x X.b dX8_tries_70 (lv_at hl 3 rfl) ?_
        refine ra_iconst X.x X.b dX8_tries_72 ?_
        refine ra_iadd X.x X.b dX8_tries_73 ?_
        refine lv_goto (tgt := 79) X.x X.b dX8_tries_74 (by decide) ?_
        exact klX8_tries_79 X hr hM (fun a0 a1 a2 a3 τ H L ls q w h => ih a0 a1 a2 a3 τ H L ls q w h) x1 x5 x6 z8 (x4 + 1) σ8 _ _ _ hq w (lv_sub hl [1, 2, 4, 5, 0] rfl)
set_option maxHeartbeats 4000000 in
set_option maxRecDepth 100000 in
theorem mX8_tries (l : Launch) (D : va_G) (ids : Ids) (ad : Lay) (cA : Nat → ClassId) (A : Nat → Prop) (hM : HasM ids) (x1 : Int) (x2 : Int) (x3 : Int) (σ : Tab) (P : Int → Tab → Prop) (hq : wpX8_tries x1 x2 x3 σ P) : Met l yX8_tries (ws_ yX8_tries cX8_tries 10 (some .boolean)) rmX8_tries (PcW D ids ad cA A σ [.ref (ad 0 23 0), vI x1, vI x2, vI x3]) (QI D ids ad cA A P) 0 0 A := by
  refine m_entry (own := RX8) (by decide) (Nat.le_of_ble_eq_true rfl) rfl ?_
  intro p e s m below meth c ls X hr w hl
  have hl : lv_has ls 10 [(0, .ref (ad 0 23 0)), (1, vI x1), (2, vI x2), (3, vI x3)] := hl
  unfold wpX8_tries at hq
  refine lv_aload_n X.x X.b dX8_tries_0 rfl (lv_at hl 0 rfl) ?_
  refine lv_iload_n X.x X.b dX8_tries_1 rfl (lv_at hl 1 rfl) ?_
  refine lv_iload_n X.x X.b dX8_tries_2 rfl (lv_at hl 2 rfl) ?_
  refine lv_iload_n X.x X.b dX8_tries_3 rfl (lv_at hl 3 rfl) ?_
  refine x_callVv (n := 3) (As := [vI x1, vI x2, vI x3]) (rest := []) X w (hM 23 (by decide)) rfl rfl (mX8_across l D ids ad cA A hM x1 x2 x3 σ _ hq) (lw_V q793 q795 qs20 q43 q796) ⟨rfl, rfl⟩ (by decide +kernel) ⟨Nat.le_of_ble_eq_true rfl, Nat.le_of_ble_eq_true rfl⟩ ⟨Nat.le_refl _, Nat.le_refl _⟩ rfl hl.1 rfl (Nat.le_of_ble_eq_true rfl) dX8_tries_4 (fun σ1 H locs hq w => ?_)
  refine lv_aload_n X.x X.b dX8_tries_7 rfl (lv_at hl 0 rfl) ?_
  refine x_get X w (hM 23 (by decide)) rfl in_X8 rfl 23 (by decide) q694 rfl rfl dX8_tries_8 ?_
  refine ra_lconst (z := 0) X.x X.b dX8_tries_11 rfl ?_
  obtain ⟨o2, hq⟩ := hq
  refine ra_lcmp_ne (tgt := 36) X.x X.b o2 ⟨by decide, by decide⟩ dX8_tries_12 dX8_tries_13 (by decide) (fun c3 => ?_) (fun c3 => ?_)
  · have hq := hq.1 c3
    refine ra_iconst X.x X.b dX8_tries_36 ?_
    refine lv_istore (lv' := [(4, vI 0), (0, .ref (ad 0 23 0)), (1, vI x1), (2, vI x2), (3, vI x3)]) X.x X.b dX8_tries_37 hl (by decide) rfl (fun ls hl => ?_)
    refine ra_iconst X.x X.b dX8_tries_39 ?_
    refine lv_istore (lv' := [(5, vI 0), (4, vI 0), (0, .ref (ad 0 23 0)), (1, vI x1), (2, vI x2), (3, vI x3)]) X.x X.b dX8_tries_40 hl (by decide) rfl (fun ls hl => ?_)
    refine ra_iconst X.x X.b dX8_tries_42 ?_
    refine lv_istore (lv' := [(6, vI 0), (5, vI 0), (4, vI 0), (0, .ref (ad 0 23 0)), (1, vI x1), (2, vI x2), (3, vI x3)]) X.x X.b dX8_tries_43 hl (by decide) rfl (fun ls hl => ?_)
    obtain ⟨n4, hq⟩ := hq
    exact klX8_tries_45 X hr hM  n4 x1 0 0 0 σ1 _ _ _ hq w (lv_sub hl [3, 4, 2, 1, 0] rfl)
  · have hq := hq.2 c3
    refine lv_aload_n X.x X.b dX8_tries_16 rfl (lv_at hl 0 rfl) ?_
    refine x_get X w (hM 23 (by decide)) rfl in_X8 rfl 24 (by decide) q695 rfl rfl dX8_tries_17 ?_
    refine ra_lconst (z := 0) X.x X.b dX8_tries_20 rfl ?_
    obtain ⟨o5, hq⟩ := hq
    refine ra_lcmp_ne (tgt := 36) X.x X.b o5 ⟨by decide, by decide⟩ dX8_tries_21 dX8_tries_22 (by decide) (fun c6 => ?_) (fun c6 => ?_)
    · have hq := hq.1 c6
      refine ra_iconst X.x X.b dX8_tries_36 ?_
      refine lv_istore (lv' := [(4, vI 0), (0, .ref (ad 0 23 0)), (1, vI x1), (2, vI x2), (3, vI x3)]) X.x X.b dX8_tries_37 hl (by decide) rfl (fun ls hl => ?_)
      refine ra_iconst X.x X.b dX8_tries_39 ?_
      refine lv_istore (lv' := [(5, vI 0), (4, vI 0), (0, .ref (ad 0 23 0)), (1, vI x1), (2, vI x2), (3, vI x3)]) X.x X.b dX8_tries_40 hl (by decide) rfl (fun ls hl => ?_)
      refine ra_iconst X.x X.b dX8_tries_42 ?_
      refine lv_istore (lv' := [(6, vI 0), (5, vI 0), (4, vI 0), (0, .ref (ad 0 23 0)), (1, vI x1), (2, vI x2), (3, vI x3)]) X.x X.b dX8_tries_43 hl (by decide) rfl (fun ls hl => ?_)
      obtain ⟨n7, hq⟩ := hq
      exact klX8_tries_45 X hr hM  n7 x1 0 0 0 σ1 _ _ _ hq w (lv_sub hl [3, 4, 2, 1, 0] rfl)
    · have hq := hq.2 c6
      refine lv_aload_n X.x X.b dX8_tries_25 rfl (lv_at hl 0 rfl) ?_
      refine x_get X w (hM 23 (by decide)) rfl in_X8 rfl 25 (by decide) q696 rfl rfl dX8_tries_26 ?_
      refine ra_lconst (z := 0) X.x X.b dX8_tries_29 rfl ?_
      obtain ⟨o8, hq⟩ := hq
      refine ra_lcmp_ne (tgt := 36) X.x X.b o8 ⟨by decide, by decide⟩ dX8_tries_30 dX8_tries_31 (by decide) (fun c9 => ?_) (fun c9 => ?_)
      · have hq := hq.1 c9
        refine ra_iconst X.x X.b dX8_tries_36 ?_
        refine lv_istore (lv' := [(4, vI 0), (0, .ref (ad 0 23 0)), (1, vI x1), (2, vI x2), (3, vI x3)]) X.x X.b dX8_tries_37 hl (by decide) rfl (fun ls hl => ?_)
        refine ra_iconst X.x X.b dX8_tries_39 ?_
        refine lv_istore (lv' := [(5, vI 0), (4, vI 0), (0, .ref (ad 0 23 0)), (1, vI x1), (2, vI x2), (3, vI x3)]) X.x X.b dX8_tries_40 hl (by decide) rfl (fun ls hl => ?_)
        refine ra_iconst X.x X.b dX8_tries_42 ?_
        refine lv_istore (lv' := [(6, vI 0), (5, vI 0), (4, vI 0), (0, .ref (ad 0 23 0)), (1, vI x1), (2, vI x2), (3, vI x3)]) X.x X.b dX8_tries_43 hl (by decide) rfl (fun ls hl => ?_)
        obtain ⟨n10, hq⟩ := hq
        exact klX8_tries_45 X hr hM  n10 x1 0 0 0 σ1 _ _ _ hq w (lv_sub hl [3, 4, 2, 1, 0] rfl)
      · have hq := hq.2 c9
        refine ra_iconst X.x X.b dX8_tries_34 ?_
        exact x_zret X hr w (by decide) hq dX8_tries_35
def wpX8_in (x1 : Int) (x2 : Int) (σ : Tab) (P : Int → Tab → Prop) : Prop := ((0 ≤ x1 ∧ x1 < 64) ∧ ((0 ≤ x2 ∧ x2 < 24) ∧ (inL ((((σ 0 30 0 x1.toNat) * (σ 0 27 0 x2.toNat)) + ((σ 0 31 0 x1.toNat) * (σ 0 28 0 x2.toNat))) + ((σ 0 32 0 x1.toNat) * (σ 0 29 0 x2.toNat))) ∧ (inL (σ 0 33 0 x1.toNat) ∧ (((((σ 0 30 0 x1.toNat) * (σ 0 27 0 x2.toNat)) + ((σ 0 31 0 x1.toNat) * (σ 0 28 0 x2.toNat))) + ((σ 0 32 0 x1.toNat) * (σ 0 29 0 x2.toNat)) ≠ σ 0 33 0 x1.toNat → P 0 σ) ∧ (¬ ((((σ 0 30 0 x1.toNat) * (σ 0 27 0 x2.toNat)) + ((σ 0 31 0 x1.toNat) * (σ 0 28 0 x2.toNat))) + ((σ 0 32 0 x1.toNat) * (σ 0 29 0 x2.toNat)) ≠ σ 0 33 0 x1.toNat) → P 1 σ))))))
abbrev rmX8_in : Room := { frames := 0, cells := 0, slots := 0, locals := 0 }
set_option maxHeartbeats 4000000 in
set_option maxRecDepth 100000 in
theorem mX8_in (l : Launch) (D : va_G) (ids : Ids) (ad : Lay) (cA : Nat → ClassId) (A : Nat → Prop) (hM : HasM ids) (x1 : Int) (x2 : Int) (σ : Tab) (P : Int → Tab → Prop) (hq : wpX8_in x1 x2 σ P) : Met l yX8_in (ws_ yX8_in cX8_in 3 (some .boolean)) rmX8_in (PcW D ids ad cA A σ [.ref (ad 0 23 0), vI x1, vI x2]) (QI D ids ad cA A P) 0 0 A := by
  refine m_entry (own := RX8) (by decide) (Nat.le_of_ble_eq_true rfl) rfl ?_
  intro p e s m below meth c ls X hr w hl
  have hl : lv_has ls 3 [(0, .ref (ad 0 23 0)), (1, vI x1), (2, vI x2)] := hl
  unfold wpX8_in at hq
  refine lv_aload_n X.x X.b dX8_in_0 rfl (lv_at hl 0 rfl) ?_
  refine x_get X w (hM 23 (by decide)) rfl in_X8 rfl 12 (by decide) q683 rfl rfl dX8_in_1 ?_
  refine lv_iload_n X.x X.b dX8_in_4 rfl (lv_at hl 1 rfl) ?_
  obtain ⟨o1, hq⟩ := hq
  refine x_lald X w (hM 30 (by decide)) rfl (by decide) o1.1 o1.2 dX8_in_5 ?_
  refine lv_aload_n X.x X.b dX8_in_6 rfl (lv_at hl 0 rfl) ?_
  refine x_get X w (hM 23 (by decide)) rfl in_X8 rfl 8 (by decide) q679 rfl rfl dX8_in_7 ?_
  refine lv_iload_n X.x X.b dX8_in_10 rfl (lv_at hl 2 rfl) ?_
  obtain ⟨o2, hq⟩ := hq
  refine x_lald X w (hM 27 (by decide)) rfl (by decide) o2.1 o2.2 dX8_in_11 ?_
  refine ra_lmul X.x X.b dX8_in_12 ?_
  refine lv_aload_n X.x X.b dX8_in_13 rfl (lv_at hl 0 rfl) ?_
  refine x_get X w (hM 23 (by decide)) rfl in_X8 rfl 13 (by decide) q684 rfl rfl dX8_in_14 ?_
  refine lv_iload_n X.x X.b dX8_in_17 rfl (lv_at hl 1 rfl) ?_
  refine x_lald X w (hM 31 (by decide)) rfl (by decide) o1.1 o1.2 dX8_in_18 ?_
  refine lv_aload_n X.x X.b dX8_in_19 rfl (lv_at hl 0 rfl) ?_
  refine x_get X w (hM 23 (by decide)) rfl in_X8 rfl 9 (by decide) q680 rfl rfl dX8_in_20 ?_
  refine lv_iload_n X.x X.b dX8_in_23 rfl (lv_at hl 2 rfl) ?_
  refine x_lald X w (hM 28 (by decide)) rfl (by decide) o2.1 o2.2 dX8_in_24 ?_
  refine ra_lmul X.x X.b dX8_in_25 ?_
  refine ra_ladd X.x X.b dX8_in_26 ?_
  refine lv_aload_n X.x X.b dX8_in_27 rfl (lv_at hl 0 rfl) ?_
  refine x_get X w (hM 23 (by decide)) rfl in_X8 rfl 14 (by decide) q685 rfl rfl dX8_in_28 ?_
  refine lv_iload_n X.x X.b dX8_in_31 rfl (lv_at hl 1 rfl) ?_
  refine x_lald X w (hM 32 (by decide)) rfl (by decide) o1.1 o1.2 dX8_in_32 ?_
  refine lv_aload_n X.x X.b dX8_in_33 rfl (lv_at hl 0 rfl) ?_
  refine x_get X w (hM 23 (by decide)) rfl in_X8 rfl 10 (by decide) q681 rfl rfl dX8_in_34 ?_
  refine lv_iload_n X.x X.b dX8_in_37 rfl (lv_at hl 2 rfl) ?_
  refine x_lald X w (hM 29 (by decide)) rfl (by decide) o2.1 o2.2 dX8_in_38 ?_
  refine ra_lmul X.x X.b dX8_in_39 ?_
  refine ra_ladd X.x X.b dX8_in_40 ?_
  refine lv_aload_n X.x X.b dX8_in_41 rfl (lv_at hl 0 rfl) ?_
  refine x_get X w (hM 23 (by decide)) rfl in_X8 rfl 15 (by decide) q686 rfl rfl dX8_in_42 ?_
  refine lv_iload_n X.x X.b dX8_in_45 rfl (lv_at hl 1 rfl) ?_
  refine x_lald X w (hM 33 (by decide)) rfl (by decide) o1.1 o1.2 dX8_in_46 ?_
  obtain ⟨o3, hq⟩ := hq
  obtain ⟨o4, hq⟩ := hq
  refine ra_lcmp_ne (tgt := 55) X.x X.b o3 o4 dX8_in_47 dX8_in_48 (by decide) (fun c5 => ?_) (fun c5 => ?_)
  · have hq := hq.1 c5
    refine ra_iconst X.x X.b dX8_in_55 ?_
    exact x_zret X hr w (by decide) hq dX8_in_56
  · have hq := hq.2 c5
    refine ra_iconst X.x X.b dX8_in_51 ?_
    refine lv_goto (tgt := 56) X.x X.b dX8_in_52 (by decide) ?_
    exact x_zret X hr w (by decide) hq dX8_in_56
def wlX8_goesOn_15  (P : Int → Tab → Prop) : Nat → Int → Int → Int → Int → Int → Tab → Prop
  | 0, _, _, _, _, _, _ => False
  | n + 1, x1, x2, x3, x4, x5, σ => (inI x5 ∧ (inI (σ 0 23 0 7) ∧ ((σ 0 23 0 7 ≤ x5 → ((x4 = 0 ∨ x4 = 1) ∧ P x4 σ)) ∧ (¬ (σ 0 23 0 7 ≤ x5) → (inI x4 ∧ ((x4 = 0 → ((x4 = 0 ∨ x4 = 1) ∧ P x4 σ)) ∧ (¬ (x4 = 0) → (inI x2 ∧ ((x5 = x2 → wlX8_goesOn_15 P n x1 x2 x3 x4 (x5 + 1) σ) ∧ (¬ (x5 = x2) → (inI x3 ∧ ((x5 = x3 → wlX8_goesOn_15 P n x1 x2 x3 x4 (x5 + 1) σ) ∧ (¬ (x5 = x3) → wpX8_in x1 x5 σ (fun z12 σ12 => (inI z12 ∧ ((z12 = 0 → wlX8_goesOn_15 P n x1 x2 x3 x4 (x5 + 1) σ12) ∧ (¬ (z12 = 0) → wpX8_across x2 x3 x5 σ12 (fun σ15 => ((0 ≤ x1 ∧ x1 < 64) ∧ (∀ y17 : Int, y17 = (((σ15 0 23 0 23) * (σ15 0 30 0 x1.toNat)) + ((σ15 0 23 0 24) * (σ15 0 31 0 x1.toNat))) + ((σ15 0 23 0 25) * (σ15 0 32 0 x1.toNat)) → ((0 ≤ x5 ∧ x5 < 24) ∧ ((0 ≤ x2 ∧ x2 < 24) ∧ ((0 ≤ x3 ∧ x3 < 24) ∧ (∀ y21 : Int, y21 = ((((σ15 0 27 0 x5.toNat) - (σ15 0 27 0 x2.toNat)) * ((σ15 0 27 0 x5.toNat) - (σ15 0 27 0 x3.toNat))) + (((σ15 0 28 0 x5.toNat) - (σ15 0 28 0 x2.toNat)) * ((σ15 0 28 0 x5.toNat) - (σ15 0 28 0 x3.toNat)))) + (((σ15 0 29 0 x5.toNat) - (σ15 0 29 0 x2.toNat)) * ((σ15 0 29 0 x5.toNat) - (σ15 0 29 0 x3.toNat))) → (inL y17 ∧ ((0 < y17 → wlX8_goesOn_15 P n x1 x2 x3 1 (x5 + 1) σ15) ∧ (¬ (0 < y17) → ((y17 ≠ 0 → wlX8_goesOn_15 P n x1 x2 x3 0 (x5 + 1) σ15) ∧ (¬ (y17 ≠ 0) → (inL y21 ∧ ((0 ≤ y21 → wlX8_goesOn_15 P n x1 x2 x3 0 (x5 + 1) σ15) ∧ (¬ (0 ≤ y21) → wlX8_goesOn_15 P n x1 x2 x3 1 (x5 + 1) σ15))))))))))))))))))))))))))))))))
def wpX8_goesOn (x1 : Int) (x2 : Int) (x3 : Int) (σ : Tab) (P : Int → Tab → Prop) : Prop := (inI x2 ∧ (inI x3 ∧ ((x2 = x3 → (∃ k : Nat, wlX8_goesOn_15 P k x1 x2 x3 0 0 σ)) ∧ (¬ (x2 = x3) → (∃ k : Nat, wlX8_goesOn_15 P k x1 x2 x3 1 0 σ)))))
abbrev rmX8_goesOn : Room := { frames := 1, cells := 0, slots := 0, locals := 35 }
set_option maxHeartbeats 4000000 in
set_option maxRecDepth 100000 in
theorem klX8_goesOn_15 {l : Launch} {p : Program} {e : Env} {s : State} {m : MethodId} {args : Array Value} {below : List Frame} {meth : Method} {c : Code} {D : va_G} {ids : Ids} {ad : Lay} {cA : Nat → ClassId} {A : Nat → Prop}  {P : Int → Tab → Prop} (X : Cx p m c meth cX8_goesOn 10 s args RX8 D cA A nwW) (hr : meth.sig.returnType = some .boolean) (hM : HasM ids) :
    ∀ (n : Nat) (x1 : Int) (x2 : Int) (x3 : Int) (x4 : Int) (x5 : Int) (σ : Tab) (H : Heap) (locs : List Loc) (ls : Array Slot), wlX8_goesOn_15 P n x1 x2 x3 x4 x5 σ → ww D ids ad cA A σ s.heap H locs → lv_has ls 10 [(0, .ref (ad 0 23 0)), (1, vI x1), (2, vI x2), (3, vI x3), (4, vI x4), (5, vI x5)] → W p l e rmX8_goesOn s m args below meth c H locs 0 0 (MQ below (QI D ids ad cA A P) args s 0 0 A) (F0 m 15 ls []) := by
  intro n
  induction n with
  | zero => intro x1 x2 x3 x4 x5 σ H locs ls hq w hl; exact hq.elim
  | succ n ih =>
    intro x1 x2 x3 x4 x5 σ H locs ls hq w hl
    unfold wlX8_goesOn_15 at hq
    refine lv_iload X.x X.b dX8_goesOn_15 (lv_at hl 5 rfl) ?_
    refine lv_aload_n X.x X.b dX8_goesOn_17 rfl (lv_at hl 0 rfl) ?_
    refine x_get X w (hM 23 (by decide)) rfl in_X8 rfl 7 (by decide) q678 rfl rfl dX8_goesOn_18 ?_
    obtain ⟨o1, hq⟩ := hq
    obtain ⟨o2, hq⟩ := hq
    refine ra_icmp_ge (tgt := 221) X.x X.b o1 o2 dX8_goesOn_21 (by decide) (fun c3 => ?_) (fun c3 => ?_)
    · have hq := hq.1 c3
      refine lv_iload X.x X.b dX8_goesOn_221 (lv_at hl 4 rfl) ?_
      obtain ⟨o4, hq⟩ := hq
      exact x_zret X hr w o4 hq dX8_goesOn_223
    · have hq := hq.2 c3
      refine lv_iload X.x X.b dX8_goesOn_24 (lv_at hl 4 rfl) ?_
      obtain ⟨o5, hq⟩ := hq
      refine ra_if_eq (tgt := 221) X.x X.b o5 dX8_goesOn_26 (by decide) (fun c6 => ?_) (fun c6 => ?_)
      · have hq := hq.1 c6
        refine lv_iload X.x X.b dX8_goesOn_221 (lv_at hl 4 rfl) ?_
        obtain ⟨o7, hq⟩ := hq
        exact x_zret X hr w o7 hq dX8_goesOn_223
      · have hq := hq.2 c6
        refine lv_iload X.x X.b dX8_goesOn_29 (lv_at hl 5 rfl) ?_
        refine lv_iload_n X.x X.b dX8_goesOn_31 rfl (lv_at hl 2 rfl) ?_
        obtain ⟨o8, hq⟩ := hq
        refine ra_icmp_eq (tgt := 215) X.x X.b o1 o8 dX8_goesOn_32 (by decide) (fun c9 => ?_) (fun c9 => ?_)
        · have hq := hq.1 c9
          refine lv_iinc (v := Int32.ofInt (x5 + 1)) (lv' := [(5, vI (x5 + 1)), (0, .ref (ad 0 23 0)), (1, vI x1), (2, vI x2), (3, vI x3), (4, vI x4)]) X.x X.b dX8_goesOn_215 hl (k := 5) rfl (Int32.ofInt_add _ _).symm (by decide) rfl (fun ls hl => ?_)
          refine lv_goto (tgt := 15) X.x X.b dX8_goesOn_218 (by decide) ?_
          exact ih x1 x2 x3 x4 (x5 + 1) σ _ _ _ hq w (lv_sub hl [1, 2, 3, 4, 5, 0] rfl)
        · have hq := hq.2 c9
          refine lv_iload X.x X.b dX8_goesOn_35 (lv_at hl 5 rfl) ?_
          refine lv_iload_n X.x X.b dX8_goesOn_37 rfl (lv_at hl 3 rfl) ?_
          obtain ⟨o10, hq⟩ := hq
          refine ra_icmp_eq (tgt := 215) X.x X.b o1 o10 dX8_goesOn_38 (by decide) (fun c11 => ?_) (fun c11 => ?_)
          · have hq := hq.1 c11
            refine lv_iinc (v := Int32.ofInt (x5 + 1)) (lv' := [(5, vI (x5 + 1)), (0, .ref (ad 0 23 0)), (1, vI x1), (2, vI x2), (3, vI x3), (4, vI x4)]) X.x X.b dX8_goesOn_215 hl (k := 5) rfl (Int32.ofInt_add _ _).symm (by decide) rfl (fun ls hl => ?_)
            refine lv_goto (tgt := 15) X.x X.b dX8_goesOn_218 (by decide) ?_
            exact ih x1 x2 x3 x4 (x5 + 1) σ _ _ _ hq w (lv_sub hl [1, 2, 3, 4, 5, 0] rfl)
          · have hq := hq.2 c11
            refine lv_aload_n X.x X.b dX8_goesOn_41 rfl (lv_at hl 0 rfl) ?_
            refine lv_iload_n X.x X.b dX8_goesOn_42 rfl (lv_at hl 1 rfl) ?_
            refine lv_iload X.x X.b dX8_goesOn_43 (lv_at hl 5 rfl) ?_
            refine x_callVi (n := 2) (As := [vI x1, vI x5]) (rest := []) X w (hM 23 (by decide)) rfl rfl (mX8_in l D ids ad cA A hM x1 x5 σ _ hq) (lw_V q817 q819 qs25 q43 q820) ⟨rfl, rfl⟩ (by decide +kernel) ⟨Nat.le_of_ble_eq_true rfl, Nat.le_of_ble_eq_true rfl⟩ ⟨Nat.le_refl _, Nat.le_refl _⟩ rfl hl.1 rfl (Nat.le_of_ble_eq_true rfl) dX8_goesOn_45 (fun z12 σ12 H locs hq w => ?_)
            obtain ⟨o13, hq⟩ := hq
            refine ra_if_eq (tgt := 215) X.x X.b o13 dX8_goesOn_48 (by decide) (fun c14 => ?_) (fun c14 => ?_)
            · have hq := hq.1 c14
              refine lv_iinc (v := Int32.ofInt (x5 + 1)) (lv' := [(5, vI (x5 + 1)), (0, .ref (ad 0 23 0)), (1, vI x1), (2, vI x2), (3, vI x3), (4, vI x4)]) X.x X.b dX8_goesOn_215 hl (k := 5) rfl (Int32.ofInt_add _ _).symm (by decide) rfl (fun ls hl => ?_)
              refine lv_goto (tgt := 15) X.x X.b dX8_goesOn_218 (by decide) ?_
              exact ih x1 x2 x3 x4 (x5 + 1) σ12 _ _ _ hq w (lv_sub hl [1, 2, 3, 4, 5, 0] rfl)
            · have hq := hq.2 c14
              refine lv_aload_n X.x X.b dX8_goesOn_51 rfl (lv_at hl 0 rfl) ?_
              refine lv_iload_n X.x X.b dX8_goesOn_52 rfl (lv_at hl 2 rfl) ?_
              refine lv_iload_n X.x X.b dX8_goesOn_53 rfl (lv_at hl 3 rfl) ?_
              refine lv_iload X.x X.b dX8_goesOn_54 (lv_at hl 5 rfl) ?_
              refine x_callVv (n := 3) (As := [vI x2, vI x3, vI x5]) (rest := []) X w (hM 23 (by decide)) rfl rfl (mX8_across l D ids ad cA A hM x2 x3 x5 σ12 _ hq) (lw_V q793 q795 qs20 q43 q796) ⟨rfl, rfl⟩ (by decide +kernel) ⟨Nat.le_of_ble_eq_true rfl, Nat.le_of_ble_eq_true rfl⟩ ⟨Nat.le_refl _, Nat.le_refl _⟩ rfl hl.1 rfl (Nat.le_of_ble_eq_true rfl) dX8_goesOn_56 (fun σ15 H locs hq w => ?_)
              refine lv_aload_n X.x X.b dX8_goesOn_59 rfl (lv_at hl 0 rfl) ?_
              refine x_get X w (hM 23 (by decide)) rfl in_X8 rfl 23 (by decide) q694 rfl rfl dX8_goesOn_60 ?_
              refine lv_aload_n X.x X.b dX8_goesOn_63 rfl (lv_at hl 0 rfl) ?_
              refine x_get X w (hM 23 (by decide)) rfl in_X8 rfl 12 (by decide) q683 rfl rfl dX8_goesOn_64 ?_
              refine lv_iload_n X.x X.b dX8_goesOn_67 rfl (lv_at hl 1 rfl) ?_
              obtain ⟨o16, hq⟩ := hq
              refine x_lald X w (hM 30 (by decide)) rfl (by decide) o16.1 o16.2 dX8_goesOn_68 ?_
              refine ra_lmul X.x X.b dX8_goesOn_69 ?_
              refine lv_aload_n X.x X.b dX8_goesOn_70 rfl (lv_at hl 0 rfl) ?_
              refine x_get X w (hM 23 (by decide)) rfl in_X8 rfl 24 (by decide) q695 rfl rfl dX8_goesOn_71 ?_
              refine lv_aload_n X.x X.b dX8_goesOn_74 rfl (lv_at hl 0 rfl) ?_
              refine x_get X w (hM 23 (by decide)) rfl in_X8 rfl 13 (by decide) q684 rfl rfl dX8_goesOn_75 ?_
              refine lv_iload_n X.x X.b dX8_goesOn_78 rfl (lv_at hl 1 rfl) ?_
              refine x_lald X w (hM 31 (by decide)) rfl (by decide) o16.1 o16.2 dX8_goesOn_79 ?_
              refine ra_lmul X.x X.b dX8_goesOn_80 ?_
              refine ra_ladd X.x X.b dX8_goesOn_81 ?_
              refine lv_aload_n X.x X.b dX8_goesOn_82 rfl (lv_at hl 0 rfl) ?_
              refine x_get X w (hM 23 (by decide)) rfl in_X8 rfl 25 (by decide) q696 rfl rfl dX8_goesOn_83 ?_
              refine lv_aload_n X.x X.b dX8_goesOn_86 rfl (lv_at hl 0 rfl) ?_
              refine x_get X w (hM 23 (by decide)) rfl in_X8 rfl 14 (by decide) q685 rfl rfl dX8_goesOn_87 ?_
              refine lv_iload_n X.x X.b dX8_goesOn_90 rfl (lv_at hl 1 rfl) ?_
              refine x_lald X w (hM 32 (by decide)) rfl (by decide) o16.1 o16.2 dX8_goesOn_91 ?_
              refine ra_lmul X.x X.b dX8_goesOn_92 ?_
              refine ra_ladd X.x X.b dX8_goesOn_93 ?_
              refine ra_nmL (fun y17 ey17 => ?_)
              have hq := hq y17 ey17
              refine lv_lstore (lv' := [(6, vL y17), (0, .ref (ad 0 23 0)), (1, vI x1), (2, vI x2), (3, vI x3), (4, vI x4), (5, vI x5)]) X.x X.b dX8_goesOn_94 hl (by decide) rfl (fun ls hl => ?_)
              refine lv_aload_n X.x X.b dX8_goesOn_96 rfl (lv_at hl 1 rfl) ?_
              refine x_get X w (hM 23 (by decide)) rfl in_X8 rfl 8 (by decide) q679 rfl rfl dX8_goesOn_97 ?_
              refine lv_iload X.x X.b dX8_goesOn_100 (lv_at hl 6 rfl) ?_
              obtain ⟨o18, hq⟩ := hq
              refine x_lald X w (hM 27 (by decide)) rfl (by decide) o18.1 o18.2 dX8_goesOn_102 ?_
              refine lv_aload_n X.x X.b dX8_goesOn_103 rfl (lv_at hl 1 rfl) ?_
              refine x_get X w (hM 23 (by decide)) rfl in_X8 rfl 8 (by decide) q679 rfl rfl dX8_goesOn_104 ?_
              refine lv_iload_n X.x X.b dX8_goesOn_107 rfl (lv_at hl 3 rfl) ?_
              obtain ⟨o19, hq⟩ := hq
              refine x_lald X w (hM 27 (by decide)) rfl (by decide) o19.1 o19.2 dX8_goesOn_108 ?_
              refine ra_lsub X.x X.b dX8_goesOn_109 ?_
              refine lv_aload_n X.x X.b dX8_goesOn_110 rfl (lv_at hl 1 rfl) ?_
              refine x_get X w (hM 23 (by decide)) rfl in_X8 rfl 8 (by decide) q679 rfl rfl dX8_goesOn_111 ?_
              refine lv_iload X.x X.b dX8_goesOn_114 (lv_at hl 6 rfl) ?_
              refine x_lald X w (hM 27 (by decide)) rfl (by decide) o18.1 o18.2 dX8_goesOn_116 ?_
              refine lv_aload_n X.x X.b dX8_goesOn_117 rfl (lv_at hl 1 rfl) ?_
              refine x_get X w (hM 23 (by decide)) rfl in_X8 rfl 8 (by decide) q679 rfl rfl dX8_goesOn_118 ?_
              refine lv_iload_n X.x X.b dX8_goesOn_121 rfl (lv_at hl 4 rfl) ?_
              obtain ⟨o20, hq⟩ := hq
              refine x_lald X w (hM 27 (by decide)) rfl (by decide) o20.1 o20.2 dX8_goesOn_122 ?_
              refine ra_lsub X.x X.b dX8_goesOn_123 ?_
              refine ra_lmul X.x X.b dX8_goesOn_124 ?_
              refine lv_aload_n X.x X.b dX8_goesOn_125 rfl (lv_at hl 1 rfl) ?_
              refine x_get X w (hM 23 (by decide)) rfl in_X8 rfl 9 (by decide) q680 rfl rfl dX8_goesOn_126 ?_
              refine lv_iload X.x X.b dX8_goesOn_129 (lv_at hl 6 rfl) ?_
              refine x_lald X w (hM 28 (by decide)) rfl (by decide) o18.1 o18.2 dX8_goesOn_131 ?_
              refine lv_aload_n X.x X.b dX8_goesOn_132 rfl (lv_at hl 1 rfl) ?_
              refine x_get X w (hM 23 (by decide)) rfl in_X8 rfl 9 (by decide) q680 rfl rfl dX8_goesOn_133 ?_
              refine lv_iload_n X.x X.b dX8_goesOn_136 rfl (lv_at hl 3 rfl) ?_
              refine x_lald X w (hM 28 (by decide)) rfl (by decide) o19.1 o19.2 dX8_goesOn_137 ?_
              refine ra_lsub X.x X.b dX8_goesOn_138 ?_
              refine lv_aload_n X.x X.b dX8_goesOn_139 rfl (lv_at hl 1 rfl) ?_
              refine x_get X w (hM 23 (by decide)) rfl in_X8 rfl 9 (by decide) q680 rfl rfl dX8_goesOn_140 ?_
              refine lv_iload X.x X.b dX8_goesOn_143 (lv_at hl 6 rfl) ?_
              refine x_lald X w (hM 28 (by decide)) rfl (by decide) o18.1 o18.2 dX8_goesOn_145 ?_
              refine lv_aload_n X.x X.b dX8_goesOn_146 rfl (lv_at hl 1 rfl) ?_
              refine x_get X w (hM 23 (by decide)) rfl in_X8 rfl 9 (by decide) q680 rfl rfl dX8_goesOn_147 ?_
              refine lv_iload_n X.x X.b dX8_goesOn_150 rfl (lv_at hl 4 rfl) ?_
              refine x_lald X w (hM 28 (by decide)) rfl (by decide) o20.1 o20.2 dX8_goesOn_151 ?_
              refine ra_lsub X.x X.b dX8_goesOn_152 ?_
              refine ra_lmul X.x X.b dX8_goesOn_153 ?_
              refine ra_ladd X.x X.b dX8_goesOn_154 ?_
              refine lv_aload_n X.x X.b dX8_goesOn_155 rfl (lv_at hl 1 rfl) ?_
              refine x_get X w (hM 23 (by decide)) rfl in_X8 rfl 10 (by decide) q681 rfl rfl dX8_goesOn_156 ?_
              refine lv_iload X.x X.b dX8_goesOn_159 (lv_at hl 6 rfl) ?_
              refine x_lald X w (hM 29 (by decide)) rfl (by decide) o18.1 o18.2 dX8_goesOn_161 ?_
              refine lv_aload_n X.x X.b dX8_goesOn_162 rfl (lv_at hl 1 rfl) ?_
              refine x_get X w (hM 23 (by decide)) rfl in_X8 rfl 10 (by decide) q681 rfl rfl dX8_goesOn_163 ?_
              refine lv_iload_n X.x X.b dX8_goesOn_166 rfl (lv_at hl 3 rfl) ?_
              refine x_lald X w (hM 29 (by decide)) rfl (by decide) o19.1 o19.2 dX8_goesOn_167 ?_
              refine ra_lsub X.x X.b dX8_goesOn_168 ?_
              refine lv_aload_n X.x X.b dX8_goesOn_169 rfl (lv_at hl 1 rfl) ?_
              refine x_get X w (hM 23 (by decide)) rfl in_X8 rfl 10 (by decide) q681 rfl rfl dX8_goesOn_170 ?_
              refine lv_iload X.x X.b dX8_goesOn_173 (lv_at hl 6 rfl) ?_
              refine x_lald X w (hM 29 (by decide)) rfl (by decide) o18.1 o18.2 dX8_goesOn_175 ?_
              refine lv_aload_n X.x X.b dX8_goesOn_176 rfl (lv_at hl 1 rfl) ?_
              refine x_get X w (hM 23 (by decide)) rfl in_X8 rfl 10 (by decide) q681 rfl rfl dX8_goesOn_177 ?_
              refine lv_iload_n X.x X.b dX8_goesOn_180 rfl (lv_at hl 4 rfl) ?_
              refine x_lald X w (hM 29 (by decide)) rfl (by decide) o20.1 o20.2 dX8_goesOn_181 ?_
              refine ra_lsub X.x X.b dX8_goesOn_182 ?_
              refine ra_lmul X.x X.b dX8_goesOn_183 ?_
              refine ra_ladd X.x X.b dX8_goesOn_184 ?_
              refine ra_nmL (fun y21 ey21 => ?_)
              have hq := hq y21 ey21
              refine lv_lstore (lv' := [(8, vL y21), (6, vL y17), (0, .ref (ad 0 23 0)), (1, vI x1), (2, vI x2), (3, vI x3), (4, vI x4), (5, vI x5)]) X.x X.b dX8_goesOn_185 hl (by decide) rfl (fun ls hl => ?_)
              refine lv_lload X.x X.b dX8_goesOn_187 (lv_at hl 1 rfl) ?_
              refine ra_lconst (z := 0) X.x X.b dX8_goesOn_189 rfl ?_
              obtain ⟨o22, hq⟩ := hq
              refine ra_lcmp_gt (tgt := 208) X.x X.b o22 ⟨by decide, by decide⟩ dX8_goesOn_190 dX8_goesOn_191 (by decide) (fun c23 => ?_) (fun c23 => ?_)
              · have hq := hq.1 c23
                refine ra_iconst X.x X.b dX8_goesOn_208 ?_
                refine lv_goto (tgt := 213) X.x X.b dX8_goesOn_209 (by decide) ?_
                refine lv_istore (lv' := [(4, vI 1), (8, vL y21), (6, vL y17), (0, .ref (ad 0 23 0)), (1, vI x1), (2, vI x2), (3, vI x3), (5, vI x5)]) X.x X.b dX8_goesOn_213 hl (by decide) rfl (fun ls hl => ?_)
                refine lv_iinc (v := Int32.ofInt (x5 + 1)) (lv' := [(5, vI (x5 + 1)), (4, vI 1), (8, vL y21), (6, vL y17), (0, .ref (ad 0 23 0)), (1, vI x1), (2, vI x2), (3, vI x3)]) X.x X.b dX8_goesOn_215 hl (k := 7) rfl (Int32.ofInt_add _ _).symm (by decide) rfl (fun ls hl => ?_)
                refine lv_goto (tgt := 15) X.x X.b dX8_goesOn_218 (by decide) ?_
                exact ih x1 x2 x3 1 (x5 + 1) σ15 _ _ _ hq w (lv_sub hl [4, 5, 6, 7, 1, 0] rfl)
              · have hq := hq.2 c23
                refine lv_lload X.x X.b dX8_goesOn_194 (lv_at hl 1 rfl) ?_
                refine ra_lconst (z := 0) X.x X.b dX8_goesOn_196 rfl ?_
                refine ra_lcmp_ne (tgt := 212) X.x X.b o22 ⟨by decide, by decide⟩ dX8_goesOn_197 dX8_goesOn_198 (by decide) (fun c24 => ?_) (fun c24 => ?_)
                · have hq := hq.1 c24
                  refine ra_iconst X.x X.b dX8_goesOn_212 ?_
                  refine lv_istore (lv' := [(4, vI 0), (8, vL y21), (6, vL y17), (0, .ref (ad 0 23 0)), (1, vI x1), (2, vI x2), (3, vI x3), (5, vI x5)]) X.x X.b dX8_goesOn_213 hl (by decide) rfl (fun ls hl => ?_)
                  refine lv_iinc (v := Int32.ofInt (x5 + 1)) (lv' := [(5, vI (x5 + 1)), (4, vI 0), (8, vL y21), (6, vL y17), (0, .ref (ad 0 23 0)), (1, vI x1), (2, vI x2), (3, vI x3)]) X.x X.b dX8_goesOn_215 hl (k := 7) rfl (Int32.ofInt_add _ _).symm (by decide) rfl (fun ls hl => ?_)
                  refine lv_goto (tgt := 15) X.x X.b dX8_goesOn_218 (by decide) ?_
                  exact ih x1 x2 x3 0 (x5 + 1) σ15 _ _ _ hq w (lv_sub hl [4, 5, 6, 7, 1, 0] rfl)
                · have hq := hq.2 c24
                  refine lv_lload X.x X.b dX8_goesOn_201 (lv_at hl 0 rfl) ?_
                  refine ra_lconst (z := 0) X.x X.b dX8_goesOn_203 rfl ?_
                  obtain ⟨o25, hq⟩ := hq
                  refine ra_lcmp_ge (tgt := 212) X.x X.b o25 ⟨by decide, by decide⟩ dX8_goesOn_204 dX8_goesOn_205 (by decide) (fun c26 => ?_) (fun c26 => ?_)
                  · have hq := hq.1 c26
                    refine ra_iconst X.x X.b dX8_goesOn_212 ?_
                    refine lv_istore (lv' := [(4, vI 0), (8, vL y21), (6, vL y17), (0, .ref (ad 0 23 0)), (1, vI x1), (2, vI x2), (3, vI x3), (5, vI x5)]) X.x X.b dX8_goesOn_213 hl (by decide) rfl (fun ls hl => ?_)
                    refine lv_iinc (v := Int32.ofInt (x5 + 1)) (lv' := [(5, vI (x5 + 1)), (4, vI 0), (8, vL y21), (6, vL y17), (0, .ref (ad 0 23 0)), (1, vI x1), (2, vI x2), (3, vI x3)]) X.x X.b dX8_goesOn_215 hl (k := 7) rfl (Int32.ofInt_add _ _).symm (by decide) rfl (fun ls hl => ?_)
                    refine lv_goto (tgt := 15) X.x X.b dX8_goesOn_218 (by decide) ?_
                    exact ih x1 x2 x3 0 (x5 + 1) σ15 _ _ _ hq w (lv_sub hl [4, 5, 6, 7, 1, 0] rfl)
                  · have hq := hq.2 c26
                    refine ra_iconst X.x X.b dX8_goesOn_208 ?_
                    refine lv_goto (tgt := 213) X.x X.b dX8_goesOn_209 (by decide) ?_
                    refine lv_istore (lv' := [(4, vI 1), (8, vL y21), (6, vL y17), (0, .ref (ad 0 23 0)), (1, vI x1), (2, vI x2), (3, vI x3), (5, vI x5)]) X.x X.b dX8_goesOn_213 hl (by decide) rfl (fun ls hl => ?_)
                    refine lv_iinc (v := Int32.ofInt (x5 + 1)) (lv' := [(5, vI (x5 + 1)), (4, vI 1), (8, vL y21), (6, vL y17), (0, .ref (ad 0 23 0)), (1, vI x1), (2, vI x2), (3, vI x3)]) X.x X.b dX8_goesOn_215 hl (k := 7) rfl (Int32.ofInt_add _ _).symm (by decide) rfl (fun ls hl => ?_)
                    refine lv_goto (tgt := 15) X.x X.b dX8_goesOn_218 (by decide) ?_
                    exact ih x1 x2 x3 1 (x5 + 1) σ15 _ _ _ hq w (lv_sub hl [4, 5, 6, 7, 1, 0] rfl)
set_option maxHeartbeats 4000000 in
set_option maxRecDepth 100000 in
theorem mX8_goesOn (l : Launch) (D : va_G) (ids : Ids) (ad : Lay) (cA : Nat → ClassId) (A : Nat → Prop) (hM : HasM ids) (x1 : Int) (x2 : Int) (x3 : Int) (σ : Tab) (P : Int → Tab → Prop) (hq : wpX8_goesOn x1 x2 x3 σ P) : Met l yX8_goesOn (ws_ yX8_goesOn cX8_goesOn 10 (some .boolean)) rmX8_goesOn (PcW D ids ad cA A σ [.ref (ad 0 23 0), vI x1, vI x2, vI x3]) (QI D ids ad cA A P) 0 0 A := by
  refine m_entry (own := RX8) (by decide) (Nat.le_of_ble_eq_true rfl) rfl ?_
  intro p e s m below meth c ls X hr w hl
  have hl : lv_has ls 10 [(0, .ref (ad 0 23 0)), (1, vI x1), (2, vI x2), (3, vI x3)] := hl
  unfold wpX8_goesOn at hq
  refine lv_iload_n X.x X.b dX8_goesOn_0 rfl (lv_at hl 2 rfl) ?_
  refine lv_iload_n X.x X.b dX8_goesOn_1 rfl (lv_at hl 3 rfl) ?_
  obtain ⟨o1, hq⟩ := hq
  obtain ⟨o2, hq⟩ := hq
  refine ra_icmp_eq (tgt := 9) X.x X.b o1 o2 dX8_goesOn_2 (by decide) (fun c3 => ?_) (fun c3 => ?_)
  · have hq := hq.1 c3
    refine ra_iconst X.x X.b dX8_goesOn_9 ?_
    refine lv_istore (lv' := [(4, vI 0), (0, .ref (ad 0 23 0)), (1, vI x1), (2, vI x2), (3, vI x3)]) X.x X.b dX8_goesOn_10 hl (by decide) rfl (fun ls hl => ?_)
    refine ra_iconst X.x X.b dX8_goesOn_12 ?_
    refine lv_istore (lv' := [(5, vI 0), (4, vI 0), (0, .ref (ad 0 23 0)), (1, vI x1), (2, vI x2), (3, vI x3)]) X.x X.b dX8_goesOn_13 hl (by decide) rfl (fun ls hl => ?_)
    obtain ⟨n4, hq⟩ := hq
    exact klX8_goesOn_15 X hr hM  n4 x1 x2 x3 0 0 σ _ _ _ hq w (lv_sub hl [2, 3, 4, 5, 1, 0] rfl)
  · have hq := hq.2 c3
    refine ra_iconst X.x X.b dX8_goesOn_5 ?_
    refine lv_goto (tgt := 10) X.x X.b dX8_goesOn_6 (by decide) ?_
    refine lv_istore (lv' := [(4, vI 1), (0, .ref (ad 0 23 0)), (1, vI x1), (2, vI x2), (3, vI x3)]) X.x X.b dX8_goesOn_10 hl (by decide) rfl (fun ls hl => ?_)
    refine ra_iconst X.x X.b dX8_goesOn_12 ?_
    refine lv_istore (lv' := [(5, vI 0), (4, vI 1), (0, .ref (ad 0 23 0)), (1, vI x1), (2, vI x2), (3, vI x3)]) X.x X.b dX8_goesOn_13 hl (by decide) rfl (fun ls hl => ?_)
    obtain ⟨n5, hq⟩ := hq
    exact klX8_goesOn_15 X hr hM  n5 x1 x2 x3 1 0 σ _ _ _ hq w (lv_sub hl [2, 3, 4, 5, 1, 0] rfl)
def wlX8_behind_2  (P : Int → Tab → Prop) : Nat → Int → Int → Int → Tab → Prop
  | 0, _, _, _, _ => False
  | n + 1, x1, x2, x3, σ => (inI x3 ∧ (inI (σ 0 23 0 7) ∧ ((σ 0 23 0 7 ≤ x3 → P (-1) σ) ∧ (¬ (σ 0 23 0 7 ≤ x3) → wpX8_in x1 x3 σ (fun z4 σ4 => (inI z4 ∧ ((z4 = 0 → wlX8_behind_2 P n x1 x2 (x3 + 1) σ4) ∧ (¬ (z4 = 0) → wpX8_goesOn x1 x2 x3 σ4 (fun z7 σ7 => (inI z7 ∧ ((z7 = 0 → wlX8_behind_2 P n x1 x2 (x3 + 1) σ7) ∧ (¬ (z7 = 0) → P x3 σ7))))))))))))
def wpX8_behind (x1 : Int) (x2 : Int) (σ : Tab) (P : Int → Tab → Prop) : Prop := (∃ k : Nat, wlX8_behind_2 P k x1 x2 0 σ)
abbrev rmX8_behind : Room := { frames := 2, cells := 0, slots := 0, locals := 64 }
set_option maxHeartbeats 4000000 in
set_option maxRecDepth 100000 in
theorem klX8_behind_2 {l : Launch} {p : Program} {e : Env} {s : State} {m : MethodId} {args : Array Value} {below : List Frame} {meth : Method} {c : Code} {D : va_G} {ids : Ids} {ad : Lay} {cA : Nat → ClassId} {A : Nat → Prop}  {P : Int → Tab → Prop} (X : Cx p m c meth cX8_behind 4 s args RX8 D cA A nwW) (hr : meth.sig.returnType = some .int) (hM : HasM ids) :
    ∀ (n : Nat) (x1 : Int) (x2 : Int) (x3 : Int) (σ : Tab) (H : Heap) (locs : List Loc) (ls : Array Slot), wlX8_behind_2 P n x1 x2 x3 σ → ww D ids ad cA A σ s.heap H locs → lv_has ls 4 [(0, .ref (ad 0 23 0)), (1, vI x1), (2, vI x2), (3, vI x3)] → W p l e rmX8_behind s m args below meth c H locs 0 0 (MQ below (QI D ids ad cA A P) args s 0 0 A) (F0 m 2 ls []) := by
  intro n
  induction n with
  | zero => intro x1 x2 x3 σ H locs ls hq w hl; exact hq.elim
  | succ n ih =>
    intro x1 x2 x3 σ H locs ls hq w hl
    unfold wlX8_behind_2 at hq
    refine lv_iload_n X.x X.b dX8_behind_2 rfl (lv_at hl 3 rfl) ?_
    refine lv_aload_n X.x X.b dX8_behind_3 rfl (lv_at hl 0 rfl) ?_
    refine x_get X w (hM 23 (by decide)) rfl in_X8 rfl 7 (by decide) q678 rfl rfl dX8_behind_4 ?_
    obtain ⟨o1, hq⟩ := hq
    obtain ⟨o2, hq⟩ := hq
    refine ra_icmp_ge (tgt := 37) X.x X.b o1 o2 dX8_behind_7 (by decide) (fun c3 => ?_) (fun c3 => ?_)
    · have hq := hq.1 c3
      refine ra_iconst X.x X.b dX8_behind_37 ?_
      exact x_iret X hr w hq dX8_behind_38
    · have hq := hq.2 c3
      refine lv_aload_n X.x X.b dX8_behind_10 rfl (lv_at hl 0 rfl) ?_
      refine lv_iload_n X.x X.b dX8_behind_11 rfl (lv_at hl 1 rfl) ?_
      refine lv_iload_n X.x X.b dX8_behind_12 rfl (lv_at hl 3 rfl) ?_
      refine x_callVi (n := 2) (As := [vI x1, vI x3]) (rest := []) X w (hM 23 (by decide)) rfl rfl (mX8_in l D ids ad cA A hM x1 x3 σ _ hq) (lw_V q817 q819 qs25 q43 q820) ⟨rfl, rfl⟩ (by decide +kernel) ⟨Nat.le_of_ble_eq_true rfl, Nat.le_of_ble_eq_true rfl⟩ ⟨Nat.le_refl _, Nat.le_refl _⟩ rfl hl.1 rfl (Nat.le_of_ble_eq_true rfl) dX8_behind_13 (fun z4 σ4 H locs hq w => ?_)
      obtain ⟨o5, hq⟩ := hq
      refine ra_if_eq (tgt := 31) X.x X.b o5 dX8_behind_16 (by decide) (fun c6 => ?_) (fun c6 => ?_)
      · have hq := hq.1 c6
        refine lv_iinc (v := Int32.ofInt (x3 + 1)) (lv' := [(3, vI (x3 + 1)), (0, .ref (ad 0 23 0)), (1, vI x1), (2, vI x2)]) X.x X.b dX8_behind_31 hl (k := 3) rfl (Int32.ofInt_add _ _).symm (by decide) rfl (fun ls hl => ?_)
        refine lv_goto (tgt := 2) X.x X.b dX8_behind_34 (by decide) ?_
        exact ih x1 x2 (x3 + 1) σ4 _ _ _ hq w (lv_sub hl [1, 2, 3, 0] rfl)
      · have hq := hq.2 c6
        refine lv_aload_n X.x X.b dX8_behind_19 rfl (lv_at hl 0 rfl) ?_
        refine lv_iload_n X.x X.b dX8_behind_20 rfl (lv_at hl 1 rfl) ?_
        refine lv_iload_n X.x X.b dX8_behind_21 rfl (lv_at hl 2 rfl) ?_
        refine lv_iload_n X.x X.b dX8_behind_22 rfl (lv_at hl 3 rfl) ?_
        refine x_callVi (n := 3) (As := [vI x1, vI x2, vI x3]) (rest := []) X w (hM 23 (by decide)) rfl rfl (mX8_goesOn l D ids ad cA A hM x1 x2 x3 σ4 _ hq) (lw_V q825 q827 qs27 q43 q828) ⟨rfl, rfl⟩ (by decide +kernel) ⟨Nat.le_of_ble_eq_true rfl, Nat.le_of_ble_eq_true rfl⟩ ⟨Nat.le_refl _, Nat.le_refl _⟩ rfl hl.1 rfl (Nat.le_of_ble_eq_true rfl) dX8_behind_23 (fun z7 σ7 H locs hq w => ?_)
        obtain ⟨o8, hq⟩ := hq
        refine ra_if_eq (tgt := 31) X.x X.b o8 dX8_behind_26 (by decide) (fun c9 => ?_) (fun c9 => ?_)
        · have hq := hq.1 c9
          refine lv_iinc (v := Int32.ofInt (x3 + 1)) (lv' := [(3, vI (x3 + 1)), (0, .ref (ad 0 23 0)), (1, vI x1), (2, vI x2)]) X.x X.b dX8_behind_31 hl (k := 3) rfl (Int32.ofInt_add _ _).symm (by decide) rfl (fun ls hl => ?_)
          refine lv_goto (tgt := 2) X.x X.b dX8_behind_34 (by decide) ?_
          exact ih x1 x2 (x3 + 1) σ7 _ _ _ hq w (lv_sub hl [1, 2, 3, 0] rfl)
        · have hq := hq.2 c9
          refine lv_iload_n X.x X.b dX8_behind_29 rfl (lv_at hl 3 rfl) ?_
          exact x_iret X hr w hq dX8_behind_30
set_option maxHeartbeats 4000000 in
set_option maxRecDepth 100000 in
theorem mX8_behind (l : Launch) (D : va_G) (ids : Ids) (ad : Lay) (cA : Nat → ClassId) (A : Nat → Prop) (hM : HasM ids) (x1 : Int) (x2 : Int) (σ : Tab) (P : Int → Tab → Prop) (hq : wpX8_behind x1 x2 σ P) : Met l yX8_behind (ws_ yX8_behind cX8_behind 4 (some .int)) rmX8_behind (PcW D ids ad cA A σ [.ref (ad 0 23 0), vI x1, vI x2]) (QI D ids ad cA A P) 0 0 A := by
  refine m_entry (own := RX8) (by decide) (Nat.le_of_ble_eq_true rfl) rfl ?_
  intro p e s m below meth c ls X hr w hl
  have hl : lv_has ls 4 [(0, .ref (ad 0 23 0)), (1, vI x1), (2, vI x2)] := hl
  unfold wpX8_behind at hq
  refine ra_iconst X.x X.b dX8_behind_0 ?_
  refine lv_istore_n (lv' := [(3, vI 0), (0, .ref (ad 0 23 0)), (1, vI x1), (2, vI x2)]) X.x X.b dX8_behind_1 rfl hl (by decide) rfl (fun ls hl => ?_)
  obtain ⟨n1, hq⟩ := hq
  exact klX8_behind_2 X hr hM  n1 x1 x2 0 σ _ _ _ hq w (lv_sub hl [1, 2, 3, 0] rfl)
def wlX8_walk_51  (P : Tab → Prop) (K34 : Int → Int → Int → Int → Int → Tab → Prop) (x1 : Int) (x2 : Int) (x3 : Int) (x4 : Int) (x5 : Int) (σ : Tab) : Prop := ((0 ≤ (24 * x1) + x3 ∧ (24 * x1) + x3 < 1536) ∧ (∀ σ2 : Tab, σ2 = st σ 0 35 0 (((24 * x1) + x3).toNat) x4 → wpX8_behind x1 x4 σ2 (fun z3 σ3 => K34 x1 x2 (x3 + 1) z3 (x5 + 1) σ3)))
def wlX8_walk_34  (P : Tab → Prop) : Nat → Int → Int → Int → Int → Int → Tab → Prop
  | 0, _, _, _, _, _, _ => False
  | n + 1, x1, x2, x3, x4, x5, σ => (inI x5 ∧ ((24 ≤ x5 → ((0 ≤ x1 ∧ x1 < 64) ∧ (∀ σ4 : Tab, σ4 = st σ 0 34 0 x1.toNat x3 → P σ4))) ∧ (¬ (24 ≤ x5) → (inI x3 ∧ ((x3 = 0 → wlX8_walk_51 P (fun x1 x2 x3 x4 x5 τ => wlX8_walk_34 P n x1 x2 x3 x4 x5 τ) x1 x2 x3 x4 x5 σ) ∧ (¬ (x3 = 0) → (inI x4 ∧ (inI x2 ∧ ((x4 = x2 → ((0 ≤ x1 ∧ x1 < 64) ∧ (∀ σ11 : Tab, σ11 = st σ 0 34 0 x1.toNat x3 → P σ11))) ∧ (¬ (x4 = x2) → wlX8_walk_51 P (fun x1 x2 x3 x4 x5 τ => wlX8_walk_34 P n x1 x2 x3 x4 x5 τ) x1 x2 x3 x4 x5 σ))))))))))
def wlX8_walk_2  (P : Tab → Prop) : Nat → Int → Int → Tab → Prop
  | 0, _, _, _ => False
  | n + 1, x1, x2, σ => wpX8_in x1 x2 σ (fun z1 σ1 => (inI z1 ∧ ((z1 = 0 → wlX8_walk_2 P n x1 (x2 + 1) σ1) ∧ (¬ (z1 = 0) → wpX8_behind x1 x2 σ1 (fun z4 σ4 => (inI z4 ∧ ((0 ≤ z4 → (∃ k : Nat, wlX8_walk_34 P k x1 x2 0 x2 0 σ4)) ∧ (¬ (0 ≤ z4) → wlX8_walk_2 P n x1 (x2 + 1) σ4))))))))
def wpX8_walk (x1 : Int) (σ : Tab) (P : Tab → Prop) : Prop := (∃ k : Nat, wlX8_walk_2 P k x1 0 σ)
abbrev rmX8_walk : Room := { frames := 3, cells := 0, slots := 0, locals := 87 }
set_option maxHeartbeats 4000000 in
set_option maxRecDepth 100000 in
theorem klX8_walk_51 {l : Launch} {p : Program} {e : Env} {s : State} {m : MethodId} {args : Array Value} {below : List Frame} {meth : Method} {c : Code} {D : va_G} {ids : Ids} {ad : Lay} {cA : Nat → ClassId} {A : Nat → Prop}  {P : Tab → Prop} {K34 : Int → Int → Int → Int → Int → Tab → Prop} (X : Cx p m c meth cX8_walk 6 s args RX8 D cA A nwW) (hr : meth.sig.returnType = none) (hM : HasM ids) (kk34 : ∀ (x1 : Int) (x2 : Int) (x3 : Int) (x4 : Int) (x5 : Int) (σ : Tab) (H : Heap) (locs : List Loc) (ls : Array Slot), K34 x1 x2 x3 x4 x5 σ → ww D ids ad cA A σ s.heap H locs → lv_has ls 6 [(0, .ref (ad 0 23 0)), (1, vI x1), (2, vI x2), (3, vI x3), (4, vI x4), (5, vI x5)] → W p l e rmX8_walk s m args below meth c H locs 0 0 (MQ below (QV D ids ad cA A P) args s 0 0 A) (F0 m 34 ls [])) :
    ∀ (x1 : Int) (x2 : Int) (x3 : Int) (x4 : Int) (x5 : Int) (σ : Tab) (H : Heap) (locs : List Loc) (ls : Array Slot), wlX8_walk_51 P K34 x1 x2 x3 x4 x5 σ → ww D ids ad cA A σ s.heap H locs → lv_has ls 6 [(0, .ref (ad 0 23 0)), (1, vI x1), (2, vI x2), (3, vI x3), (4, vI x4), (5, vI x5)] → W p l e rmX8_walk s m args below meth c H locs 0 0 (MQ below (QV D ids ad cA A P) args s 0 0 A) (F0 m 51 ls []) := by
  intro x1 x2 x3 x4 x5 σ H locs ls hq w hl
  unfold wlX8_walk_51 at hq
  refine lv_aload_n X.x X.b dX8_walk_51 rfl (lv_at hl 0 rfl) ?_
  refine x_get X w (hM 23 (by decide)) rfl in_X8 rfl 17 (by decide) q688 rfl rfl dX8_walk_52 ?_
  refine ra_bipush X.x X.b dX8_walk_55 rfl ?_
  refine lv_iload_n X.x X.b dX8_walk_57 rfl (lv_at hl 1 rfl) ?_
  refine ra_imul X.x X.b dX8_walk_58 ?_
  refine lv_iload_n X.x X.b dX8_walk_59 rfl (lv_at hl 3 rfl) ?_
  refine ra_iadd X.x X.b dX8_walk_60 ?_
  refine lv_iload X.x X.b dX8_walk_61 (lv_at hl 4 rfl) ?_
  obtain ⟨o1, hq⟩ := hq
  refine x_iast X w (hM 35 (by decide)) (fun _ => rfl) (by decide) o1.1 o1.2 dX8_walk_63 (fun σ2 H locs eσ2 w => ?_)
  have hq := hq σ2 eσ2
  refine lv_iinc (v := Int32.ofInt (x3 + 1)) (lv' := [(3, vI (x3 + 1)), (0, .ref (ad 0 23 0)), (1, vI x1), (2, vI x2), (4, vI x4), (5, vI x5)]) X.x X.b dX8_walk_64 hl (k := 3) rfl (Int32.ofInt_add _ _).symm (by decide) rfl (fun ls hl => ?_)
  refine lv_aload_n X.x X.b dX8_walk_67 rfl (lv_at hl 1 rfl) ?_
  refine lv_iload_n X.x X.b dX8_walk_68 rfl (lv_at hl 2 rfl) ?_
  refine lv_iload X.x X.b dX8_walk_69 (lv_at hl 4 rfl) ?_
  refine x_callVi (n := 2) (As := [vI x1, vI x4]) (rest := []) X w (hM 23 (by decide)) rfl rfl (mX8_behind l D ids ad cA A hM x1 x4 σ2 _ hq) (lw_V q821 q823 qs26 q43 q824) ⟨rfl, rfl⟩ (by decide +kernel) ⟨Nat.le_of_ble_eq_true rfl, Nat.le_of_ble_eq_true rfl⟩ ⟨Nat.le_refl _, Nat.le_refl _⟩ rfl hl.1 rfl (Nat.le_of_ble_eq_true rfl) dX8_walk_71 (fun z3 σ3 H locs hq w => ?_)
  refine lv_istore (lv' := [(4, vI z3), (3, vI (x3 + 1)), (0, .ref (ad 0 23 0)), (1, vI x1), (2, vI x2), (5, vI x5)]) X.x X.b dX8_walk_74 hl (by decide) rfl (fun ls hl => ?_)
  refine lv_iinc (v := Int32.ofInt (x5 + 1)) (lv' := [(5, vI (x5 + 1)), (4, vI z3), (3, vI (x3 + 1)), (0, .ref (ad 0 23 0)), (1, vI x1), (2, vI x2)]) X.x X.b dX8_walk_76 hl (k := 5) rfl (Int32.ofInt_add _ _).symm (by decide) rfl (fun ls hl => ?_)
  refine lv_goto (tgt := 34) X.x X.b dX8_walk_79 (by decide) ?_
  exact kk34 x1 x2 (x3 + 1) z3 (x5 + 1) σ3 _ _ _ hq w (lv_sub hl [3, 4, 5, 2, 1, 0] rfl)
set_option maxHeartbeats 4000000 in
set_option maxRecDepth 100000 in
theorem klX8_walk_34 {l : Launch} {p : Program} {e : Env} {s : State} {m : MethodId} {args : Array Value} {below : List Frame} {meth : Method} {c : Code} {D : va_G} {ids : Ids} {ad : Lay} {cA : Nat → ClassId} {A : Nat → Prop}  {P : Tab → Prop} (X : Cx p m c meth cX8_walk 6 s args RX8 D cA A nwW) (hr : meth.sig.returnType = none) (hM : HasM ids) :
    ∀ (n : Nat) (x1 : Int) (x2 : Int) (x3 : Int) (x4 : Int) (x5 : Int) (σ : Tab) (H : Heap) (locs : List Loc) (ls : Array Slot), wlX8_walk_34 P n x1 x2 x3 x4 x5 σ → ww D ids ad cA A σ s.heap H locs → lv_has ls 6 [(0, .ref (ad 0 23 0)), (1, vI x1), (2, vI x2), (3, vI x3), (4, vI x4), (5, vI x5)] → W p l e rmX8_walk s m args below meth c H locs 0 0 (MQ below (QV D ids ad cA A P) args s 0 0 A) (F0 m 34 ls []) := by
  intro n
  induction n with
  | zero => intro x1 x2 x3 x4 x5 σ H locs ls hq w hl; exact hq.elim
  | succ n ih =>
    intro x1 x2 x3 x4 x5 σ H locs ls hq w hl
    unfold wlX8_walk_34 at hq
    refine lv_iload X.x X.b dX8_walk_34 (lv_at hl 5 rfl) ?_
    refine ra_bipush X.x X.b dX8_walk_36 rfl ?_
    obtain ⟨o1, hq⟩ := hq
    refine ra_icmp_ge (tgt := 82) X.x X.b o1 ⟨by decide, by decide⟩ dX8_walk_38 (by decide) (fun c2 => ?_) (fun c2 => ?_)
    · have hq := hq.1 c2
      refine lv_aload_n X.x X.b dX8_walk_82 rfl (lv_at hl 0 rfl) ?_
      refine x_get X w (hM 23 (by decide)) rfl in_X8 rfl 16 (by decide) q687 rfl rfl dX8_walk_83 ?_
      refine lv_iload_n X.x X.b dX8_walk_86 rfl (lv_at hl 1 rfl) ?_
      refine lv_iload_n X.x X.b dX8_walk_87 rfl (lv_at hl 3 rfl) ?_
      obtain ⟨o3, hq⟩ := hq
      refine x_iast X w (hM 34 (by decide)) (fun _ => rfl) (by decide) o3.1 o3.2 dX8_walk_88 (fun σ4 H locs eσ4 w => ?_)
      have hq := hq σ4 eσ4
      exact x_vret X hr w hq dX8_walk_89
    · have hq := hq.2 c2
      refine lv_iload_n X.x X.b dX8_walk_41 rfl (lv_at hl 3 rfl) ?_
      obtain ⟨o5, hq⟩ := hq
      refine ra_if_eq (tgt := 51) X.x X.b o5 dX8_walk_42 (by decide) (fun c6 => ?_) (fun c6 => ?_)
      · have hq := hq.1 c6
        exact klX8_walk_51 X hr hM (fun a0 a1 a2 a3 a4 τ H L ls q w h => ih a0 a1 a2 a3 a4 τ H L ls q w h) x1 x2 x3 x4 x5 σ _ _ _ hq w (lv_sub hl [0, 1, 2, 3, 4, 5] rfl)
      · have hq := hq.2 c6
        refine lv_iload X.x X.b dX8_walk_45 (lv_at hl 4 rfl) ?_
        refine lv_iload_n X.x X.b dX8_walk_47 rfl (lv_at hl 2 rfl) ?_
        obtain ⟨o7, hq⟩ := hq
        obtain ⟨o8, hq⟩ := hq
        refine ra_icmp_eq (tgt := 82) X.x X.b o7 o8 dX8_walk_48 (by decide) (fun c9 => ?_) (fun c9 => ?_)
        · have hq := hq.1 c9
          refine lv_aload_n X.x X.b dX8_walk_82 rfl (lv_at hl 0 rfl) ?_
          refine x_get X w (hM 23 (by decide)) rfl in_X8 rfl 16 (by decide) q687 rfl rfl dX8_walk_83 ?_
          refine lv_iload_n X.x X.b dX8_walk_86 rfl (lv_at hl 1 rfl) ?_
          refine lv_iload_n X.x X.b dX8_walk_87 rfl (lv_at hl 3 rfl) ?_
          obtain ⟨o10, hq⟩ := hq
          refine x_iast X w (hM 34 (by decide)) (fun _ => rfl) (by decide) o10.1 o10.2 dX8_walk_88 (fun σ11 H locs eσ11 w => ?_)
          have hq := hq σ11 eσ11
          exact x_vret X hr w hq dX8_walk_89
        · have hq := hq.2 c9
          exact klX8_walk_51 X hr hM (fun a0 a1 a2 a3 a4 τ H L ls q w h => ih a0 a1 a2 a3 a4 τ H L ls q w h) x1 x2 x3 x4 x5 σ _ _ _ hq w (lv_sub hl [0, 1, 2, 3, 4, 5] rfl)
set_option maxHeartbeats 4000000 in
set_option maxRecDepth 100000 in
theorem klX8_walk_2 {l : Launch} {p : Program} {e : Env} {s : State} {m : MethodId} {args : Array Value} {below : List Frame} {meth : Method} {c : Code} {D : va_G} {ids : Ids} {ad : Lay} {cA : Nat → ClassId} {A : Nat → Prop}  {P : Tab → Prop} (X : Cx p m c meth cX8_walk 6 s args RX8 D cA A nwW) (hr : meth.sig.returnType = none) (hM : HasM ids) :
    ∀ (n : Nat) (x1 : Int) (x2 : Int) (σ : Tab) (H : Heap) (locs : List Loc) (ls : Array Slot), wlX8_walk_2 P n x1 x2 σ → ww D ids ad cA A σ s.heap H locs → lv_has ls 6 [(0, .ref (ad 0 23 0)), (1, vI x1), (2, vI x2)] → W p l e rmX8_walk s m args below meth c H locs 0 0 (MQ below (QV D ids ad cA A P) args s 0 0 A) (F0 m 2 ls []) := by
  intro n
  induction n with
  | zero => intro x1 x2 σ H locs ls hq w hl; exact hq.elim
  | succ n ih =>
    intro x1 x2 σ H locs ls hq w hl
    unfold wlX8_walk_2 at hq
    refine lv_aload_n X.x X.b dX8_walk_2 rfl (lv_at hl 0 rfl) ?_
    refine lv_iload_n X.x X.b dX8_walk_3 rfl (lv_at hl 1 rfl) ?_
    refine lv_iload_n X.x X.b dX8_walk_4 rfl (lv_at hl 2 rfl) ?_
    refine x_callVi (n := 2) (As := [vI x1, vI x2]) (rest := []) X w (hM 23 (by decide)) rfl rfl (mX8_in l D ids ad cA A hM x1 x2 σ _ hq) (lw_V q817 q819 qs25 q43 q820) ⟨rfl, rfl⟩ (by decide +kernel) ⟨Nat.le_of_ble_eq_true rfl, Nat.le_of_ble_eq_true rfl⟩ ⟨Nat.le_refl _, Nat.le_refl _⟩ rfl hl.1 rfl (Nat.le_of_ble_eq_true rfl) dX8_walk_5 (fun z1 σ1 H locs hq w => ?_)
    obtain ⟨o2, hq⟩ := hq
    refine ra_if_eq (tgt := 20) X.x X.b o2 dX8_walk_8 (by decide) (fun c3 => ?_) (fun c3 => ?_)
    · have hq := hq.1 c3
      refine lv_iinc (v := Int32.ofInt (x2 + 1)) (lv' := [(2, vI (x2 + 1)), (0, .ref (ad 0 23 0)), (1, vI x1)]) X.x X.b dX8_walk_20 hl (k := 2) rfl (Int32.ofInt_add _ _).symm (by decide) rfl (fun ls hl => ?_)
      refine lv_goto (tgt := 2) X.x X.b dX8_walk_23 (by decide) ?_
      exact ih x1 (x2 + 1) σ1 _ _ _ hq w (lv_sub hl [1, 2, 0] rfl)
    · have hq := hq.2 c3
      refine lv_aload_n X.x X.b dX8_walk_11 rfl (lv_at hl 0 rfl) ?_
      refine lv_iload_n X.x X.b dX8_walk_12 rfl (lv_at hl 1 rfl) ?_
      refine lv_iload_n X.x X.b dX8_walk_13 rfl (lv_at hl 2 rfl) ?_
      refine x_callVi (n := 2) (As := [vI x1, vI x2]) (rest := []) X w (hM 23 (by decide)) rfl rfl (mX8_behind l D ids ad cA A hM x1 x2 σ1 _ hq) (lw_V q821 q823 qs26 q43 q824) ⟨rfl, rfl⟩ (by decide +kernel) ⟨Nat.le_of_ble_eq_true rfl, Nat.le_of_ble_eq_true rfl⟩ ⟨Nat.le_refl _, Nat.le_refl _⟩ rfl hl.1 rfl (Nat.le_of_ble_eq_true rfl) dX8_walk_14 (fun z4 σ4 H locs hq w => ?_)
      obtain ⟨o5, hq⟩ := hq
      refine ra_if_ge (tgt := 26) X.x X.b o5 dX8_walk_17 (by decide) (fun c6 => ?_) (fun c6 => ?_)
      · have hq := hq.1 c6
        refine ra_iconst X.x X.b dX8_walk_26 ?_
        refine lv_istore_n (lv' := [(3, vI 0), (0, .ref (ad 0 23 0)), (1, vI x1), (2, vI x2)]) X.x X.b dX8_walk_27 rfl hl (by decide) rfl (fun ls hl => ?_)
        refine lv_iload_n X.x X.b dX8_walk_28 rfl (lv_at hl 3 rfl) ?_
        refine lv_istore (lv' := [(4, vI x2), (3, vI 0), (0, .ref (ad 0 23 0)), (1, vI x1), (2, vI x2)]) X.x X.b dX8_walk_29 hl (by decide) rfl (fun ls hl => ?_)
        refine ra_iconst X.x X.b dX8_walk_31 ?_
        refine lv_istore (lv' := [(5, vI 0), (4, vI x2), (3, vI 0), (0, .ref (ad 0 23 0)), (1, vI x1), (2, vI x2)]) X.x X.b dX8_walk_32 hl (by decide) rfl (fun ls hl => ?_)
        obtain ⟨n7, hq⟩ := hq
        exact klX8_walk_34 X hr hM  n7 x1 x2 0 x2 0 σ4 _ _ _ hq w (lv_sub hl [3, 4, 5, 2, 1, 0] rfl)
      · have hq := hq.2 c6
        refine lv_iinc (v := Int32.ofInt (x2 + 1)) (lv' := [(2, vI (x2 + 1)), (0, .ref (ad 0 23 0)), (1, vI x1)]) X.x X.b dX8_walk_20 hl (k := 2) rfl (Int32.ofInt_add _ _).symm (by decide) rfl (fun ls hl => ?_)
        refine lv_goto (tgt := 2) X.x X.b dX8_walk_23 (by decide) ?_
        exact ih x1 (x2 + 1) σ4 _ _ _ hq w (lv_sub hl [1, 2, 0] rfl)
set_option maxHeartbeats 4000000 in
set_option maxRecDepth 100000 in
theorem mX8_walk (l : Launch) (D : va_G) (ids : Ids) (ad : Lay) (cA : Nat → ClassId) (A : Nat → Prop) (hM : HasM ids) (x1 : Int) (σ : Tab) (P : Tab → Prop) (hq : wpX8_walk x1 σ P) : Met l yX8_walk (ws_ yX8_walk cX8_walk 6 (none)) rmX8_walk (PcW D ids ad cA A σ [.ref (ad 0 23 0), vI x1]) (QV D ids ad cA A P) 0 0 A := by
  refine m_entry (own := RX8) (by decide) (Nat.le_of_ble_eq_true rfl) rfl ?_
  intro p e s m below meth c ls X hr w hl
  have hl : lv_has ls 6 [(0, .ref (ad 0 23 0)), (1, vI x1)] := hl
  unfold wpX8_walk at hq
  refine ra_iconst X.x X.b dX8_walk_0 ?_
  refine lv_istore_n (lv' := [(2, vI 0), (0, .ref (ad 0 23 0)), (1, vI x1)]) X.x X.b dX8_walk_1 rfl hl (by decide) rfl (fun ls hl => ?_)
  obtain ⟨n1, hq⟩ := hq
  exact klX8_walk_2 X hr hM  n1 x1 0 σ _ _ _ hq w (lv_sub hl [1, 2, 0] rfl)
end

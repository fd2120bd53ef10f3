set_option maxRecDepth 100000
set_option maxHeartbeats 4000000
theorem c_X2_undo (l : Launch) (r : GR) (A : Nat → Prop) (σ : GS) (P : GS → Int32 → Prop) (hf : f_X2_undo σ P) : gMet dM l yX2_undo cX2_undo 1 (some .int) 0 0 0 0 r A σ [.ref r.2.1] (zI P) := by
  refine g_enter (lv := [(0, .ref r.2.1)]) (by decide) (Nat.le_of_ble_eq_true rfl) rfl ?_
  intro p e s m below meth c ls K hr hM hl _
  obtain ⟨hx, hb, hml, hown, hts, hlk, hKK, hA⟩ := id K
  unfold f_X2_undo at hf
  refine lv_aload_n hx hb dX2_undo_0 rfl (lv_at hl 0 rfl) ?_
  refine g_geti K kM hM 5 rfl q1458 rfl dX2_undo_1 rfl ?_
  refine lv_if_ne (tgt := 10) hx hb dX2_undo_4 (by decide) (fun b1 => ?_) (fun b1 => ?_)
  · replace hf := hf.2 b1
    refine lv_aload_n hx hb dX2_undo_10 rfl (lv_at hl 0 rfl) ?_
    refine lv_dup hx hb dX2_undo_11 rfl ?_
    refine g_geti K kM hM 5 rfl q1458 rfl dX2_undo_12 rfl ?_
    refine lv_iconst (v := 1) hx hb dX2_undo_15 rfl ?_
    refine lv_isub hx hb dX2_undo_16 ?_
    refine g_putiN K kM hM 5 rfl q1458 rfl dX2_undo_17 rfl rfl rfl (fun H locs σ2 hσ2 hM => ?_)
    have hf := hf σ2 hσ2
    refine lv_aload_n hx hb dX2_undo_20 rfl (lv_at hl 0 rfl) ?_
    refine g_geta K kM hM 0 rfl q1453 rfl dX2_undo_21 rfl ?_
    refine lv_aload_n hx hb dX2_undo_24 rfl (lv_at hl 0 rfl) ?_
    refine g_geta K kM hM 1 rfl q1454 rfl dX2_undo_25 rfl ?_
    refine lv_aload_n hx hb dX2_undo_28 rfl (lv_at hl 0 rfl) ?_
    refine g_geti K kM hM 5 rfl q1458 rfl dX2_undo_29 rfl ?_
    obtain ⟨g3, hf⟩ := hf
    refine g_iald K hM 1 rfl rfl rfl g3 dX2_undo_32 ?_
    refine lv_aload_n hx hb dX2_undo_33 rfl (lv_at hl 0 rfl) ?_
    refine g_geta K kM hM 2 rfl q1455 rfl dX2_undo_34 rfl ?_
    refine lv_aload_n hx hb dX2_undo_37 rfl (lv_at hl 0 rfl) ?_
    refine g_geti K kM hM 5 rfl q1458 rfl dX2_undo_38 rfl ?_
    obtain ⟨g4, hf⟩ := hf
    refine g_iald K hM 2 rfl rfl rfl g4 dX2_undo_41 ?_
    obtain ⟨g5, hf⟩ := hf
    refine g_iastN K hM 0 rfl rfl rfl g5 dX2_undo_42 (fun H locs σ6 hσ6 hM => ?_)
    have hf := hf σ6 hσ6
    refine lv_aload_n hx hb dX2_undo_43 rfl (lv_at hl 0 rfl) ?_
    refine g_geti K kM hM 5 rfl q1458 rfl dX2_undo_44 rfl ?_
    exact g_reti K hr hM ⟨Nat.le_refl _, Nat.le_refl _⟩ hf dX2_undo_47
  · replace hf := hf.1 b1
    refine lv_bipush (v := -5) hx hb dX2_undo_7 rfl ?_
    exact g_reti K hr hM ⟨Nat.le_refl _, Nat.le_refl _⟩ hf dX2_undo_9
theorem c_X2_redo (l : Launch) (r : GR) (A : Nat → Prop) (σ : GS) (P : GS → Int32 → Prop) (hf : f_X2_redo σ P) : gMet dM l yX2_redo cX2_redo 1 (some .int) 0 0 0 0 r A σ [.ref r.2.1] (zI P) := by
  refine g_enter (lv := [(0, .ref r.2.1)]) (by decide) (Nat.le_of_ble_eq_true rfl) rfl ?_
  intro p e s m below meth c ls K hr hM hl _
  obtain ⟨hx, hb, hml, hown, hts, hlk, hKK, hA⟩ := id K
  unfold f_X2_redo at hf
  refine lv_aload_n hx hb dX2_redo_0 rfl (lv_at hl 0 rfl) ?_
  refine g_geti K kM hM 5 rfl q1458 rfl dX2_redo_1 rfl ?_
  refine lv_aload_n hx hb dX2_redo_4 rfl (lv_at hl 0 rfl) ?_
  refine g_geti K kM hM 4 rfl q1457 rfl dX2_redo_5 rfl ?_
  refine lv_icmp_ne (tgt := 14) hx hb dX2_redo_8 (by decide) (fun b1 => ?_) (fun b1 => ?_)
  · replace hf := hf.2 b1
    refine lv_aload_n hx hb dX2_redo_14 rfl (lv_at hl 0 rfl) ?_
    refine g_geta K kM hM 0 rfl q1453 rfl dX2_redo_15 rfl ?_
    refine lv_aload_n hx hb dX2_redo_18 rfl (lv_at hl 0 rfl) ?_
    refine g_geta K kM hM 1 rfl q1454 rfl dX2_redo_19 rfl ?_
    refine lv_aload_n hx hb dX2_redo_22 rfl (lv_at hl 0 rfl) ?_
    refine g_geti K kM hM 5 rfl q1458 rfl dX2_redo_23 rfl ?_
    obtain ⟨g2, hf⟩ := hf
    refine g_iald K hM 1 rfl rfl rfl g2 dX2_redo_26 ?_
    refine lv_aload_n hx hb dX2_redo_27 rfl (lv_at hl 0 rfl) ?_
    refine g_geta K kM hM 3 rfl q1456 rfl dX2_redo_28 rfl ?_
    refine lv_aload_n hx hb dX2_redo_31 rfl (lv_at hl 0 rfl) ?_
    refine g_geti K kM hM 5 rfl q1458 rfl dX2_redo_32 rfl ?_
    obtain ⟨g3, hf⟩ := hf
    refine g_iald K hM 3 rfl rfl rfl g3 dX2_redo_35 ?_
    obtain ⟨g4, hf⟩ := hf
    refine g_iastN K hM 0 rfl rfl rfl g4 dX2_redo_36 (fun H locs σ5 hσ5 hM => ?_)
    have hf := hf σ5 hσ5
    refine lv_aload_n hx hb dX2_redo_37 rfl (lv_at hl 0 rfl) ?_
    refine lv_dup hx hb dX2_redo_38 rfl ?_
    refine g_geti K kM hM 5 rfl q1458 rfl dX2_redo_39 rfl ?_
    refine lv_iconst (v := 1) hx hb dX2_redo_42 rfl ?_
    refine lv_iadd hx hb dX2_redo_43 ?_
    refine g_putiN K kM hM 5 rfl q1458 rfl dX2_redo_44 rfl rfl rfl (fun H locs σ6 hσ6 hM => ?_)
    have hf := hf σ6 hσ6
    refine lv_aload_n hx hb dX2_redo_47 rfl (lv_at hl 0 rfl) ?_
    refine g_geti K kM hM 4 rfl q1457 rfl dX2_redo_48 rfl ?_
    refine lv_aload_n hx hb dX2_redo_51 rfl (lv_at hl 0 rfl) ?_
    refine g_geti K kM hM 5 rfl q1458 rfl dX2_redo_52 rfl ?_
    refine lv_isub hx hb dX2_redo_55 ?_
    exact g_reti K hr hM ⟨Nat.le_refl _, Nat.le_refl _⟩ hf dX2_redo_56
  · replace hf := hf.1 b1
    refine lv_bipush (v := -5) hx hb dX2_redo_11 rfl ?_
    exact g_reti K hr hM ⟨Nat.le_refl _, Nat.le_refl _⟩ hf dX2_redo_13
theorem c_X2_adds (l : Launch) (r : GR) (A : Nat → Prop) (σ : GS) (x1 : Int32) (x2 : Int32) (x3 : Int32) (x4 : Int32) (P : GS → Prop) (hf : f_X2_adds σ x1 x2 x3 x4 P) : gMet dM l yX2_adds cX2_adds 5 none 0 0 0 0 r A σ [.ref r.2.1, .int x1, .int x2, .int x3, .int x4] (zV P) := by
  refine g_enter (lv := [(0, .ref r.2.1), (1, .int x1), (2, .int x2), (3, .int x3), (4, .int x4)]) (by decide) (Nat.le_of_ble_eq_true rfl) rfl ?_
  intro p e s m below meth c ls K hr hM hl _
  obtain ⟨hx, hb, hml, hown, hts, hlk, hKK, hA⟩ := id K
  unfold f_X2_adds at hf
  refine lv_aload_n hx hb dX2_adds_0 rfl (lv_at hl 0 rfl) ?_
  refine g_geta K kM hM 0 rfl q1453 rfl dX2_adds_1 rfl ?_
  refine lv_aload_n hx hb dX2_adds_4 rfl (lv_at hl 0 rfl) ?_
  refine g_geti K kM hM 6 rfl q1459 rfl dX2_adds_5 rfl ?_
  refine lv_iload_n hx hb dX2_adds_8 rfl (lv_at hl 1 rfl) ?_
  obtain ⟨g1, hf⟩ := hf
  refine g_iastN K hM 0 rfl rfl rfl g1 dX2_adds_9 (fun H locs σ2 hσ2 hM => ?_)
  have hf := hf σ2 hσ2
  refine lv_aload_n hx hb dX2_adds_10 rfl (lv_at hl 0 rfl) ?_
  refine g_geta K kM hM 0 rfl q1453 rfl dX2_adds_11 rfl ?_
  refine lv_bipush (v := 6) hx hb dX2_adds_14 rfl ?_
  refine lv_aload_n hx hb dX2_adds_16 rfl (lv_at hl 0 rfl) ?_
  refine g_geti K kM hM 6 rfl q1459 rfl dX2_adds_17 rfl ?_
  refine lv_iadd hx hb dX2_adds_20 ?_
  refine lv_iload_n hx hb dX2_adds_21 rfl (lv_at hl 2 rfl) ?_
  obtain ⟨g3, hf⟩ := hf
  refine g_iastN K hM 0 rfl rfl rfl g3 dX2_adds_22 (fun H locs σ4 hσ4 hM => ?_)
  have hf := hf σ4 hσ4
  refine lv_aload_n hx hb dX2_adds_23 rfl (lv_at hl 0 rfl) ?_
  refine g_geta K kM hM 0 rfl q1453 rfl dX2_adds_24 rfl ?_
  refine lv_bipush (v := 12) hx hb dX2_adds_27 rfl ?_
  refine lv_aload_n hx hb dX2_adds_29 rfl (lv_at hl 0 rfl) ?_
  refine g_geti K kM hM 6 rfl q1459 rfl dX2_adds_30 rfl ?_
  refine lv_iadd hx hb dX2_adds_33 ?_
  refine lv_iload_n hx hb dX2_adds_34 rfl (lv_at hl 3 rfl) ?_
  obtain ⟨g5, hf⟩ := hf
  refine g_iastN K hM 0 rfl rfl rfl g5 dX2_adds_35 (fun H locs σ6 hσ6 hM => ?_)
  have hf := hf σ6 hσ6
  refine lv_aload_n hx hb dX2_adds_36 rfl (lv_at hl 0 rfl) ?_
  refine g_geta K kM hM 7 rfl q1460 rfl dX2_adds_37 rfl ?_
  refine lv_aload_n hx hb dX2_adds_40 rfl (lv_at hl 0 rfl) ?_
  refine g_geti K kM hM 6 rfl q1459 rfl dX2_adds_41 rfl ?_
  refine lv_iload hx hb dX2_adds_44 (lv_at hl 4 rfl) ?_
  obtain ⟨g7, hf⟩ := hf
  refine g_iastN K hM 7 rfl rfl rfl g7 dX2_adds_46 (fun H locs σ8 hσ8 hM => ?_)
  have hf := hf σ8 hσ8
  refine lv_aload_n hx hb dX2_adds_47 rfl (lv_at hl 0 rfl) ?_
  refine lv_dup hx hb dX2_adds_48 rfl ?_
  refine g_geti K kM hM 6 rfl q1459 rfl dX2_adds_49 rfl ?_
  refine lv_iconst (v := 1) hx hb dX2_adds_52 rfl ?_
  refine lv_iadd hx hb dX2_adds_53 ?_
  refine g_putiN K kM hM 6 rfl q1459 rfl dX2_adds_54 rfl rfl rfl (fun H locs σ9 hσ9 hM => ?_)
  have hf := hf σ9 hσ9
  exact g_retv K hr hM ⟨Nat.le_refl _, Nat.le_refl _⟩ hf dX2_adds_57
theorem c_X2_within (l : Launch) (r : GR) (A : Nat → Prop) (σ : GS) (x0 : Int64) (x2 : Int64) (x4 : Int64) (P : GS → Int32 → Prop) (hf : f_X2_within σ x0 x2 x4 P) : gMet dM l yX2_within cX2_within 6 (some .boolean) 0 0 0 0 r A σ [.long x0, .long x2, .long x4] (zI P) := by
  refine g_enter (lv := [(0, .long x0), (2, .long x2), (4, .long x4)]) (by decide) (Nat.le_of_ble_eq_true rfl) rfl ?_
  intro p e s m below meth c ls K hr hM hl _
  obtain ⟨hx, hb, hml, hown, hts, hlk, hKK, hA⟩ := id K
  unfold f_X2_within at hf
  refine lv_lload_n hx hb dX2_within_0 rfl (lv_at hl 0 rfl) ?_
  refine lv_lload_n hx hb dX2_within_1 rfl (lv_at hl 1 rfl) ?_
  refine W.lcmp hx hb dX2_within_2 ?_
  refine lv_if_lt (tgt := 17) hx hb dX2_within_3 (by decide) (fun b1 => ?_) (fun b1 => ?_)
  · replace hf := hf.1 b1
    refine lv_iconst (v := 0) hx hb dX2_within_17 rfl ?_
    exact g_retz K hr hM ⟨Nat.le_refl _, Nat.le_refl _⟩ gZ_0 hf dX2_within_18
  · replace hf := hf.2 b1
    refine lv_lload_n hx hb dX2_within_6 rfl (lv_at hl 0 rfl) ?_
    refine lv_lload hx hb dX2_within_7 (lv_at hl 2 rfl) ?_
    refine W.lcmp hx hb dX2_within_9 ?_
    refine lv_if_gt (tgt := 17) hx hb dX2_within_10 (by decide) (fun b2 => ?_) (fun b2 => ?_)
    · replace hf := hf.1 b2
      refine lv_iconst (v := 0) hx hb dX2_within_17 rfl ?_
      exact g_retz K hr hM ⟨Nat.le_refl _, Nat.le_refl _⟩ gZ_0 hf dX2_within_18
    · replace hf := hf.2 b2
      refine lv_iconst (v := 1) hx hb dX2_within_13 rfl ?_
      refine lv_goto (tgt := 18) hx hb dX2_within_14 (by decide) ?_
      exact g_retz K hr hM ⟨Nat.le_refl _, Nat.le_refl _⟩ gZ_1 hf dX2_within_18
theorem c_X2_isTwo (l : Launch) (r : GR) (A : Nat → Prop) (σ : GS) (x0 : Int64) (P : GS → Int32 → Prop) (hf : f_X2_isTwo σ x0 P) : gMet dM l yX2_isTwo cX2_isTwo 2 (some .boolean) 1 25 0 0 r A σ [.long x0] (zI P) := by
  refine g_enter (lv := [(0, .long x0)]) (by decide) (Nat.le_of_ble_eq_true rfl) rfl ?_
  intro p e s m below meth c ls K hr hM hl _
  obtain ⟨hx, hb, hml, hown, hts, hlk, hKK, hA⟩ := id K
  unfold f_X2_isTwo at hf
  refine lv_lload_n hx hb dX2_isTwo_0 rfl (lv_at hl 0 rfl) ?_
  refine lv_lconst (v := 0) hx hb dX2_isTwo_1 rfl ?_
  refine lv_ldc2 hx hb hown (hts _ q1639) dX2_isTwo_2 ?_
  refine g_cSi [.long x0, .long (0 : Int64), .long (99 : Int64)] [] K hM hl (c_X2_within l r A _ _ _ _ _ hf) q1632 q1633 q84 q1634 hdX2_within ⟨Nat.le_of_ble_eq_true rfl, Nat.le_of_ble_eq_true rfl⟩ ⟨Nat.le_refl _, Nat.le_refl _⟩ rfl (Nat.le_of_ble_eq_true rfl) dX2_isTwo_5 (fun σ1 v2 H locs hf hM => ?_)
  obtain ⟨g3, hf⟩ := hf
  exact g_retz K hr hM ⟨Nat.le_refl _, Nat.le_refl _⟩ g3 hf dX2_isTwo_8
theorem c_X2_thing (l : Launch) (r : GR) (A : Nat → Prop) (σ : GS) (x1 : Int32) (x2 : Int32) (x3 : Int32) (P : GS → Int32 → Prop) (hf : f_X2_thing σ x1 x2 x3 P) : gMet dM l yX2_thing cX2_thing 4 (some .int) 2 46 0 0 r A σ [.ref r.2.1, .int x1, .int x2, .int x3] (zI P) := by
  refine g_enter (lv := [(0, .ref r.2.1), (1, .int x1), (2, .int x2), (3, .int x3)]) (by decide) (Nat.le_of_ble_eq_true rfl) rfl ?_
  intro p e s m below meth c ls K hr hM hl _
  obtain ⟨hx, hb, hml, hown, hts, hlk, hKK, hA⟩ := id K
  unfold f_X2_thing at hf
  refine lv_iload_n hx hb dX2_thing_0 rfl (lv_at hl 1 rfl) ?_
  refine lv_i2l hx hb dX2_thing_1 rfl ?_
  refine lv_lconst (v := 0) hx hb dX2_thing_2 rfl ?_
  refine lv_ldc2 hx hb hown (hts _ q1631) dX2_thing_3 ?_
  refine g_cSi [.long x1.toInt64, .long (0 : Int64), .long (999 : Int64)] [] K hM hl (c_X2_within l r A _ _ _ _ _ hf) q1632 q1633 q84 q1634 hdX2_within ⟨Nat.le_of_ble_eq_true rfl, Nat.le_of_ble_eq_true rfl⟩ ⟨Nat.le_refl _, Nat.le_refl _⟩ rfl (Nat.le_of_ble_eq_true rfl) dX2_thing_6 (fun σ1 v2 H locs hf hM => ?_)
  refine lv_if_eq (tgt := 32) hx hb dX2_thing_9 (by decide) (fun b3 => ?_) (fun b3 => ?_)
  · replace hf := hf.1 b3
    refine lv_iconst (v := -1) hx hb dX2_thing_32 rfl ?_
    exact g_reti K hr hM ⟨Nat.le_refl _, Nat.le_refl _⟩ hf dX2_thing_33
  · replace hf := hf.2 b3
    refine lv_iload_n hx hb dX2_thing_12 rfl (lv_at hl 2 rfl) ?_
    refine lv_i2l hx hb dX2_thing_13 rfl ?_
    refine lv_lconst (v := 0) hx hb dX2_thing_14 rfl ?_
    refine lv_ldc2 hx hb hown (hts _ q1635) dX2_thing_15 ?_
    refine g_cSi [.long x2.toInt64, .long (0 : Int64), .long (9999 : Int64)] [] K hM hl (c_X2_within l r A _ _ _ _ _ hf) q1632 q1633 q84 q1634 hdX2_within ⟨Nat.le_of_ble_eq_true rfl, Nat.le_of_ble_eq_true rfl⟩ ⟨Nat.le_refl _, Nat.le_refl _⟩ rfl (Nat.le_of_ble_eq_true rfl) dX2_thing_18 (fun σ4 v5 H locs hf hM => ?_)
    refine lv_if_eq (tgt := 32) hx hb dX2_thing_21 (by decide) (fun b6 => ?_) (fun b6 => ?_)
    · replace hf := hf.1 b6
      refine lv_iconst (v := -1) hx hb dX2_thing_32 rfl ?_
      exact g_reti K hr hM ⟨Nat.le_refl _, Nat.le_refl _⟩ hf dX2_thing_33
    · replace hf := hf.2 b6
      refine lv_iload_n hx hb dX2_thing_24 rfl (lv_at hl 3 rfl) ?_
      refine lv_i2l hx hb dX2_thing_25 rfl ?_
      refine g_cSi [.long x3.toInt64] [] K hM hl (c_X2_isTwo l r A _ _ _ hf) q1636 q1637 q84 q1638 hdX2_isTwo ⟨Nat.le_of_ble_eq_true rfl, Nat.le_of_ble_eq_true rfl⟩ ⟨Nat.le_refl _, Nat.le_refl _⟩ rfl (Nat.le_of_ble_eq_true rfl) dX2_thing_26 (fun σ7 v8 H locs hf hM => ?_)
      refine lv_if_ne (tgt := 34) hx hb dX2_thing_29 (by decide) (fun b9 => ?_) (fun b9 => ?_)
      · replace hf := hf.2 b9
        refine lv_aload_n hx hb dX2_thing_34 rfl (lv_at hl 0 rfl) ?_
        refine g_geti K kM hM 6 rfl q1459 rfl dX2_thing_35 rfl ?_
        refine lv_bipush (v := 6) hx hb dX2_thing_38 rfl ?_
        refine lv_icmp_ne (tgt := 46) hx hb dX2_thing_40 (by decide) (fun b10 => ?_) (fun b10 => ?_)
        · replace hf := hf.2 b10
          refine lv_aload_n hx hb dX2_thing_46 rfl (lv_at hl 0 rfl) ?_
          refine lv_iload_n hx hb dX2_thing_47 rfl (lv_at hl 1 rfl) ?_
          refine lv_iload_n hx hb dX2_thing_48 rfl (lv_at hl 2 rfl) ?_
          refine lv_bipush (v := 100) hx hb dX2_thing_49 rfl ?_
          refine lv_idiv hx hb dX2_thing_51 (by decide) ?_
          refine lv_iload_n hx hb dX2_thing_52 rfl (lv_at hl 2 rfl) ?_
          refine lv_bipush (v := 100) hx hb dX2_thing_53 rfl ?_
          refine lv_irem hx hb dX2_thing_55 (by decide) ?_
          refine lv_iload_n hx hb dX2_thing_56 rfl (lv_at hl 3 rfl) ?_
          refine g_cVv [.int x1, .int (x2 / (100 : Int32)), .int (x2 - x2 / (100 : Int32) * (100 : Int32)), .int x3] [] K kM hM hl (c_X2_adds l r A _ _ _ _ _ _ hf) q1640 q1642 qs40 q84 q1643 hdX2_adds ⟨Nat.le_of_ble_eq_true rfl, Nat.le_of_ble_eq_true rfl⟩ ⟨Nat.le_refl _, Nat.le_refl _⟩ rfl (Nat.le_of_ble_eq_true rfl) dX2_thing_57 (fun σ11 H locs hf hM => ?_)
          refine lv_aload_n hx hb dX2_thing_60 rfl (lv_at hl 0 rfl) ?_
          refine g_geti K kM hM 6 rfl q1459 rfl dX2_thing_61 rfl ?_
          refine lv_iconst (v := 1) hx hb dX2_thing_64 rfl ?_
          refine lv_isub hx hb dX2_thing_65 ?_
          exact g_reti K hr hM ⟨Nat.le_refl _, Nat.le_refl _⟩ hf dX2_thing_66
        · replace hf := hf.1 b10
          refine lv_bipush (v := -3) hx hb dX2_thing_43 rfl ?_
          exact g_reti K hr hM ⟨Nat.le_refl _, Nat.le_refl _⟩ hf dX2_thing_45
      · replace hf := hf.1 b9
        refine lv_iconst (v := -1) hx hb dX2_thing_32 rfl ?_
        exact g_reti K hr hM ⟨Nat.le_refl _, Nat.le_refl _⟩ hf dX2_thing_33
theorem c_X2_isShelf (l : Launch) (r : GR) (A : Nat → Prop) (σ : GS) (x0 : Int32) (P : GS → Int32 → Prop) (hf : f_X2_isShelf σ x0 P) : gMet dM l yX2_isShelf cX2_isShelf 1 (some .boolean) 1 25 0 0 r A σ [.int x0] (zI P) := by
  refine g_enter (lv := [(0, .int x0)]) (by decide) (Nat.le_of_ble_eq_true rfl) rfl ?_
  intro p e s m below meth c ls K hr hM hl _
  obtain ⟨hx, hb, hml, hown, hts, hlk, hKK, hA⟩ := id K
  unfold f_X2_isShelf at hf
  refine lv_iload_n hx hb dX2_isShelf_0 rfl (lv_at hl 0 rfl) ?_
  refine lv_i2l hx hb dX2_isShelf_1 rfl ?_
  refine lv_lconst (v := 0) hx hb dX2_isShelf_2 rfl ?_
  refine lv_ldc2 hx hb hown (hts _ q1651) dX2_isShelf_3 ?_
  refine g_cSi [.long x0.toInt64, .long (0 : Int64), .long (5 : Int64)] [] K hM hl (c_X2_within l r A _ _ _ _ _ hf) q1632 q1633 q84 q1634 hdX2_within ⟨Nat.le_of_ble_eq_true rfl, Nat.le_of_ble_eq_true rfl⟩ ⟨Nat.le_refl _, Nat.le_refl _⟩ rfl (Nat.le_of_ble_eq_true rfl) dX2_isShelf_6 (fun σ1 v2 H locs hf hM => ?_)
  obtain ⟨g3, hf⟩ := hf
  exact g_retz K hr hM ⟨Nat.le_refl _, Nat.le_refl _⟩ g3 hf dX2_isShelf_9
theorem w_X2_things_250 {p : Program} {l : Launch} {e : Env} {s : State} {m : MethodId} {args : Array Value} {below : List Frame} {meth : Method} {c : Code} {r : GR} {A : Nat → Prop} {P : GS → Int32 → Prop} {k69 : GS → Int32 → Int32 → Int32 → Int32 → Int32 → Prop} (K : gC p s m args meth c cX2_things 7 RX2 r A) (hr : meth.sig.returnType = (some .int)) (H69 : ∀ (σ : GS) (x1 : Int32) (x2 : Int32) (x3 : Int32) (x4 : Int32) (x5 : Int32), k69 σ x1 x2 x3 x4 x5 → gW dM p l e (gRm 2 46 0 0) s m args below meth c r A (zI P) 0 0 7 69 [(0, .ref r.2.1), (1, .int x1), (2, .int x2), (3, .int x3), (4, .int x4), (5, .int x5)] [] 0 0 σ) : ∀ (σ : GS) (x1 : Int32) (x2 : Int32) (x3 : Int32) (x4 : Int32) (x5 : Int32), f_X2_things_250 k69 P σ x1 x2 x3 x4 x5 → gW dM p l e (gRm 2 46 0 0) s m args below meth c r A (zI P) 0 0 7 250 [(0, .ref r.2.1), (1, .int x1), (2, .int x2), (3, .int x3), (4, .int x4), (5, .int x5)] [] 0 0 σ := by
  obtain ⟨hx, hb, hml, hown, hts, hlk, hKK, hA⟩ := id K
  intro σ x1 x2 x3 x4 x5 hf H locs ls hM hl
  unfold f_X2_things_250 at hf
  refine lv_goto (tgt := 69) hx hb dX2_things_250 (by decide) ?_
  exact H69 _ _ _ _ _ _ hf _ _ _ hM (lv_sub hl [0, 1, 2, 3, 4, 5] rfl)
theorem w_X2_things_198 {p : Program} {l : Launch} {e : Env} {s : State} {m : MethodId} {args : Array Value} {below : List Frame} {meth : Method} {c : Code} {r : GR} {A : Nat → Prop} {P : GS → Int32 → Prop} {k69 : GS → Int32 → Int32 → Int32 → Int32 → Int32 → Prop} (K : gC p s m args meth c cX2_things 7 RX2 r A) (hr : meth.sig.returnType = (some .int)) (H69 : ∀ (σ : GS) (x1 : Int32) (x2 : Int32) (x3 : Int32) (x4 : Int32) (x5 : Int32), k69 σ x1 x2 x3 x4 x5 → gW dM p l e (gRm 2 46 0 0) s m args below meth c r A (zI P) 0 0 7 69 [(0, .ref r.2.1), (1, .int x1), (2, .int x2), (3, .int x3), (4, .int x4), (5, .int x5)] [] 0 0 σ) : ∀ (σ : GS) (x1 : Int32) (x2 : Int32) (x3 : Int32) (x4 : Int32) (x6 : Int32) (t0 : Int32), f_X2_things_198 k69 P σ x1 x2 x3 x4 x6 t0 → gW dM p l e (gRm 2 46 0 0) s m args below meth c r A (zI P) 0 0 7 198 [(0, .ref r.2.1), (1, .int x1), (2, .int x2), (3, .int x3), (4, .int x4), (6, .int x6)] [.int t0] 0 0 σ := by
  obtain ⟨hx, hb, hml, hown, hts, hlk, hKK, hA⟩ := id K
  intro σ x1 x2 x3 x4 x6 t0 hf H locs ls hM hl
  unfold f_X2_things_198 at hf
  refine lv_istore (lv' := [(5, .int t0), (0, .ref r.2.1), (1, .int x1), (2, .int x2), (3, .int x3), (4, .int x4), (6, .int x6)]) hx hb dX2_things_198 hl (by decide) rfl (fun ls hl => ?_)
  refine lv_iload hx hb dX2_things_200 (lv_at hl 0 rfl) ?_
  refine lv_if_eq (tgt := 250) hx hb dX2_things_202 (by decide) (fun b1 => ?_) (fun b1 => ?_)
  · replace hf := hf.1 b1
    exact w_X2_things_250 K hr H69 _ _ _ _ _ _ hf _ _ _ hM (lv_sub hl [1, 2, 3, 4, 5, 0] rfl)
  · replace hf := hf.2 b1
    refine lv_aload_n hx hb dX2_things_205 rfl (lv_at hl 1 rfl) ?_
    refine lv_aload_n hx hb dX2_things_206 rfl (lv_at hl 1 rfl) ?_
    refine g_geta K kM hM 53 rfl q1506 rfl dX2_things_207 rfl ?_
    refine lv_iload hx hb dX2_things_210 (lv_at hl 6 rfl) ?_
    obtain ⟨g2, hf⟩ := hf
    refine g_lald K hM 53 rfl rfl rfl g2 dX2_things_212 ?_
    refine lv_l2i hx hb dX2_things_213 rfl ?_
    refine lv_aload_n hx hb dX2_things_214 rfl (lv_at hl 1 rfl) ?_
    refine g_geta K kM hM 53 rfl q1506 rfl dX2_things_215 rfl ?_
    refine lv_iload hx hb dX2_things_218 (lv_at hl 6 rfl) ?_
    refine lv_iconst (v := 1) hx hb dX2_things_220 rfl ?_
    refine lv_iadd hx hb dX2_things_221 ?_
    obtain ⟨g3, hf⟩ := hf
    refine g_lald K hM 53 rfl rfl rfl g3 dX2_things_222 ?_
    refine lv_l2i hx hb dX2_things_223 rfl ?_
    refine lv_aload_n hx hb dX2_things_224 rfl (lv_at hl 1 rfl) ?_
    refine g_geta K kM hM 53 rfl q1506 rfl dX2_things_225 rfl ?_
    refine lv_iload hx hb dX2_things_228 (lv_at hl 6 rfl) ?_
    refine lv_iconst (v := 2) hx hb dX2_things_230 rfl ?_
    refine lv_iadd hx hb dX2_things_231 ?_
    obtain ⟨g4, hf⟩ := hf
    refine g_lald K hM 53 rfl rfl rfl g4 dX2_things_232 ?_
    refine lv_l2i hx hb dX2_things_233 rfl ?_
    refine lv_aload_n hx hb dX2_things_234 rfl (lv_at hl 1 rfl) ?_
    refine g_geta K kM hM 53 rfl q1506 rfl dX2_things_235 rfl ?_
    refine lv_iload hx hb dX2_things_238 (lv_at hl 6 rfl) ?_
    refine lv_iconst (v := 3) hx hb dX2_things_240 rfl ?_
    refine lv_iadd hx hb dX2_things_241 ?_
    obtain ⟨g5, hf⟩ := hf
    refine g_lald K hM 53 rfl rfl rfl g5 dX2_things_242 ?_
    refine lv_l2i hx hb dX2_things_243 rfl ?_
    refine g_cVv [.int ((gL σ 53 x6.toNatClampNeg).toInt32), .int ((gL σ 53 (x6 + (1 : Int32)).toNatClampNeg).toInt32), .int ((gL σ 53 (x6 + (2 : Int32)).toNatClampNeg).toInt32), .int ((gL σ 53 (x6 + (3 : Int32)).toNatClampNeg).toInt32)] [] K kM hM hl (c_X2_adds l r A _ _ _ _ _ _ hf) q1640 q1642 qs40 q84 q1643 hdX2_adds ⟨Nat.le_of_ble_eq_true rfl, Nat.le_of_ble_eq_true rfl⟩ ⟨Nat.le_refl _, Nat.le_refl _⟩ rfl (Nat.le_of_ble_eq_true rfl) dX2_things_244 (fun σ6 H locs hf hM => ?_)
    refine lv_iinc (v := x4 + 1) (lv' := [(4, .int (x4 + 1)), (5, .int t0), (0, .ref r.2.1), (1, .int x1), (2, .int x2), (3, .int x3), (6, .int x6)]) hx hb dX2_things_247 hl (k := 5) rfl rfl (by decide) rfl (fun ls hl => ?_)
    exact w_X2_things_250 K hr H69 _ _ _ _ _ _ hf _ _ _ hM (lv_sub hl [2, 3, 4, 5, 0, 1] rfl)
theorem w_X2_things_197 {p : Program} {l : Launch} {e : Env} {s : State} {m : MethodId} {args : Array Value} {below : List Frame} {meth : Method} {c : Code} {r : GR} {A : Nat → Prop} {P : GS → Int32 → Prop} {k69 : GS → Int32 → Int32 → Int32 → Int32 → Int32 → Prop} (K : gC p s m args meth c cX2_things 7 RX2 r A) (hr : meth.sig.returnType = (some .int)) (H69 : ∀ (σ : GS) (x1 : Int32) (x2 : Int32) (x3 : Int32) (x4 : Int32) (x5 : Int32), k69 σ x1 x2 x3 x4 x5 → gW dM p l e (gRm 2 46 0 0) s m args below meth c r A (zI P) 0 0 7 69 [(0, .ref r.2.1), (1, .int x1), (2, .int x2), (3, .int x3), (4, .int x4), (5, .int x5)] [] 0 0 σ) : ∀ (σ : GS) (x1 : Int32) (x2 : Int32) (x3 : Int32) (x4 : Int32) (x6 : Int32), f_X2_things_197 k69 P σ x1 x2 x3 x4 x6 → gW dM p l e (gRm 2 46 0 0) s m args below meth c r A (zI P) 0 0 7 197 [(0, .ref r.2.1), (1, .int x1), (2, .int x2), (3, .int x3), (4, .int x4), (6, .int x6)] [] 0 0 σ := by
  obtain ⟨hx, hb, hml, hown, hts, hlk, hKK, hA⟩ := id K
  intro σ x1 x2 x3 x4 x6 hf H locs ls hM hl
  unfold f_X2_things_197 at hf
  refine lv_iconst (v := 0) hx hb dX2_things_197 rfl ?_
  exact w_X2_things_198 K hr H69 _ _ _ _ _ _ _ hf _ _ _ hM (lv_sub hl [0, 1, 2, 3, 4, 5] rfl)
theorem w_X2_things_111 {p : Program} {l : Launch} {e : Env} {s : State} {m : MethodId} {args : Array Value} {below : List Frame} {meth : Method} {c : Code} {r : GR} {A : Nat → Prop} {P : GS → Int32 → Prop} {k69 : GS → Int32 → Int32 → Int32 → Int32 → Int32 → Prop} (K : gC p s m args meth c cX2_things 7 RX2 r A) (hr : meth.sig.returnType = (some .int)) (H69 : ∀ (σ : GS) (x1 : Int32) (x2 : Int32) (x3 : Int32) (x4 : Int32) (x5 : Int32), k69 σ x1 x2 x3 x4 x5 → gW dM p l e (gRm 2 46 0 0) s m args below meth c r A (zI P) 0 0 7 69 [(0, .ref r.2.1), (1, .int x1), (2, .int x2), (3, .int x3), (4, .int x4), (5, .int x5)] [] 0 0 σ) : ∀ (σ : GS) (x1 : Int32) (x2 : Int32) (x3 : Int32) (x4 : Int32) (t0 : Int32), f_X2_things_111 k69 P σ x1 x2 x3 x4 t0 → gW dM p l e (gRm 2 46 0 0) s m args below meth c r A (zI P) 0 0 7 111 [(0, .ref r.2.1), (1, .int x1), (2, .int x2), (3, .int x3), (4, .int x4)] [.int t0] 0 0 σ := by
  obtain ⟨hx, hb, hml, hown, hts, hlk, hKK, hA⟩ := id K
  intro σ x1 x2 x3 x4 t0 hf H locs ls hM hl
  unfold f_X2_things_111 at hf
  refine lv_istore (lv' := [(5, .int t0), (0, .ref r.2.1), (1, .int x1), (2, .int x2), (3, .int x3), (4, .int x4)]) hx hb dX2_things_111 hl (by decide) rfl (fun ls hl => ?_)
  refine lv_bipush (v := 60) hx hb dX2_things_113 rfl ?_
  refine lv_iload_n hx hb dX2_things_115 rfl (lv_at hl 2 rfl) ?_
  refine lv_imul hx hb dX2_things_116 ?_
  refine lv_iload_n hx hb dX2_things_117 rfl (lv_at hl 3 rfl) ?_
  refine lv_iadd hx hb dX2_things_118 ?_
  refine lv_iconst (v := 4) hx hb dX2_things_119 rfl ?_
  refine lv_iload hx hb dX2_things_120 (lv_at hl 5 rfl) ?_
  refine lv_imul hx hb dX2_things_122 ?_
  refine lv_iadd hx hb dX2_things_123 ?_
  refine lv_topi (fun z1 hz1 => ?_)
  have hf := hf z1 hz1
  refine lv_istore (lv' := [(6, .int z1), (5, .int t0), (0, .ref r.2.1), (1, .int x1), (2, .int x2), (3, .int x3), (4, .int x4)]) hx hb dX2_things_124 hl (by decide) rfl (fun ls hl => ?_)
  refine lv_iload hx hb dX2_things_126 (lv_at hl 1 rfl) ?_
  refine lv_if_eq (tgt := 197) hx hb dX2_things_128 (by decide) (fun b2 => ?_) (fun b2 => ?_)
  · replace hf := hf.1 b2
    exact w_X2_things_197 K hr H69 _ _ _ _ _ _ hf _ _ _ hM (lv_sub hl [2, 3, 4, 5, 6, 0] rfl)
  · replace hf := hf.2 b2
    refine lv_aload_n hx hb dX2_things_131 rfl (lv_at hl 2 rfl) ?_
    refine g_geta K kM hM 53 rfl q1506 rfl dX2_things_132 rfl ?_
    refine lv_iload hx hb dX2_things_135 (lv_at hl 0 rfl) ?_
    obtain ⟨g3, hf⟩ := hf
    refine g_lald K hM 53 rfl rfl rfl g3 dX2_things_137 ?_
    refine lv_lconst (v := 0) hx hb dX2_things_138 rfl ?_
    refine lv_ldc2 hx hb hown (hts _ q1631) dX2_things_139 ?_
    refine g_cSi [.long (gL σ 53 z1.toNatClampNeg), .long (0 : Int64), .long (999 : Int64)] [] K hM hl (c_X2_within l r A _ _ _ _ _ hf) q1632 q1633 q84 q1634 hdX2_within ⟨Nat.le_of_ble_eq_true rfl, Nat.le_of_ble_eq_true rfl⟩ ⟨Nat.le_refl _, Nat.le_refl _⟩ rfl (Nat.le_of_ble_eq_true rfl) dX2_things_142 (fun σ4 v5 H locs hf hM => ?_)
    refine lv_if_eq (tgt := 197) hx hb dX2_things_145 (by decide) (fun b6 => ?_) (fun b6 => ?_)
    · replace hf := hf.1 b6
      exact w_X2_things_197 K hr H69 _ _ _ _ _ _ hf _ _ _ hM (lv_sub hl [2, 3, 4, 5, 6, 0] rfl)
    · replace hf := hf.2 b6
      refine lv_aload_n hx hb dX2_things_148 rfl (lv_at hl 2 rfl) ?_
      refine g_geta K kM hM 53 rfl q1506 rfl dX2_things_149 rfl ?_
      refine lv_iload hx hb dX2_things_152 (lv_at hl 0 rfl) ?_
      refine lv_iconst (v := 1) hx hb dX2_things_154 rfl ?_
      refine lv_iadd hx hb dX2_things_155 ?_
      obtain ⟨g7, hf⟩ := hf
      refine g_lald K hM 53 rfl rfl rfl g7 dX2_things_156 ?_
      refine g_cSi [.long (gL σ4 53 (z1 + (1 : Int32)).toNatClampNeg)] [] K hM hl (c_X2_isTwo l r A _ _ _ hf) q1636 q1637 q84 q1638 hdX2_isTwo ⟨Nat.le_of_ble_eq_true rfl, Nat.le_of_ble_eq_true rfl⟩ ⟨Nat.le_refl _, Nat.le_refl _⟩ rfl (Nat.le_of_ble_eq_true rfl) dX2_things_157 (fun σ8 v9 H locs hf hM => ?_)
      refine lv_if_eq (tgt := 197) hx hb dX2_things_160 (by decide) (fun b10 => ?_) (fun b10 => ?_)
      · replace hf := hf.1 b10
        exact w_X2_things_197 K hr H69 _ _ _ _ _ _ hf _ _ _ hM (lv_sub hl [2, 3, 4, 5, 6, 0] rfl)
      · replace hf := hf.2 b10
        refine lv_aload_n hx hb dX2_things_163 rfl (lv_at hl 2 rfl) ?_
        refine g_geta K kM hM 53 rfl q1506 rfl dX2_things_164 rfl ?_
        refine lv_iload hx hb dX2_things_167 (lv_at hl 0 rfl) ?_
        refine lv_iconst (v := 2) hx hb dX2_things_169 rfl ?_
        refine lv_iadd hx hb dX2_things_170 ?_
        obtain ⟨g11, hf⟩ := hf
        refine g_lald K hM 53 rfl rfl rfl g11 dX2_things_171 ?_
        refine g_cSi [.long (gL σ8 53 (z1 + (2 : Int32)).toNatClampNeg)] [] K hM hl (c_X2_isTwo l r A _ _ _ hf) q1636 q1637 q84 q1638 hdX2_isTwo ⟨Nat.le_of_ble_eq_true rfl, Nat.le_of_ble_eq_true rfl⟩ ⟨Nat.le_refl _, Nat.le_refl _⟩ rfl (Nat.le_of_ble_eq_true rfl) dX2_things_172 (fun σ12 v13 H locs hf hM => ?_)
        refine lv_if_eq (tgt := 197) hx hb dX2_things_175 (by decide) (fun b14 => ?_) (fun b14 => ?_)
        · replace hf := hf.1 b14
          exact w_X2_things_197 K hr H69 _ _ _ _ _ _ hf _ _ _ hM (lv_sub hl [2, 3, 4, 5, 6, 0] rfl)
        · replace hf := hf.2 b14
          refine lv_aload_n hx hb dX2_things_178 rfl (lv_at hl 2 rfl) ?_
          refine g_geta K kM hM 53 rfl q1506 rfl dX2_things_179 rfl ?_
          refine lv_iload hx hb dX2_things_182 (lv_at hl 0 rfl) ?_
          refine lv_iconst (v := 3) hx hb dX2_things_184 rfl ?_
          refine lv_iadd hx hb dX2_things_185 ?_
          obtain ⟨g15, hf⟩ := hf
          refine g_lald K hM 53 rfl rfl rfl g15 dX2_things_186 ?_
          refine g_cSi [.long (gL σ12 53 (z1 + (3 : Int32)).toNatClampNeg)] [] K hM hl (c_X2_isTwo l r A _ _ _ hf) q1636 q1637 q84 q1638 hdX2_isTwo ⟨Nat.le_of_ble_eq_true rfl, Nat.le_of_ble_eq_true rfl⟩ ⟨Nat.le_refl _, Nat.le_refl _⟩ rfl (Nat.le_of_ble_eq_true rfl) dX2_things_187 (fun σ16 v17 H locs hf hM => ?_)
          refine lv_if_eq (tgt := 197) hx hb dX2_things_190 (by decide) (fun b18 => ?_) (fun b18 => ?_)
          · replace hf := hf.1 b18
            exact w_X2_things_197 K hr H69 _ _ _ _ _ _ hf _ _ _ hM (lv_sub hl [2, 3, 4, 5, 6, 0] rfl)
          · replace hf := hf.2 b18
            refine lv_iconst (v := 1) hx hb dX2_things_193 rfl ?_
            refine lv_goto (tgt := 198) hx hb dX2_things_194 (by decide) ?_
            exact w_X2_things_198 K hr H69 _ _ _ _ _ _ _ hf _ _ _ hM (lv_sub hl [2, 3, 4, 5, 6, 0] rfl)
theorem w_X2_things_110 {p : Program} {l : Launch} {e : Env} {s : State} {m : MethodId} {args : Array Value} {below : List Frame} {meth : Method} {c : Code} {r : GR} {A : Nat → Prop} {P : GS → Int32 → Prop} {k69 : GS → Int32 → Int32 → Int32 → Int32 → Int32 → Prop} (K : gC p s m args meth c cX2_things 7 RX2 r A) (hr : meth.sig.returnType = (some .int)) (H69 : ∀ (σ : GS) (x1 : Int32) (x2 : Int32) (x3 : Int32) (x4 : Int32) (x5 : Int32), k69 σ x1 x2 x3 x4 x5 → gW dM p l e (gRm 2 46 0 0) s m args below meth c r A (zI P) 0 0 7 69 [(0, .ref r.2.1), (1, .int x1), (2, .int x2), (3, .int x3), (4, .int x4), (5, .int x5)] [] 0 0 σ) : ∀ (σ : GS) (x1 : Int32) (x2 : Int32) (x3 : Int32) (x4 : Int32), f_X2_things_110 k69 P σ x1 x2 x3 x4 → gW dM p l e (gRm 2 46 0 0) s m args below meth c r A (zI P) 0 0 7 110 [(0, .ref r.2.1), (1, .int x1), (2, .int x2), (3, .int x3), (4, .int x4)] [] 0 0 σ := by
  obtain ⟨hx, hb, hml, hown, hts, hlk, hKK, hA⟩ := id K
  intro σ x1 x2 x3 x4 hf H locs ls hM hl
  unfold f_X2_things_110 at hf
  refine lv_iconst (v := 0) hx hb dX2_things_110 rfl ?_
  exact w_X2_things_111 K hr H69 _ _ _ _ _ _ hf _ _ _ hM (lv_sub hl [0, 1, 2, 3, 4] rfl)
theorem w_X2_things_69 {p : Program} {l : Launch} {e : Env} {s : State} {m : MethodId} {args : Array Value} {below : List Frame} {meth : Method} {c : Code} {r : GR} {A : Nat → Prop} {P : GS → Int32 → Prop} (K : gC p s m args meth c cX2_things 7 RX2 r A) (hr : meth.sig.returnType = (some .int)) : ∀ (n : Nat) (σ : GS) (x1 : Int32) (x2 : Int32) (x3 : Int32) (x4 : Int32) (x5 : Int32), f_X2_things_69 P n σ x1 x2 x3 x4 x5 → gW dM p l e (gRm 2 46 0 0) s m args below meth c r A (zI P) 0 0 7 69 [(0, .ref r.2.1), (1, .int x1), (2, .int x2), (3, .int x3), (4, .int x4), (5, .int x5)] [] 0 0 σ := by
  obtain ⟨hx, hb, hml, hown, hts, hlk, hKK, hA⟩ := id K
  intro n
  induction n with
  | zero =>
    intro σ x1 x2 x3 x4 x5 hf
    exact absurd hf (fun h => h)
  | succ n ih =>
    intro σ x1 x2 x3 x4 x5 hf H locs ls hM hl
    rw [f_X2_things_69] at hf
    refine lv_iload hx hb dX2_things_69 (lv_at hl 5 rfl) ?_
    refine lv_if_eq (tgt := 253) hx hb dX2_things_71 (by decide) (fun b1 => ?_) (fun b1 => ?_)
    · replace hf := hf.1 b1
      refine lv_iload hx hb dX2_things_253 (lv_at hl 4 rfl) ?_
      exact g_reti K hr hM ⟨Nat.le_refl _, Nat.le_refl _⟩ hf dX2_things_255
    · replace hf := hf.2 b1
      refine lv_iload hx hb dX2_things_74 (lv_at hl 4 rfl) ?_
      refine lv_iload_n hx hb dX2_things_76 rfl (lv_at hl 3 rfl) ?_
      refine lv_icmp_ge (tgt := 253) hx hb dX2_things_77 (by decide) (fun b2 => ?_) (fun b2 => ?_)
      · replace hf := hf.1 b2
        refine lv_iload hx hb dX2_things_253 (lv_at hl 4 rfl) ?_
        exact g_reti K hr hM ⟨Nat.le_refl _, Nat.le_refl _⟩ hf dX2_things_255
      · replace hf := hf.2 b2
        refine lv_iload_n hx hb dX2_things_80 rfl (lv_at hl 2 rfl) ?_
        refine lv_aload_n hx hb dX2_things_81 rfl (lv_at hl 0 rfl) ?_
        refine g_geta K kM hM 52 rfl q1505 rfl dX2_things_82 rfl ?_
        refine lv_iload_n hx hb dX2_things_85 rfl (lv_at hl 1 rfl) ?_
        obtain ⟨g3, hf⟩ := hf
        refine g_iald K hM 52 rfl rfl rfl g3 dX2_things_86 ?_
        refine lv_iconst (v := 4) hx hb dX2_things_87 rfl ?_
        refine lv_isub hx hb dX2_things_88 ?_
        refine lv_iconst (v := 4) hx hb dX2_things_89 rfl ?_
        refine lv_iload hx hb dX2_things_90 (lv_at hl 4 rfl) ?_
        refine lv_imul hx hb dX2_things_92 ?_
        refine lv_isub hx hb dX2_things_93 ?_
        refine lv_icmp_gt (tgt := 110) hx hb dX2_things_94 (by decide) (fun b4 => ?_) (fun b4 => ?_)
        · replace hf := hf.1 b4
          exact w_X2_things_110 K hr ih _ _ _ _ _ hf _ _ _ hM (lv_sub hl [0, 1, 2, 3, 4] rfl)
        · replace hf := hf.2 b4
          refine lv_aload_n hx hb dX2_things_97 rfl (lv_at hl 0 rfl) ?_
          refine g_geti K kM hM 6 rfl q1459 rfl dX2_things_98 rfl ?_
          refine lv_bipush (v := 6) hx hb dX2_things_101 rfl ?_
          refine lv_icmp_ge (tgt := 110) hx hb dX2_things_103 (by decide) (fun b5 => ?_) (fun b5 => ?_)
          · replace hf := hf.1 b5
            exact w_X2_things_110 K hr ih _ _ _ _ _ hf _ _ _ hM (lv_sub hl [0, 1, 2, 3, 4] rfl)
          · replace hf := hf.2 b5
            refine lv_iconst (v := 1) hx hb dX2_things_106 rfl ?_
            refine lv_goto (tgt := 111) hx hb dX2_things_107 (by decide) ?_
            exact w_X2_things_111 K hr ih _ _ _ _ _ _ hf _ _ _ hM (lv_sub hl [0, 1, 2, 3, 4] rfl)
theorem w_X2_things_67 {p : Program} {l : Launch} {e : Env} {s : State} {m : MethodId} {args : Array Value} {below : List Frame} {meth : Method} {c : Code} {r : GR} {A : Nat → Prop} {P : GS → Int32 → Prop} (K : gC p s m args meth c cX2_things 7 RX2 r A) (hr : meth.sig.returnType = (some .int)) : ∀ (σ : GS) (x1 : Int32) (x2 : Int32) (x3 : Int32) (x4 : Int32) (t0 : Int32), f_X2_things_67 P σ x1 x2 x3 x4 t0 → gW dM p l e (gRm 2 46 0 0) s m args below meth c r A (zI P) 0 0 7 67 [(0, .ref r.2.1), (1, .int x1), (2, .int x2), (3, .int x3), (4, .int x4)] [.int t0] 0 0 σ := by
  obtain ⟨hx, hb, hml, hown, hts, hlk, hKK, hA⟩ := id K
  intro σ x1 x2 x3 x4 t0 hf H locs ls hM hl
  unfold f_X2_things_67 at hf
  refine lv_istore (lv' := [(5, .int t0), (0, .ref r.2.1), (1, .int x1), (2, .int x2), (3, .int x3), (4, .int x4)]) hx hb dX2_things_67 hl (by decide) rfl (fun ls hl => ?_)
  obtain ⟨n_, hf⟩ := hf
  exact w_X2_things_69 K hr n_ _ _ _ _ _ _ hf _ _ _ hM (lv_sub hl [1, 2, 3, 4, 5, 0] rfl)
theorem w_X2_things_66 {p : Program} {l : Launch} {e : Env} {s : State} {m : MethodId} {args : Array Value} {below : List Frame} {meth : Method} {c : Code} {r : GR} {A : Nat → Prop} {P : GS → Int32 → Prop} (K : gC p s m args meth c cX2_things 7 RX2 r A) (hr : meth.sig.returnType = (some .int)) : ∀ (σ : GS) (x1 : Int32) (x2 : Int32) (x3 : Int32) (x4 : Int32), f_X2_things_66 P σ x1 x2 x3 x4 → gW dM p l e (gRm 2 46 0 0) s m args below meth c r A (zI P) 0 0 7 66 [(0, .ref r.2.1), (1, .int x1), (2, .int x2), (3, .int x3), (4, .int x4)] [] 0 0 σ := by
  obtain ⟨hx, hb, hml, hown, hts, hlk, hKK, hA⟩ := id K
  intro σ x1 x2 x3 x4 hf H locs ls hM hl
  unfold f_X2_things_66 at hf
  refine lv_iconst (v := 0) hx hb dX2_things_66 rfl ?_
  exact w_X2_things_67 K hr _ _ _ _ _ _ hf _ _ _ hM (lv_sub hl [0, 1, 2, 3, 4] rfl)
theorem w_X2_things_44 {p : Program} {l : Launch} {e : Env} {s : State} {m : MethodId} {args : Array Value} {below : List Frame} {meth : Method} {c : Code} {r : GR} {A : Nat → Prop} {P : GS → Int32 → Prop} (K : gC p s m args meth c cX2_things 7 RX2 r A) (hr : meth.sig.returnType = (some .int)) : ∀ (σ : GS) (x1 : Int32) (x2 : Int32) (x3 : Int32), f_X2_things_44 P σ x1 x2 x3 → gW dM p l e (gRm 2 46 0 0) s m args below meth c r A (zI P) 0 0 7 44 [(0, .ref r.2.1), (1, .int x1), (2, .int x2), (3, .int x3)] [] 0 0 σ := by
  obtain ⟨hx, hb, hml, hown, hts, hlk, hKK, hA⟩ := id K
  intro σ x1 x2 x3 hf H locs ls hM hl
  unfold f_X2_things_44 at hf
  refine lv_iconst (v := 0) hx hb dX2_things_44 rfl ?_
  refine lv_istore (lv' := [(4, .int (0 : Int32)), (0, .ref r.2.1), (1, .int x1), (2, .int x2), (3, .int x3)]) hx hb dX2_things_45 hl (by decide) rfl (fun ls hl => ?_)
  refine lv_aload_n hx hb dX2_things_47 rfl (lv_at hl 1 rfl) ?_
  refine g_geta K kM hM 51 rfl q1504 rfl dX2_things_48 rfl ?_
  refine lv_iload_n hx hb dX2_things_51 rfl (lv_at hl 2 rfl) ?_
  obtain ⟨g1, hf⟩ := hf
  refine g_iald K hM 51 rfl rfl rfl g1 dX2_things_52 ?_
  refine lv_bipush (v := 51) hx hb dX2_things_53 rfl ?_
  refine lv_icmp_ne (tgt := 66) hx hb dX2_things_55 (by decide) (fun b2 => ?_) (fun b2 => ?_)
  · replace hf := hf.2 b2
    exact w_X2_things_66 K hr _ _ _ _ _ hf _ _ _ hM (lv_sub hl [1, 2, 3, 4, 0] rfl)
  · replace hf := hf.1 b2
    refine lv_iload_n hx hb dX2_things_58 rfl (lv_at hl 3 rfl) ?_
    refine lv_if_lt (tgt := 66) hx hb dX2_things_59 (by decide) (fun b3 => ?_) (fun b3 => ?_)
    · replace hf := hf.1 b3
      exact w_X2_things_66 K hr _ _ _ _ _ hf _ _ _ hM (lv_sub hl [1, 2, 3, 4, 0] rfl)
    · replace hf := hf.2 b3
      refine lv_iconst (v := 1) hx hb dX2_things_62 rfl ?_
      refine lv_goto (tgt := 67) hx hb dX2_things_63 (by decide) ?_
      exact w_X2_things_67 K hr _ _ _ _ _ _ hf _ _ _ hM (lv_sub hl [1, 2, 3, 4, 0] rfl)
theorem c_X2_things (l : Launch) (r : GR) (A : Nat → Prop) (σ : GS) (x1 : Int32) (x2 : Int32) (x3 : Int32) (P : GS → Int32 → Prop) (hf : f_X2_things σ x1 x2 x3 P) : gMet dM l yX2_things cX2_things 7 (some .int) 2 46 0 0 r A σ [.ref r.2.1, .int x1, .int x2, .int x3] (zI P) := by
  refine g_enter (lv := [(0, .ref r.2.1), (1, .int x1), (2, .int x2), (3, .int x3)]) (by decide) (Nat.le_of_ble_eq_true rfl) rfl ?_
  intro p e s m below meth c ls K hr hM hl _
  obtain ⟨hx, hb, hml, hown, hts, hlk, hKK, hA⟩ := id K
  unfold f_X2_things at hf
  refine lv_iload_n hx hb dX2_things_0 rfl (lv_at hl 1 rfl) ?_
  refine g_cSi [.int x1] [] K hM hl (c_X2_isShelf l r A _ _ _ hf) q1648 q1649 q84 q1650 hdX2_isShelf ⟨Nat.le_of_ble_eq_true rfl, Nat.le_of_ble_eq_true rfl⟩ ⟨Nat.le_refl _, Nat.le_refl _⟩ rfl (Nat.le_of_ble_eq_true rfl) dX2_things_1 (fun σ1 v2 H locs hf hM => ?_)
  refine lv_if_eq (tgt := 19) hx hb dX2_things_4 (by decide) (fun b3 => ?_) (fun b3 => ?_)
  · replace hf := hf.1 b3
    refine lv_iconst (v := -1) hx hb dX2_things_19 rfl ?_
    exact g_reti K hr hM ⟨Nat.le_refl _, Nat.le_refl _⟩ hf dX2_things_20
  · replace hf := hf.2 b3
    refine lv_iload_n hx hb dX2_things_7 rfl (lv_at hl 3 rfl) ?_
    refine lv_i2l hx hb dX2_things_8 rfl ?_
    refine lv_lconst (v := 1) hx hb dX2_things_9 rfl ?_
    refine lv_ldc2 hx hb hown (hts _ q1652) dX2_things_10 ?_
    refine g_cSi [.long x3.toInt64, .long (1 : Int64), .long (6 : Int64)] [] K hM hl (c_X2_within l r A _ _ _ _ _ hf) q1632 q1633 q84 q1634 hdX2_within ⟨Nat.le_of_ble_eq_true rfl, Nat.le_of_ble_eq_true rfl⟩ ⟨Nat.le_refl _, Nat.le_refl _⟩ rfl (Nat.le_of_ble_eq_true rfl) dX2_things_13 (fun σ4 v5 H locs hf hM => ?_)
    refine lv_if_ne (tgt := 21) hx hb dX2_things_16 (by decide) (fun b6 => ?_) (fun b6 => ?_)
    · replace hf := hf.2 b6
      refine lv_aload_n hx hb dX2_things_21 rfl (lv_at hl 0 rfl) ?_
      refine g_geta K kM hM 51 rfl q1504 rfl dX2_things_22 rfl ?_
      refine lv_iload_n hx hb dX2_things_25 rfl (lv_at hl 1 rfl) ?_
      obtain ⟨g7, hf⟩ := hf
      refine g_iald K hM 51 rfl rfl rfl g7 dX2_things_26 ?_
      refine lv_if_lt (tgt := 44) hx hb dX2_things_27 (by decide) (fun b8 => ?_) (fun b8 => ?_)
      · replace hf := hf.1 b8
        exact w_X2_things_44 K hr _ _ _ _ hf _ _ _ hM (lv_sub hl [0, 1, 2, 3] rfl)
      · replace hf := hf.2 b8
        refine lv_aload_n hx hb dX2_things_30 rfl (lv_at hl 0 rfl) ?_
        refine g_geta K kM hM 51 rfl q1504 rfl dX2_things_31 rfl ?_
        refine lv_iload_n hx hb dX2_things_34 rfl (lv_at hl 1 rfl) ?_
        obtain ⟨g9, hf⟩ := hf
        refine g_iald K hM 51 rfl rfl rfl g9 dX2_things_35 ?_
        refine lv_bipush (v := 51) hx hb dX2_things_36 rfl ?_
        refine lv_icmp_eq (tgt := 44) hx hb dX2_things_38 (by decide) (fun b10 => ?_) (fun b10 => ?_)
        · replace hf := hf.1 b10
          exact w_X2_things_44 K hr _ _ _ _ hf _ _ _ hM (lv_sub hl [0, 1, 2, 3] rfl)
        · replace hf := hf.2 b10
          refine lv_bipush (v := -12) hx hb dX2_things_41 rfl ?_
          exact g_reti K hr hM ⟨Nat.le_refl _, Nat.le_refl _⟩ hf dX2_things_43
    · replace hf := hf.1 b6
      refine lv_iconst (v := -1) hx hb dX2_things_19 rfl ?_
      exact g_reti K hr hM ⟨Nat.le_refl _, Nat.le_refl _⟩ hf dX2_things_20
theorem w_X2_becomes_97 {p : Program} {l : Launch} {e : Env} {s : State} {m : MethodId} {args : Array Value} {below : List Frame} {meth : Method} {c : Code} {r : GR} {A : Nat → Prop} {P : GS → Int32 → Prop} (K : gC p s m args meth c cX2_becomes 5 RX2 r A) (hr : meth.sig.returnType = (some .int)) : ∀ (σ : GS) (x1 : Int32) (x2 : Int32) (x3 : Int32), f_X2_becomes_97 P σ x1 x2 x3 → gW dM p l e (gRm 0 0 0 0) s m args below meth c r A (zI P) 0 0 5 97 [(0, .ref r.2.1), (1, .int x1), (2, .int x2), (3, .int x3)] [] 0 0 σ := by
  obtain ⟨hx, hb, hml, hown, hts, hlk, hKK, hA⟩ := id K
  intro σ x1 x2 x3 hf H locs ls hM hl
  unfold f_X2_becomes_97 at hf
  refine lv_aload_n hx hb dX2_becomes_97 rfl (lv_at hl 0 rfl) ?_
  refine g_geta K kM hM 1 rfl q1454 rfl dX2_becomes_98 rfl ?_
  refine lv_aload_n hx hb dX2_becomes_101 rfl (lv_at hl 0 rfl) ?_
  refine g_geti K kM hM 5 rfl q1458 rfl dX2_becomes_102 rfl ?_
  refine lv_iload_n hx hb dX2_becomes_105 rfl (lv_at hl 1 rfl) ?_
  obtain ⟨g1, hf⟩ := hf
  refine g_iastN K hM 1 rfl rfl rfl g1 dX2_becomes_106 (fun H locs σ2 hσ2 hM => ?_)
  have hf := hf σ2 hσ2
  refine lv_aload_n hx hb dX2_becomes_107 rfl (lv_at hl 0 rfl) ?_
  refine g_geta K kM hM 2 rfl q1455 rfl dX2_becomes_108 rfl ?_
  refine lv_aload_n hx hb dX2_becomes_111 rfl (lv_at hl 0 rfl) ?_
  refine g_geti K kM hM 5 rfl q1458 rfl dX2_becomes_112 rfl ?_
  refine lv_iload_n hx hb dX2_becomes_115 rfl (lv_at hl 3 rfl) ?_
  obtain ⟨g3, hf⟩ := hf
  refine g_iastN K hM 2 rfl rfl rfl g3 dX2_becomes_116 (fun H locs σ4 hσ4 hM => ?_)
  have hf := hf σ4 hσ4
  refine lv_aload_n hx hb dX2_becomes_117 rfl (lv_at hl 0 rfl) ?_
  refine g_geta K kM hM 3 rfl q1456 rfl dX2_becomes_118 rfl ?_
  refine lv_aload_n hx hb dX2_becomes_121 rfl (lv_at hl 0 rfl) ?_
  refine g_geti K kM hM 5 rfl q1458 rfl dX2_becomes_122 rfl ?_
  refine lv_iload_n hx hb dX2_becomes_125 rfl (lv_at hl 2 rfl) ?_
  obtain ⟨g5, hf⟩ := hf
  refine g_iastN K hM 3 rfl rfl rfl g5 dX2_becomes_126 (fun H locs σ6 hσ6 hM => ?_)
  have hf := hf σ6 hσ6
  refine lv_aload_n hx hb dX2_becomes_127 rfl (lv_at hl 0 rfl) ?_
  refine lv_dup hx hb dX2_becomes_128 rfl ?_
  refine g_geti K kM hM 5 rfl q1458 rfl dX2_becomes_129 rfl ?_
  refine lv_iconst (v := 1) hx hb dX2_becomes_132 rfl ?_
  refine lv_iadd hx hb dX2_becomes_133 ?_
  refine g_putiN K kM hM 5 rfl q1458 rfl dX2_becomes_134 rfl rfl rfl (fun H locs σ7 hσ7 hM => ?_)
  have hf := hf σ7 hσ7
  refine lv_aload_n hx hb dX2_becomes_137 rfl (lv_at hl 0 rfl) ?_
  refine lv_aload_n hx hb dX2_becomes_138 rfl (lv_at hl 0 rfl) ?_
  refine g_geti K kM hM 5 rfl q1458 rfl dX2_becomes_139 rfl ?_
  refine g_putiN K kM hM 4 rfl q1457 rfl dX2_becomes_142 rfl rfl rfl (fun H locs σ8 hσ8 hM => ?_)
  have hf := hf σ8 hσ8
  refine lv_aload_n hx hb dX2_becomes_145 rfl (lv_at hl 0 rfl) ?_
  refine g_geta K kM hM 0 rfl q1453 rfl dX2_becomes_146 rfl ?_
  refine lv_iload_n hx hb dX2_becomes_149 rfl (lv_at hl 1 rfl) ?_
  refine lv_iload_n hx hb dX2_becomes_150 rfl (lv_at hl 2 rfl) ?_
  obtain ⟨g9, hf⟩ := hf
  refine g_iastN K hM 0 rfl rfl rfl g9 dX2_becomes_151 (fun H locs σ10 hσ10 hM => ?_)
  have hf := hf σ10 hσ10
  refine lv_iload_n hx hb dX2_becomes_152 rfl (lv_at hl 3 rfl) ?_
  exact g_reti K hr hM ⟨Nat.le_refl _, Nat.le_refl _⟩ hf dX2_becomes_153
theorem w_X2_becomes_26 {p : Program} {l : Launch} {e : Env} {s : State} {m : MethodId} {args : Array Value} {below : List Frame} {meth : Method} {c : Code} {r : GR} {A : Nat → Prop} {P : GS → Int32 → Prop} (K : gC p s m args meth c cX2_becomes 5 RX2 r A) (hr : meth.sig.returnType = (some .int)) : ∀ (n : Nat) (σ : GS) (x1 : Int32) (x2 : Int32) (x3 : Int32) (x4 : Int32), f_X2_becomes_26 P n σ x1 x2 x3 x4 → gW dM p l e (gRm 0 0 0 0) s m args below meth c r A (zI P) 0 0 5 26 [(0, .ref r.2.1), (1, .int x1), (2, .int x2), (3, .int x3), (4, .int x4)] [] 0 0 σ := by
  obtain ⟨hx, hb, hml, hown, hts, hlk, hKK, hA⟩ := id K
  intro n
  induction n with
  | zero =>
    intro σ x1 x2 x3 x4 hf
    exact absurd hf (fun h => h)
  | succ n ih =>
    intro σ x1 x2 x3 x4 hf H locs ls hM hl
    rw [f_X2_becomes_26] at hf
    refine lv_iload hx hb dX2_becomes_26 (lv_at hl 4 rfl) ?_
    refine lv_bipush (v := 40) hx hb dX2_becomes_28 rfl ?_
    refine lv_icmp_ge (tgt := 87) hx hb dX2_becomes_30 (by decide) (fun b1 => ?_) (fun b1 => ?_)
    · replace hf := hf.1 b1
      refine lv_aload_n hx hb dX2_becomes_87 rfl (lv_at hl 0 rfl) ?_
      refine lv_dup hx hb dX2_becomes_88 rfl ?_
      refine g_geti K kM hM 5 rfl q1458 rfl dX2_becomes_89 rfl ?_
      refine lv_iconst (v := 1) hx hb dX2_becomes_92 rfl ?_
      refine lv_isub hx hb dX2_becomes_93 ?_
      refine g_putiN K kM hM 5 rfl q1458 rfl dX2_becomes_94 rfl rfl rfl (fun H locs σ2 hσ2 hM => ?_)
      have hf := hf σ2 hσ2
      exact w_X2_becomes_97 K hr _ _ _ _ hf _ _ _ hM (lv_sub hl [0, 1, 2, 3] rfl)
    · replace hf := hf.2 b1
      refine lv_aload_n hx hb dX2_becomes_33 rfl (lv_at hl 0 rfl) ?_
      refine g_geta K kM hM 1 rfl q1454 rfl dX2_becomes_34 rfl ?_
      refine lv_iload hx hb dX2_becomes_37 (lv_at hl 4 rfl) ?_
      refine lv_iconst (v := 1) hx hb dX2_becomes_39 rfl ?_
      refine lv_isub hx hb dX2_becomes_40 ?_
      refine lv_aload_n hx hb dX2_becomes_41 rfl (lv_at hl 0 rfl) ?_
      refine g_geta K kM hM 1 rfl q1454 rfl dX2_becomes_42 rfl ?_
      refine lv_iload hx hb dX2_becomes_45 (lv_at hl 4 rfl) ?_
      obtain ⟨g3, hf⟩ := hf
      refine g_iald K hM 1 rfl rfl rfl g3 dX2_becomes_47 ?_
      obtain ⟨g4, hf⟩ := hf
      refine g_iastN K hM 1 rfl rfl rfl g4 dX2_becomes_48 (fun H locs σ5 hσ5 hM => ?_)
      have hf := hf σ5 hσ5
      refine lv_aload_n hx hb dX2_becomes_49 rfl (lv_at hl 0 rfl) ?_
      refine g_geta K kM hM 2 rfl q1455 rfl dX2_becomes_50 rfl ?_
      refine lv_iload hx hb dX2_becomes_53 (lv_at hl 4 rfl) ?_
      refine lv_iconst (v := 1) hx hb dX2_becomes_55 rfl ?_
      refine lv_isub hx hb dX2_becomes_56 ?_
      refine lv_aload_n hx hb dX2_becomes_57 rfl (lv_at hl 0 rfl) ?_
      refine g_geta K kM hM 2 rfl q1455 rfl dX2_becomes_58 rfl ?_
      refine lv_iload hx hb dX2_becomes_61 (lv_at hl 4 rfl) ?_
      obtain ⟨g6, hf⟩ := hf
      refine g_iald K hM 2 rfl rfl rfl g6 dX2_becomes_63 ?_
      obtain ⟨g7, hf⟩ := hf
      refine g_iastN K hM 2 rfl rfl rfl g7 dX2_becomes_64 (fun H locs σ8 hσ8 hM => ?_)
      have hf := hf σ8 hσ8
      refine lv_aload_n hx hb dX2_becomes_65 rfl (lv_at hl 0 rfl) ?_
      refine g_geta K kM hM 3 rfl q1456 rfl dX2_becomes_66 rfl ?_
      refine lv_iload hx hb dX2_becomes_69 (lv_at hl 4 rfl) ?_
      refine lv_iconst (v := 1) hx hb dX2_becomes_71 rfl ?_
      refine lv_isub hx hb dX2_becomes_72 ?_
      refine lv_aload_n hx hb dX2_becomes_73 rfl (lv_at hl 0 rfl) ?_
      refine g_geta K kM hM 3 rfl q1456 rfl dX2_becomes_74 rfl ?_
      refine lv_iload hx hb dX2_becomes_77 (lv_at hl 4 rfl) ?_
      obtain ⟨g9, hf⟩ := hf
      refine g_iald K hM 3 rfl rfl rfl g9 dX2_becomes_79 ?_
      obtain ⟨g10, hf⟩ := hf
      refine g_iastN K hM 3 rfl rfl rfl g10 dX2_becomes_80 (fun H locs σ11 hσ11 hM => ?_)
      have hf := hf σ11 hσ11
      refine lv_iinc (v := x4 + 1) (lv' := [(4, .int (x4 + 1)), (0, .ref r.2.1), (1, .int x1), (2, .int x2), (3, .int x3)]) hx hb dX2_becomes_81 hl (k := 4) rfl rfl (by decide) rfl (fun ls hl => ?_)
      refine lv_goto (tgt := 26) hx hb dX2_becomes_84 (by decide) ?_
      exact ih _ _ _ _ _ hf _ _ _ hM (lv_sub hl [1, 2, 3, 4, 0] rfl)
theorem c_X2_becomes (l : Launch) (r : GR) (A : Nat → Prop) (σ : GS) (x1 : Int32) (x2 : Int32) (P : GS → Int32 → Prop) (hf : f_X2_becomes σ x1 x2 P) : gMet dM l yX2_becomes cX2_becomes 5 (some .int) 0 0 0 0 r A σ [.ref r.2.1, .int x1, .int x2] (zI P) := by
  refine g_enter (lv := [(0, .ref r.2.1), (1, .int x1), (2, .int x2)]) (by decide) (Nat.le_of_ble_eq_true rfl) rfl ?_
  intro p e s m below meth c ls K hr hM hl _
  obtain ⟨hx, hb, hml, hown, hts, hlk, hKK, hA⟩ := id K
  unfold f_X2_becomes at hf
  refine lv_aload_n hx hb dX2_becomes_0 rfl (lv_at hl 0 rfl) ?_
  refine g_geta K kM hM 0 rfl q1453 rfl dX2_becomes_1 rfl ?_
  refine lv_iload_n hx hb dX2_becomes_4 rfl (lv_at hl 1 rfl) ?_
  obtain ⟨g1, hf⟩ := hf
  refine g_iald K hM 0 rfl rfl rfl g1 dX2_becomes_5 ?_
  refine lv_istore_n (lv' := [(3, .int (gA σ 0 x1.toNatClampNeg)), (0, .ref r.2.1), (1, .int x1), (2, .int x2)]) hx hb dX2_becomes_6 rfl hl (by decide) rfl (fun ls hl => ?_)
  refine lv_iload_n hx hb dX2_becomes_7 rfl (lv_at hl 0 rfl) ?_
  refine lv_iload_n hx hb dX2_becomes_8 rfl (lv_at hl 3 rfl) ?_
  refine lv_icmp_ne (tgt := 14) hx hb dX2_becomes_9 (by decide) (fun b2 => ?_) (fun b2 => ?_)
  · replace hf := hf.2 b2
    refine lv_aload_n hx hb dX2_becomes_14 rfl (lv_at hl 1 rfl) ?_
    refine g_geti K kM hM 5 rfl q1458 rfl dX2_becomes_15 rfl ?_
    refine lv_bipush (v := 40) hx hb dX2_becomes_18 rfl ?_
    refine lv_icmp_ne (tgt := 97) hx hb dX2_becomes_20 (by decide) (fun b3 => ?_) (fun b3 => ?_)
    · replace hf := hf.2 b3
      exact w_X2_becomes_97 K hr _ _ _ _ hf _ _ _ hM (lv_sub hl [1, 2, 3, 0] rfl)
    · replace hf := hf.1 b3
      refine lv_iconst (v := 1) hx hb dX2_becomes_23 rfl ?_
      refine lv_istore (lv' := [(4, .int (1 : Int32)), (3, .int (gA σ 0 x1.toNatClampNeg)), (0, .ref r.2.1), (1, .int x1), (2, .int x2)]) hx hb dX2_becomes_24 hl (by decide) rfl (fun ls hl => ?_)
      obtain ⟨n_, hf⟩ := hf
      exact w_X2_becomes_26 K hr n_ _ _ _ _ _ hf _ _ _ hM (lv_sub hl [2, 3, 4, 1, 0] rfl)
  · replace hf := hf.1 b2
    refine lv_iload_n hx hb dX2_becomes_12 rfl (lv_at hl 0 rfl) ?_
    exact g_reti K hr hM ⟨Nat.le_refl _, Nat.le_refl _⟩ hf dX2_becomes_13
theorem c_X2_isThing (l : Launch) (r : GR) (A : Nat → Prop) (σ : GS) (x1 : Int32) (P : GS → Int32 → Prop) (hf : f_X2_isThing σ x1 P) : gMet dM l yX2_isThing cX2_isThing 2 (some .boolean) 1 25 0 0 r A σ [.ref r.2.1, .int x1] (zI P) := by
  refine g_enter (lv := [(0, .ref r.2.1), (1, .int x1)]) (by decide) (Nat.le_of_ble_eq_true rfl) rfl ?_
  intro p e s m below meth c ls K hr hM hl _
  obtain ⟨hx, hb, hml, hown, hts, hlk, hKK, hA⟩ := id K
  unfold f_X2_isThing at hf
  refine lv_iload_n hx hb dX2_isThing_0 rfl (lv_at hl 1 rfl) ?_
  refine lv_i2l hx hb dX2_isThing_1 rfl ?_
  refine lv_lconst (v := 0) hx hb dX2_isThing_2 rfl ?_
  refine lv_aload_n hx hb dX2_isThing_3 rfl (lv_at hl 0 rfl) ?_
  refine g_geti K kM hM 6 rfl q1459 rfl dX2_isThing_4 rfl ?_
  refine lv_iconst (v := 1) hx hb dX2_isThing_7 rfl ?_
  refine lv_isub hx hb dX2_isThing_8 ?_
  refine lv_i2l hx hb dX2_isThing_9 rfl ?_
  refine g_cSi [.long x1.toInt64, .long (0 : Int64), .long (((gI σ 6) - (1 : Int32)).toInt64)] [] K hM hl (c_X2_within l r A _ _ _ _ _ hf) q1632 q1633 q84 q1634 hdX2_within ⟨Nat.le_of_ble_eq_true rfl, Nat.le_of_ble_eq_true rfl⟩ ⟨Nat.le_refl _, Nat.le_refl _⟩ rfl (Nat.le_of_ble_eq_true rfl) dX2_isThing_10 (fun σ1 v2 H locs hf hM => ?_)
  obtain ⟨g3, hf⟩ := hf
  exact g_retz K hr hM ⟨Nat.le_refl _, Nat.le_refl _⟩ g3 hf dX2_isThing_13
theorem w_X2_mend_36 {p : Program} {l : Launch} {e : Env} {s : State} {m : MethodId} {args : Array Value} {below : List Frame} {meth : Method} {c : Code} {r : GR} {A : Nat → Prop} {P : GS → Int32 → Prop} (K : gC p s m args meth c cX2_mend 4 RX2 r A) (hr : meth.sig.returnType = (some .int)) : ∀ (σ : GS) (x1 : Int32) (x2 : Int32) (x3 : Int32) (t2 : Int64) (t1 : Int64) (t0 : Int64), f_X2_mend_36 P σ x1 x2 x3 t2 t1 t0 → gW dM p l e (gRm 2 46 0 0) s m args below meth c r A (zI P) 0 0 4 36 [(0, .ref r.2.1), (1, .int x1), (2, .int x2), (3, .int x3)] [.long t2, .long t1, .long t0] 0 0 σ := by
  obtain ⟨hx, hb, hml, hown, hts, hlk, hKK, hA⟩ := id K
  intro σ x1 x2 x3 t2 t1 t0 hf H locs ls hM hl
  unfold f_X2_mend_36 at hf
  refine g_cSi [.long t0, .long t1, .long t2] [] K hM hl (c_X2_within l r A _ _ _ _ _ hf) q1632 q1633 q84 q1634 hdX2_within ⟨Nat.le_of_ble_eq_true rfl, Nat.le_of_ble_eq_true rfl⟩ ⟨Nat.le_refl _, Nat.le_refl _⟩ rfl (Nat.le_of_ble_eq_true rfl) dX2_mend_36 (fun σ1 v2 H locs hf hM => ?_)
  refine lv_if_eq (tgt := 56) hx hb dX2_mend_39 (by decide) (fun b3 => ?_) (fun b3 => ?_)
  · replace hf := hf.1 b3
    refine lv_iconst (v := -1) hx hb dX2_mend_56 rfl ?_
    exact g_reti K hr hM ⟨Nat.le_refl _, Nat.le_refl _⟩ hf dX2_mend_57
  · replace hf := hf.2 b3
    refine lv_aload_n hx hb dX2_mend_42 rfl (lv_at hl 0 rfl) ?_
    refine lv_bipush (v := 6) hx hb dX2_mend_43 rfl ?_
    refine lv_iload_n hx hb dX2_mend_45 rfl (lv_at hl 2 rfl) ?_
    refine lv_imul hx hb dX2_mend_46 ?_
    refine lv_iload_n hx hb dX2_mend_47 rfl (lv_at hl 1 rfl) ?_
    refine lv_iadd hx hb dX2_mend_48 ?_
    refine lv_iload_n hx hb dX2_mend_49 rfl (lv_at hl 3 rfl) ?_
    refine g_cVi [.int (((6 : Int32) * x2) + x1), .int x3] [] K kM hM hl (c_X2_becomes l r A _ _ _ _ hf) q1662 q1664 qs42 q84 q1665 hdX2_becomes ⟨Nat.le_of_ble_eq_true rfl, Nat.le_of_ble_eq_true rfl⟩ ⟨Nat.le_refl _, Nat.le_refl _⟩ rfl (Nat.le_of_ble_eq_true rfl) dX2_mend_50 (fun σ4 v5 H locs hf hM => ?_)
    refine lv_goto (tgt := 57) hx hb dX2_mend_53 (by decide) ?_
    exact g_reti K hr hM ⟨Nat.le_refl _, Nat.le_refl _⟩ hf dX2_mend_57
theorem c_X2_mend (l : Launch) (r : GR) (A : Nat → Prop) (σ : GS) (x1 : Int32) (x2 : Int32) (x3 : Int32) (P : GS → Int32 → Prop) (hf : f_X2_mend σ x1 x2 x3 P) : gMet dM l yX2_mend cX2_mend 4 (some .int) 2 46 0 0 r A σ [.ref r.2.1, .int x1, .int x2, .int x3] (zI P) := by
  refine g_enter (lv := [(0, .ref r.2.1), (1, .int x1), (2, .int x2), (3, .int x3)]) (by decide) (Nat.le_of_ble_eq_true rfl) rfl ?_
  intro p e s m below meth c ls K hr hM hl _
  obtain ⟨hx, hb, hml, hown, hts, hlk, hKK, hA⟩ := id K
  unfold f_X2_mend at hf
  refine lv_aload_n hx hb dX2_mend_0 rfl (lv_at hl 0 rfl) ?_
  refine lv_iload_n hx hb dX2_mend_1 rfl (lv_at hl 1 rfl) ?_
  refine g_cVi [.int x1] [] K kM hM hl (c_X2_isThing l r A _ _ _ hf) q1657 q1659 qs41 q84 q1660 hdX2_isThing ⟨Nat.le_of_ble_eq_true rfl, Nat.le_of_ble_eq_true rfl⟩ ⟨Nat.le_refl _, Nat.le_refl _⟩ rfl (Nat.le_of_ble_eq_true rfl) dX2_mend_2 (fun σ1 v2 H locs hf hM => ?_)
  refine lv_if_eq (tgt := 56) hx hb dX2_mend_5 (by decide) (fun b3 => ?_) (fun b3 => ?_)
  · replace hf := hf.1 b3
    refine lv_iconst (v := -1) hx hb dX2_mend_56 rfl ?_
    exact g_reti K hr hM ⟨Nat.le_refl _, Nat.le_refl _⟩ hf dX2_mend_57
  · replace hf := hf.2 b3
    refine lv_iload_n hx hb dX2_mend_8 rfl (lv_at hl 2 rfl) ?_
    refine lv_i2l hx hb dX2_mend_9 rfl ?_
    refine lv_lconst (v := 0) hx hb dX2_mend_10 rfl ?_
    refine lv_ldc2 hx hb hown (hts _ q1661) dX2_mend_11 ?_
    refine g_cSi [.long x2.toInt64, .long (0 : Int64), .long (2 : Int64)] [] K hM hl (c_X2_within l r A _ _ _ _ _ hf) q1632 q1633 q84 q1634 hdX2_within ⟨Nat.le_of_ble_eq_true rfl, Nat.le_of_ble_eq_true rfl⟩ ⟨Nat.le_refl _, Nat.le_refl _⟩ rfl (Nat.le_of_ble_eq_true rfl) dX2_mend_14 (fun σ4 v5 H locs hf hM => ?_)
    refine lv_if_eq (tgt := 56) hx hb dX2_mend_17 (by decide) (fun b6 => ?_) (fun b6 => ?_)
    · replace hf := hf.1 b6
      refine lv_iconst (v := -1) hx hb dX2_mend_56 rfl ?_
      exact g_reti K hr hM ⟨Nat.le_refl _, Nat.le_refl _⟩ hf dX2_mend_57
    · replace hf := hf.2 b6
      refine lv_iload_n hx hb dX2_mend_20 rfl (lv_at hl 3 rfl) ?_
      refine lv_i2l hx hb dX2_mend_21 rfl ?_
      refine lv_lconst (v := 0) hx hb dX2_mend_22 rfl ?_
      refine lv_iload_n hx hb dX2_mend_23 rfl (lv_at hl 2 rfl) ?_
      refine lv_if_ne (tgt := 33) hx hb dX2_mend_24 (by decide) (fun b7 => ?_) (fun b7 => ?_)
      · replace hf := hf.2 b7
        refine lv_ldc2 hx hb hown (hts _ q1639) dX2_mend_33 ?_
        exact w_X2_mend_36 K hr _ _ _ _ _ _ _ hf _ _ _ hM (lv_sub hl [0, 1, 2, 3] rfl)
      · replace hf := hf.1 b7
        refine lv_ldc2 hx hb hown (hts _ q1631) dX2_mend_27 ?_
        refine lv_goto (tgt := 36) hx hb dX2_mend_30 (by decide) ?_
        exact w_X2_mend_36 K hr _ _ _ _ _ _ _ hf _ _ _ hM (lv_sub hl [0, 1, 2, 3] rfl)
theorem c_X2_sort (l : Launch) (r : GR) (A : Nat → Prop) (σ : GS) (x1 : Int32) (x2 : Int32) (x3 : Int32) (P : GS → Int32 → Prop) (hf : f_X2_sort σ x1 x2 x3 P) : gMet dM l yX2_sort cX2_sort 4 (some .int) 1 25 0 0 r A σ [.ref r.2.1, .int x1, .int x2, .int x3] (zI P) := by
  refine g_enter (lv := [(0, .ref r.2.1), (1, .int x1), (2, .int x2), (3, .int x3)]) (by decide) (Nat.le_of_ble_eq_true rfl) rfl ?_
  intro p e s m below meth c ls K hr hM hl _
  obtain ⟨hx, hb, hml, hown, hts, hlk, hKK, hA⟩ := id K
  unfold f_X2_sort at hf
  refine lv_iload_n hx hb dX2_sort_0 rfl (lv_at hl 1 rfl) ?_
  refine lv_i2l hx hb dX2_sort_1 rfl ?_
  refine lv_lconst (v := 1) hx hb dX2_sort_2 rfl ?_
  refine lv_ldc2 hx hb hown (hts _ q1639) dX2_sort_3 ?_
  refine g_cSi [.long x1.toInt64, .long (1 : Int64), .long (99 : Int64)] [] K hM hl (c_X2_within l r A _ _ _ _ _ hf) q1632 q1633 q84 q1634 hdX2_within ⟨Nat.le_of_ble_eq_true rfl, Nat.le_of_ble_eq_true rfl⟩ ⟨Nat.le_refl _, Nat.le_refl _⟩ rfl (Nat.le_of_ble_eq_true rfl) dX2_sort_6 (fun σ1 v2 H locs hf hM => ?_)
  refine lv_if_eq (tgt := 47) hx hb dX2_sort_9 (by decide) (fun b3 => ?_) (fun b3 => ?_)
  · replace hf := hf.1 b3
    refine lv_iconst (v := -1) hx hb dX2_sort_47 rfl ?_
    exact g_reti K hr hM ⟨Nat.le_refl _, Nat.le_refl _⟩ hf dX2_sort_48
  · replace hf := hf.2 b3
    refine lv_iload_n hx hb dX2_sort_12 rfl (lv_at hl 2 rfl) ?_
    refine lv_i2l hx hb dX2_sort_13 rfl ?_
    refine lv_lconst (v := 0) hx hb dX2_sort_14 rfl ?_
    refine lv_ldc2 hx hb hown (hts _ q1635) dX2_sort_15 ?_
    refine g_cSi [.long x2.toInt64, .long (0 : Int64), .long (9999 : Int64)] [] K hM hl (c_X2_within l r A _ _ _ _ _ hf) q1632 q1633 q84 q1634 hdX2_within ⟨Nat.le_of_ble_eq_true rfl, Nat.le_of_ble_eq_true rfl⟩ ⟨Nat.le_refl _, Nat.le_refl _⟩ rfl (Nat.le_of_ble_eq_true rfl) dX2_sort_18 (fun σ4 v5 H locs hf hM => ?_)
    refine lv_if_eq (tgt := 47) hx hb dX2_sort_21 (by decide) (fun b6 => ?_) (fun b6 => ?_)
    · replace hf := hf.1 b6
      refine lv_iconst (v := -1) hx hb dX2_sort_47 rfl ?_
      exact g_reti K hr hM ⟨Nat.le_refl _, Nat.le_refl _⟩ hf dX2_sort_48
    · replace hf := hf.2 b6
      refine lv_iload_n hx hb dX2_sort_24 rfl (lv_at hl 3 rfl) ?_
      refine lv_if_lt (tgt := 47) hx hb dX2_sort_25 (by decide) (fun b7 => ?_) (fun b7 => ?_)
      · replace hf := hf.1 b7
        refine lv_iconst (v := -1) hx hb dX2_sort_47 rfl ?_
        exact g_reti K hr hM ⟨Nat.le_refl _, Nat.le_refl _⟩ hf dX2_sort_48
      · replace hf := hf.2 b7
        refine lv_iload_n hx hb dX2_sort_28 rfl (lv_at hl 3 rfl) ?_
        refine lv_bipush (v := 10) hx hb dX2_sort_29 rfl ?_
        refine lv_idiv hx hb dX2_sort_31 (by decide) ?_
        refine lv_iconst (v := 3) hx hb dX2_sort_32 rfl ?_
        refine lv_icmp_gt (tgt := 47) hx hb dX2_sort_33 (by decide) (fun b8 => ?_) (fun b8 => ?_)
        · replace hf := hf.1 b8
          refine lv_iconst (v := -1) hx hb dX2_sort_47 rfl ?_
          exact g_reti K hr hM ⟨Nat.le_refl _, Nat.le_refl _⟩ hf dX2_sort_48
        · replace hf := hf.2 b8
          refine lv_iload_n hx hb dX2_sort_36 rfl (lv_at hl 3 rfl) ?_
          refine lv_bipush (v := 10) hx hb dX2_sort_37 rfl ?_
          refine lv_irem hx hb dX2_sort_39 (by decide) ?_
          refine lv_aload_n hx hb dX2_sort_40 rfl (lv_at hl 0 rfl) ?_
          refine g_geti K kM hM 15 rfl q1468 rfl dX2_sort_41 rfl ?_
          refine lv_icmp_lt (tgt := 49) hx hb dX2_sort_44 (by decide) (fun b9 => ?_) (fun b9 => ?_)
          · replace hf := hf.1 b9
            refine lv_aload_n hx hb dX2_sort_49 rfl (lv_at hl 0 rfl) ?_
            refine g_geti K kM hM 8 rfl q1461 rfl dX2_sort_50 rfl ?_
            refine lv_iconst (v := 5) hx hb dX2_sort_53 rfl ?_
            refine lv_icmp_ne (tgt := 60) hx hb dX2_sort_54 (by decide) (fun b10 => ?_) (fun b10 => ?_)
            · replace hf := hf.2 b10
              refine lv_aload_n hx hb dX2_sort_60 rfl (lv_at hl 0 rfl) ?_
              refine g_geta K kM hM 9 rfl q1462 rfl dX2_sort_61 rfl ?_
              refine lv_aload_n hx hb dX2_sort_64 rfl (lv_at hl 0 rfl) ?_
              refine g_geti K kM hM 8 rfl q1461 rfl dX2_sort_65 rfl ?_
              refine lv_iload_n hx hb dX2_sort_68 rfl (lv_at hl 1 rfl) ?_
              obtain ⟨g11, hf⟩ := hf
              refine g_iastN K hM 9 rfl rfl rfl g11 dX2_sort_69 (fun H locs σ12 hσ12 hM => ?_)
              have hf := hf σ12 hσ12
              refine lv_aload_n hx hb dX2_sort_70 rfl (lv_at hl 0 rfl) ?_
              refine g_geta K kM hM 0 rfl q1453 rfl dX2_sort_71 rfl ?_
              refine lv_bipush (v := 18) hx hb dX2_sort_74 rfl ?_
              refine lv_aload_n hx hb dX2_sort_76 rfl (lv_at hl 0 rfl) ?_
              refine g_geti K kM hM 8 rfl q1461 rfl dX2_sort_77 rfl ?_
              refine lv_iadd hx hb dX2_sort_80 ?_
              refine lv_iload_n hx hb dX2_sort_81 rfl (lv_at hl 2 rfl) ?_
              refine lv_bipush (v := 100) hx hb dX2_sort_82 rfl ?_
              refine lv_idiv hx hb dX2_sort_84 (by decide) ?_
              obtain ⟨g13, hf⟩ := hf
              refine g_iastN K hM 0 rfl rfl rfl g13 dX2_sort_85 (fun H locs σ14 hσ14 hM => ?_)
              have hf := hf σ14 hσ14
              refine lv_aload_n hx hb dX2_sort_86 rfl (lv_at hl 0 rfl) ?_
              refine g_geta K kM hM 0 rfl q1453 rfl dX2_sort_87 rfl ?_
              refine lv_bipush (v := 23) hx hb dX2_sort_90 rfl ?_
              refine lv_aload_n hx hb dX2_sort_92 rfl (lv_at hl 0 rfl) ?_
              refine g_geti K kM hM 8 rfl q1461 rfl dX2_sort_93 rfl ?_
              refine lv_iadd hx hb dX2_sort_96 ?_
              refine lv_iload_n hx hb dX2_sort_97 rfl (lv_at hl 2 rfl) ?_
              refine lv_bipush (v := 100) hx hb dX2_sort_98 rfl ?_
              refine lv_irem hx hb dX2_sort_100 (by decide) ?_
              obtain ⟨g15, hf⟩ := hf
              refine g_iastN K hM 0 rfl rfl rfl g15 dX2_sort_101 (fun H locs σ16 hσ16 hM => ?_)
              have hf := hf σ16 hσ16
              refine lv_aload_n hx hb dX2_sort_102 rfl (lv_at hl 0 rfl) ?_
              refine g_geta K kM hM 10 rfl q1463 rfl dX2_sort_103 rfl ?_
              refine lv_aload_n hx hb dX2_sort_106 rfl (lv_at hl 0 rfl) ?_
              refine g_geti K kM hM 8 rfl q1461 rfl dX2_sort_107 rfl ?_
              refine lv_iload_n hx hb dX2_sort_110 rfl (lv_at hl 3 rfl) ?_
              refine lv_bipush (v := 10) hx hb dX2_sort_111 rfl ?_
              refine lv_idiv hx hb dX2_sort_113 (by decide) ?_
              obtain ⟨g17, hf⟩ := hf
              refine g_iastN K hM 10 rfl rfl rfl g17 dX2_sort_114 (fun H locs σ18 hσ18 hM => ?_)
              have hf := hf σ18 hσ18
              refine lv_aload_n hx hb dX2_sort_115 rfl (lv_at hl 0 rfl) ?_
              refine g_geta K kM hM 11 rfl q1464 rfl dX2_sort_116 rfl ?_
              refine lv_aload_n hx hb dX2_sort_119 rfl (lv_at hl 0 rfl) ?_
              refine g_geti K kM hM 8 rfl q1461 rfl dX2_sort_120 rfl ?_
              refine lv_iload_n hx hb dX2_sort_123 rfl (lv_at hl 3 rfl) ?_
              refine lv_bipush (v := 10) hx hb dX2_sort_124 rfl ?_
              refine lv_irem hx hb dX2_sort_126 (by decide) ?_
              obtain ⟨g19, hf⟩ := hf
              refine g_iastN K hM 11 rfl rfl rfl g19 dX2_sort_127 (fun H locs σ20 hσ20 hM => ?_)
              have hf := hf σ20 hσ20
              refine lv_aload_n hx hb dX2_sort_128 rfl (lv_at hl 0 rfl) ?_
              refine g_geta K kM hM 12 rfl q1465 rfl dX2_sort_129 rfl ?_
              refine lv_aload_n hx hb dX2_sort_132 rfl (lv_at hl 0 rfl) ?_
              refine g_geti K kM hM 8 rfl q1461 rfl dX2_sort_133 rfl ?_
              refine lv_iconst (v := 0) hx hb dX2_sort_136 rfl ?_
              obtain ⟨g21, hf⟩ := hf
              refine g_iastN K hM 12 rfl rfl rfl g21 dX2_sort_137 (fun H locs σ22 hσ22 hM => ?_)
              have hf := hf σ22 hσ22
              refine lv_aload_n hx hb dX2_sort_138 rfl (lv_at hl 0 rfl) ?_
              refine lv_dup hx hb dX2_sort_139 rfl ?_
              refine g_geti K kM hM 8 rfl q1461 rfl dX2_sort_140 rfl ?_
              refine lv_iconst (v := 1) hx hb dX2_sort_143 rfl ?_
              refine lv_iadd hx hb dX2_sort_144 ?_
              refine g_putiN K kM hM 8 rfl q1461 rfl dX2_sort_145 rfl rfl rfl (fun H locs σ23 hσ23 hM => ?_)
              have hf := hf σ23 hσ23
              refine lv_aload_n hx hb dX2_sort_148 rfl (lv_at hl 0 rfl) ?_
              refine g_geti K kM hM 8 rfl q1461 rfl dX2_sort_149 rfl ?_
              refine lv_iconst (v := 1) hx hb dX2_sort_152 rfl ?_
              refine lv_isub hx hb dX2_sort_153 ?_
              exact g_reti K hr hM ⟨Nat.le_refl _, Nat.le_refl _⟩ hf dX2_sort_154
            · replace hf := hf.1 b10
              refine lv_bipush (v := -3) hx hb dX2_sort_57 rfl ?_
              exact g_reti K hr hM ⟨Nat.le_refl _, Nat.le_refl _⟩ hf dX2_sort_59
          · replace hf := hf.2 b9
            refine lv_iconst (v := -1) hx hb dX2_sort_47 rfl ?_
            exact g_reti K hr hM ⟨Nat.le_refl _, Nat.le_refl _⟩ hf dX2_sort_48
theorem c_X2_isSort (l : Launch) (r : GR) (A : Nat → Prop) (σ : GS) (x1 : Int32) (P : GS → Int32 → Prop) (hf : f_X2_isSort σ x1 P) : gMet dM l yX2_isSort cX2_isSort 2 (some .boolean) 1 25 0 0 r A σ [.ref r.2.1, .int x1] (zI P) := by
  refine g_enter (lv := [(0, .ref r.2.1), (1, .int x1)]) (by decide) (Nat.le_of_ble_eq_true rfl) rfl ?_
  intro p e s m below meth c ls K hr hM hl _
  obtain ⟨hx, hb, hml, hown, hts, hlk, hKK, hA⟩ := id K
  unfold f_X2_isSort at hf
  refine lv_iload_n hx hb dX2_isSort_0 rfl (lv_at hl 1 rfl) ?_
  refine lv_i2l hx hb dX2_isSort_1 rfl ?_
  refine lv_lconst (v := 0) hx hb dX2_isSort_2 rfl ?_
  refine lv_aload_n hx hb dX2_isSort_3 rfl (lv_at hl 0 rfl) ?_
  refine g_geti K kM hM 8 rfl q1461 rfl dX2_isSort_4 rfl ?_
  refine lv_iconst (v := 1) hx hb dX2_isSort_7 rfl ?_
  refine lv_isub hx hb dX2_isSort_8 ?_
  refine lv_i2l hx hb dX2_isSort_9 rfl ?_
  refine g_cSi [.long x1.toInt64, .long (0 : Int64), .long (((gI σ 8) - (1 : Int32)).toInt64)] [] K hM hl (c_X2_within l r A _ _ _ _ _ hf) q1632 q1633 q84 q1634 hdX2_within ⟨Nat.le_of_ble_eq_true rfl, Nat.le_of_ble_eq_true rfl⟩ ⟨Nat.le_refl _, Nat.le_refl _⟩ rfl (Nat.le_of_ble_eq_true rfl) dX2_isSort_10 (fun σ1 v2 H locs hf hM => ?_)
  obtain ⟨g3, hf⟩ := hf
  exact g_retz K hr hM ⟨Nat.le_refl _, Nat.le_refl _⟩ g3 hf dX2_isSort_13
theorem w_X2_purse_38 {p : Program} {l : Launch} {e : Env} {s : State} {m : MethodId} {args : Array Value} {below : List Frame} {meth : Method} {c : Code} {r : GR} {A : Nat → Prop} {P : GS → Int32 → Prop} (K : gC p s m args meth c cX2_purse 4 RX2 r A) (hr : meth.sig.returnType = (some .int)) : ∀ (σ : GS) (x1 : Int32) (x3 : Int32) (t1 : Int32), f_X2_purse_38 P σ x1 x3 t1 → gW dM p l e (gRm 2 46 0 0) s m args below meth c r A (zI P) 0 0 4 38 [(1, .int x1), (3, .int x3)] [.int t1, .ref r.2.1] 0 0 σ := by
  obtain ⟨hx, hb, hml, hown, hts, hlk, hKK, hA⟩ := id K
  intro σ x1 x3 t1 hf H locs ls hM hl
  unfold f_X2_purse_38 at hf
  refine lv_iload_n hx hb dX2_purse_38 rfl (lv_at hl 0 rfl) ?_
  refine lv_iadd hx hb dX2_purse_39 ?_
  refine lv_iload_n hx hb dX2_purse_40 rfl (lv_at hl 1 rfl) ?_
  refine g_cVi [.int (t1 + x1), .int x3] [] K kM hM hl (c_X2_becomes l r A _ _ _ _ hf) q1662 q1664 qs42 q84 q1665 hdX2_becomes ⟨Nat.le_of_ble_eq_true rfl, Nat.le_of_ble_eq_true rfl⟩ ⟨Nat.le_refl _, Nat.le_refl _⟩ rfl (Nat.le_of_ble_eq_true rfl) dX2_purse_41 (fun σ1 v2 H locs hf hM => ?_)
  refine lv_goto (tgt := 48) hx hb dX2_purse_44 (by decide) ?_
  exact g_reti K hr hM ⟨Nat.le_refl _, Nat.le_refl _⟩ hf dX2_purse_48
theorem c_X2_purse (l : Launch) (r : GR) (A : Nat → Prop) (σ : GS) (x1 : Int32) (x2 : Int32) (x3 : Int32) (P : GS → Int32 → Prop) (hf : f_X2_purse σ x1 x2 x3 P) : gMet dM l yX2_purse cX2_purse 4 (some .int) 2 46 0 0 r A σ [.ref r.2.1, .int x1, .int x2, .int x3] (zI P) := by
  refine g_enter (lv := [(0, .ref r.2.1), (1, .int x1), (2, .int x2), (3, .int x3)]) (by decide) (Nat.le_of_ble_eq_true rfl) rfl ?_
  intro p e s m below meth c ls K hr hM hl _
  obtain ⟨hx, hb, hml, hown, hts, hlk, hKK, hA⟩ := id K
  unfold f_X2_purse at hf
  refine lv_aload_n hx hb dX2_purse_0 rfl (lv_at hl 0 rfl) ?_
  refine lv_iload_n hx hb dX2_purse_1 rfl (lv_at hl 1 rfl) ?_
  refine g_cVi [.int x1] [] K kM hM hl (c_X2_isSort l r A _ _ _ hf) q1674 q1676 qs43 q84 q1677 hdX2_isSort ⟨Nat.le_of_ble_eq_true rfl, Nat.le_of_ble_eq_true rfl⟩ ⟨Nat.le_refl _, Nat.le_refl _⟩ rfl (Nat.le_of_ble_eq_true rfl) dX2_purse_2 (fun σ1 v2 H locs hf hM => ?_)
  refine lv_if_eq (tgt := 47) hx hb dX2_purse_5 (by decide) (fun b3 => ?_) (fun b3 => ?_)
  · replace hf := hf.1 b3
    refine lv_iconst (v := -1) hx hb dX2_purse_47 rfl ?_
    exact g_reti K hr hM ⟨Nat.le_refl _, Nat.le_refl _⟩ hf dX2_purse_48
  · replace hf := hf.2 b3
    refine lv_iload_n hx hb dX2_purse_8 rfl (lv_at hl 2 rfl) ?_
    refine lv_i2l hx hb dX2_purse_9 rfl ?_
    refine lv_lconst (v := 0) hx hb dX2_purse_10 rfl ?_
    refine lv_lconst (v := 1) hx hb dX2_purse_11 rfl ?_
    refine g_cSi [.long x2.toInt64, .long (0 : Int64), .long (1 : Int64)] [] K hM hl (c_X2_within l r A _ _ _ _ _ hf) q1632 q1633 q84 q1634 hdX2_within ⟨Nat.le_of_ble_eq_true rfl, Nat.le_of_ble_eq_true rfl⟩ ⟨Nat.le_refl _, Nat.le_refl _⟩ rfl (Nat.le_of_ble_eq_true rfl) dX2_purse_12 (fun σ4 v5 H locs hf hM => ?_)
    refine lv_if_eq (tgt := 47) hx hb dX2_purse_15 (by decide) (fun b6 => ?_) (fun b6 => ?_)
    · replace hf := hf.1 b6
      refine lv_iconst (v := -1) hx hb dX2_purse_47 rfl ?_
      exact g_reti K hr hM ⟨Nat.le_refl _, Nat.le_refl _⟩ hf dX2_purse_48
    · replace hf := hf.2 b6
      refine lv_iload_n hx hb dX2_purse_18 rfl (lv_at hl 3 rfl) ?_
      refine lv_i2l hx hb dX2_purse_19 rfl ?_
      refine g_cSi [.long x3.toInt64] [] K hM hl (c_X2_isTwo l r A _ _ _ hf) q1636 q1637 q84 q1638 hdX2_isTwo ⟨Nat.le_of_ble_eq_true rfl, Nat.le_of_ble_eq_true rfl⟩ ⟨Nat.le_refl _, Nat.le_refl _⟩ rfl (Nat.le_of_ble_eq_true rfl) dX2_purse_20 (fun σ7 v8 H locs hf hM => ?_)
      refine lv_if_eq (tgt := 47) hx hb dX2_purse_23 (by decide) (fun b9 => ?_) (fun b9 => ?_)
      · replace hf := hf.1 b9
        refine lv_iconst (v := -1) hx hb dX2_purse_47 rfl ?_
        exact g_reti K hr hM ⟨Nat.le_refl _, Nat.le_refl _⟩ hf dX2_purse_48
      · replace hf := hf.2 b9
        refine lv_aload_n hx hb dX2_purse_26 rfl (lv_at hl 0 rfl) ?_
        refine lv_iload_n hx hb dX2_purse_27 rfl (lv_at hl 2 rfl) ?_
        refine lv_if_ne (tgt := 36) hx hb dX2_purse_28 (by decide) (fun b10 => ?_) (fun b10 => ?_)
        · replace hf := hf.2 b10
          refine lv_bipush (v := 23) hx hb dX2_purse_36 rfl ?_
          exact w_X2_purse_38 K hr _ _ _ _ hf _ _ _ hM (lv_sub hl [1, 3] rfl)
        · replace hf := hf.1 b10
          refine lv_bipush (v := 18) hx hb dX2_purse_31 rfl ?_
          refine lv_goto (tgt := 38) hx hb dX2_purse_33 (by decide) ?_
          exact w_X2_purse_38 K hr _ _ _ _ hf _ _ _ hM (lv_sub hl [1, 3] rfl)
theorem c_X2_pointsInAll (l : Launch) (r : GR) (A : Nat → Prop) (σ : GS) (x1 : Int32) (P : GS → Int32 → Prop) (hf : f_X2_pointsInAll σ x1 P) : gMet dM l yX2_pointsInAll cX2_pointsInAll 2 (some .int) 0 0 0 0 r A σ [.ref r.2.1, .int x1] (zI P) := by
  refine g_enter (lv := [(0, .ref r.2.1), (1, .int x1)]) (by decide) (Nat.le_of_ble_eq_true rfl) rfl ?_
  intro p e s m below meth c ls K hr hM hl _
  obtain ⟨hx, hb, hml, hown, hts, hlk, hKK, hA⟩ := id K
  unfold f_X2_pointsInAll at hf
  refine lv_aload_n hx hb dX2_pointsInAll_0 rfl (lv_at hl 0 rfl) ?_
  refine g_geta K kM hM 0 rfl q1453 rfl dX2_pointsInAll_1 rfl ?_
  refine lv_bipush (v := 23) hx hb dX2_pointsInAll_4 rfl ?_
  refine lv_iload_n hx hb dX2_pointsInAll_6 rfl (lv_at hl 1 rfl) ?_
  refine lv_iadd hx hb dX2_pointsInAll_7 ?_
  obtain ⟨g1, hf⟩ := hf
  refine g_iald K hM 0 rfl rfl rfl g1 dX2_pointsInAll_8 ?_
  refine lv_bipush (v := 10) hx hb dX2_pointsInAll_9 rfl ?_
  refine lv_aload_n hx hb dX2_pointsInAll_11 rfl (lv_at hl 0 rfl) ?_
  refine g_geta K kM hM 10 rfl q1463 rfl dX2_pointsInAll_12 rfl ?_
  refine lv_iload_n hx hb dX2_pointsInAll_15 rfl (lv_at hl 1 rfl) ?_
  obtain ⟨g2, hf⟩ := hf
  refine g_iald K hM 10 rfl rfl rfl g2 dX2_pointsInAll_16 ?_
  refine lv_imul hx hb dX2_pointsInAll_17 ?_
  refine lv_iadd hx hb dX2_pointsInAll_18 ?_
  exact g_reti K hr hM ⟨Nat.le_refl _, Nat.le_refl _⟩ hf dX2_pointsInAll_19
theorem c_X2_purseOf (l : Launch) (r : GR) (A : Nat → Prop) (σ : GS) (x1 : Int32) (P : GS → Int32 → Prop) (hf : f_X2_purseOf σ x1 P) : gMet dM l yX2_purseOf cX2_purseOf 2 (some .int) 0 0 0 0 r A σ [.ref r.2.1, .int x1] (zI P) := by
  refine g_enter (lv := [(0, .ref r.2.1), (1, .int x1)]) (by decide) (Nat.le_of_ble_eq_true rfl) rfl ?_
  intro p e s m below meth c ls K hr hM hl _
  obtain ⟨hx, hb, hml, hown, hts, hlk, hKK, hA⟩ := id K
  unfold f_X2_purseOf at hf
  refine lv_aload_n hx hb dX2_purseOf_0 rfl (lv_at hl 0 rfl) ?_
  refine g_geta K kM hM 0 rfl q1453 rfl dX2_purseOf_1 rfl ?_
  refine lv_bipush (v := 18) hx hb dX2_purseOf_4 rfl ?_
  refine lv_iload_n hx hb dX2_purseOf_6 rfl (lv_at hl 1 rfl) ?_
  refine lv_iadd hx hb dX2_purseOf_7 ?_
  obtain ⟨g1, hf⟩ := hf
  refine g_iald K hM 0 rfl rfl rfl g1 dX2_purseOf_8 ?_
  exact g_reti K hr hM ⟨Nat.le_refl _, Nat.le_refl _⟩ hf dX2_purseOf_9
theorem c_X2_of (l : Launch) (r : GR) (A : Nat → Prop) (σ : GS) (x1 : Int32) (x2 : Int32) (P : GS → Int32 → Prop) (hf : f_X2_of σ x1 x2 P) : gMet dM l yX2_of cX2_of 3 (some .int) 2 46 0 0 r A σ [.ref r.2.1, .int x1, .int x2] (zI P) := by
  refine g_enter (lv := [(0, .ref r.2.1), (1, .int x1), (2, .int x2)]) (by decide) (Nat.le_of_ble_eq_true rfl) rfl ?_
  intro p e s m below meth c ls K hr hM hl _
  obtain ⟨hx, hb, hml, hown, hts, hlk, hKK, hA⟩ := id K
  unfold f_X2_of at hf
  refine lv_iload_n hx hb dX2_of_0 rfl (lv_at hl 2 rfl) ?_
  refine lv_i2l hx hb dX2_of_1 rfl ?_
  refine lv_lconst (v := 0) hx hb dX2_of_2 rfl ?_
  refine lv_ldc2 hx hb hown (hts _ q1682) dX2_of_3 ?_
  refine g_cSi [.long x2.toInt64, .long (0 : Int64), .long (3 : Int64)] [] K hM hl (c_X2_within l r A _ _ _ _ _ hf) q1632 q1633 q84 q1634 hdX2_within ⟨Nat.le_of_ble_eq_true rfl, Nat.le_of_ble_eq_true rfl⟩ ⟨Nat.le_refl _, Nat.le_refl _⟩ rfl (Nat.le_of_ble_eq_true rfl) dX2_of_6 (fun σ1 v2 H locs hf hM => ?_)
  refine lv_if_eq (tgt := 50) hx hb dX2_of_9 (by decide) (fun b3 => ?_) (fun b3 => ?_)
  · replace hf := hf.1 b3
    refine lv_aload_n hx hb dX2_of_50 rfl (lv_at hl 0 rfl) ?_
    refine lv_iload_n hx hb dX2_of_51 rfl (lv_at hl 1 rfl) ?_
    refine g_cVi [.int x1] [] K kM hM hl (c_X2_isSort l r A _ _ _ hf) q1674 q1676 qs43 q84 q1677 hdX2_isSort ⟨Nat.le_of_ble_eq_true rfl, Nat.le_of_ble_eq_true rfl⟩ ⟨Nat.le_refl _, Nat.le_refl _⟩ rfl (Nat.le_of_ble_eq_true rfl) dX2_of_52 (fun σ4 v5 H locs hf hM => ?_)
    refine lv_if_ne (tgt := 60) hx hb dX2_of_55 (by decide) (fun b6 => ?_) (fun b6 => ?_)
    · replace hf := hf.2 b6
      refine lv_iload_n hx hb dX2_of_60 rfl (lv_at hl 2 rfl) ?_
      by_cases b14_0 : x2 = (10 : Int32)
      · replace hf := hf.1 b14_0
        refine lv_tableIn (off := 35) (tgt := 96) hx hb dX2_of_61 (by rw [b14_0]; decide) (by rw [b14_0]; decide) (by rw [b14_0]; rfl) (by decide) ?_
        refine lv_aload_n hx hb dX2_of_96 rfl (lv_at hl 0 rfl) ?_
        refine g_geta K kM hM 9 rfl q1462 rfl dX2_of_97 rfl ?_
        refine lv_iload_n hx hb dX2_of_100 rfl (lv_at hl 1 rfl) ?_
        obtain ⟨g7, hf⟩ := hf
        refine g_iald K hM 9 rfl rfl rfl g7 dX2_of_101 ?_
        exact g_reti K hr hM ⟨Nat.le_refl _, Nat.le_refl _⟩ hf dX2_of_102
      replace hf := hf.2 b14_0
      by_cases b14_1 : x2 = (11 : Int32)
      · replace hf := hf.1 b14_1
        refine lv_tableIn (off := 42) (tgt := 103) hx hb dX2_of_61 (by rw [b14_1]; decide) (by rw [b14_1]; decide) (by rw [b14_1]; rfl) (by decide) ?_
        refine lv_aload_n hx hb dX2_of_103 rfl (lv_at hl 0 rfl) ?_
        refine lv_iload_n hx hb dX2_of_104 rfl (lv_at hl 1 rfl) ?_
        refine g_cVi [.int x1] [] K kM hM hl (c_X2_purseOf l r A _ _ _ hf) q1683 q1685 qs44 q84 q1686 hdX2_purseOf ⟨Nat.le_of_ble_eq_true rfl, Nat.le_of_ble_eq_true rfl⟩ ⟨Nat.le_refl _, Nat.le_refl _⟩ rfl (Nat.le_of_ble_eq_true rfl) dX2_of_105 (fun σ8 v9 H locs hf hM => ?_)
        exact g_reti K hr hM ⟨Nat.le_refl _, Nat.le_refl _⟩ hf dX2_of_108
      replace hf := hf.2 b14_1
      by_cases b14_2 : x2 = (12 : Int32)
      · replace hf := hf.1 b14_2
        refine lv_tableIn (off := 48) (tgt := 109) hx hb dX2_of_61 (by rw [b14_2]; decide) (by rw [b14_2]; decide) (by rw [b14_2]; rfl) (by decide) ?_
        refine lv_aload_n hx hb dX2_of_109 rfl (lv_at hl 0 rfl) ?_
        refine lv_iload_n hx hb dX2_of_110 rfl (lv_at hl 1 rfl) ?_
        refine g_cVi [.int x1] [] K kM hM hl (c_X2_pointsInAll l r A _ _ _ hf) q1687 q1689 qs45 q84 q1690 hdX2_pointsInAll ⟨Nat.le_of_ble_eq_true rfl, Nat.le_of_ble_eq_true rfl⟩ ⟨Nat.le_refl _, Nat.le_refl _⟩ rfl (Nat.le_of_ble_eq_true rfl) dX2_of_111 (fun σ10 v11 H locs hf hM => ?_)
        exact g_reti K hr hM ⟨Nat.le_refl _, Nat.le_refl _⟩ hf dX2_of_114
      replace hf := hf.2 b14_2
      by_cases b14_3 : x2 = (13 : Int32)
      · replace hf := hf.1 b14_3
        refine lv_tableIn (off := 54) (tgt := 115) hx hb dX2_of_61 (by rw [b14_3]; decide) (by rw [b14_3]; decide) (by rw [b14_3]; rfl) (by decide) ?_
        refine lv_aload_n hx hb dX2_of_115 rfl (lv_at hl 0 rfl) ?_
        refine g_geta K kM hM 10 rfl q1463 rfl dX2_of_116 rfl ?_
        refine lv_iload_n hx hb dX2_of_119 rfl (lv_at hl 1 rfl) ?_
        obtain ⟨g12, hf⟩ := hf
        refine g_iald K hM 10 rfl rfl rfl g12 dX2_of_120 ?_
        exact g_reti K hr hM ⟨Nat.le_refl _, Nat.le_refl _⟩ hf dX2_of_121
      replace hf := hf.2 b14_3
      by_cases b14_4 : x2 = (14 : Int32)
      · replace hf := hf.1 b14_4
        refine lv_tableIn (off := 61) (tgt := 122) hx hb dX2_of_61 (by rw [b14_4]; decide) (by rw [b14_4]; decide) (by rw [b14_4]; rfl) (by decide) ?_
        refine lv_aload_n hx hb dX2_of_122 rfl (lv_at hl 0 rfl) ?_
        refine g_geta K kM hM 11 rfl q1464 rfl dX2_of_123 rfl ?_
        refine lv_iload_n hx hb dX2_of_126 rfl (lv_at hl 1 rfl) ?_
        obtain ⟨g13, hf⟩ := hf
        refine g_iald K hM 11 rfl rfl rfl g13 dX2_of_127 ?_
        exact g_reti K hr hM ⟨Nat.le_refl _, Nat.le_refl _⟩ hf dX2_of_128
      replace hf := hf.2 b14_4
      refine lv_tableOut (tgt := 129) hx hb dX2_of_61 (by have := lv_neT (a := 10) b14_0 rfl; have := lv_neT (a := 11) b14_1 rfl; have := lv_neT (a := 12) b14_2 rfl; have := lv_neT (a := 13) b14_3 rfl; have := lv_neT (a := 14) b14_4 rfl; omega) (by decide) ?_
      refine lv_iconst (v := -1) hx hb dX2_of_129 rfl ?_
      exact g_reti K hr hM ⟨Nat.le_refl _, Nat.le_refl _⟩ hf dX2_of_130
    · replace hf := hf.1 b6
      refine lv_iconst (v := -1) hx hb dX2_of_58 rfl ?_
      exact g_reti K hr hM ⟨Nat.le_refl _, Nat.le_refl _⟩ hf dX2_of_59
  · replace hf := hf.2 b3
    refine lv_aload_n hx hb dX2_of_12 rfl (lv_at hl 0 rfl) ?_
    refine lv_iload_n hx hb dX2_of_13 rfl (lv_at hl 1 rfl) ?_
    refine g_cVi [.int x1] [] K kM hM hl (c_X2_isThing l r A _ _ _ hf) q1657 q1659 qs41 q84 q1660 hdX2_isThing ⟨Nat.le_of_ble_eq_true rfl, Nat.le_of_ble_eq_true rfl⟩ ⟨Nat.le_refl _, Nat.le_refl _⟩ rfl (Nat.le_of_ble_eq_true rfl) dX2_of_14 (fun σ15 v16 H locs hf hM => ?_)
    refine lv_if_ne (tgt := 24) hx hb dX2_of_17 (by decide) (fun b17 => ?_) (fun b17 => ?_)
    · replace hf := hf.2 b17
      refine lv_iload_n hx hb dX2_of_24 rfl (lv_at hl 2 rfl) ?_
      refine lv_iconst (v := 3) hx hb dX2_of_25 rfl ?_
      refine lv_icmp_ne (tgt := 38) hx hb dX2_of_26 (by decide) (fun b18 => ?_) (fun b18 => ?_)
      · replace hf := hf.2 b18
        refine lv_aload_n hx hb dX2_of_38 rfl (lv_at hl 0 rfl) ?_
        refine g_geta K kM hM 0 rfl q1453 rfl dX2_of_39 rfl ?_
        refine lv_bipush (v := 6) hx hb dX2_of_42 rfl ?_
        refine lv_iload_n hx hb dX2_of_44 rfl (lv_at hl 2 rfl) ?_
        refine lv_imul hx hb dX2_of_45 ?_
        refine lv_iload_n hx hb dX2_of_46 rfl (lv_at hl 1 rfl) ?_
        refine lv_iadd hx hb dX2_of_47 ?_
        obtain ⟨g19, hf⟩ := hf
        refine g_iald K hM 0 rfl rfl rfl g19 dX2_of_48 ?_
        exact g_reti K hr hM ⟨Nat.le_refl _, Nat.le_refl _⟩ hf dX2_of_49
      · replace hf := hf.1 b18
        refine lv_aload_n hx hb dX2_of_29 rfl (lv_at hl 0 rfl) ?_
        refine g_geta K kM hM 7 rfl q1460 rfl dX2_of_30 rfl ?_
        refine lv_iload_n hx hb dX2_of_33 rfl (lv_at hl 1 rfl) ?_
        obtain ⟨g20, hf⟩ := hf
        refine g_iald K hM 7 rfl rfl rfl g20 dX2_of_34 ?_
        refine lv_goto (tgt := 49) hx hb dX2_of_35 (by decide) ?_
        exact g_reti K hr hM ⟨Nat.le_refl _, Nat.le_refl _⟩ hf dX2_of_49
    · replace hf := hf.1 b17
      refine lv_iconst (v := -1) hx hb dX2_of_20 rfl ?_
      refine lv_goto (tgt := 49) hx hb dX2_of_21 (by decide) ?_
      exact g_reti K hr hM ⟨Nat.le_refl _, Nat.le_refl _⟩ hf dX2_of_49
theorem w_X2_feed_30 {p : Program} {l : Launch} {e : Env} {s : State} {m : MethodId} {args : Array Value} {below : List Frame} {meth : Method} {c : Code} {r : GR} {A : Nat → Prop} {P : GS → Int32 → Prop} (K : gC p s m args meth c cX2_feed 4 RX2 r A) (hr : meth.sig.returnType = (some .int)) : ∀ (n : Nat) (σ : GS) (x1 : Int32) (x2 : Int32) (x3 : Int32), f_X2_feed_30 P n σ x1 x2 x3 → gW dM p l e (gRm 1 25 0 0) s m args below meth c r A (zI P) 0 0 4 30 [(0, .ref r.2.1), (1, .int x1), (2, .int x2), (3, .int x3)] [] 0 0 σ := by
  obtain ⟨hx, hb, hml, hown, hts, hlk, hKK, hA⟩ := id K
  intro n
  induction n with
  | zero =>
    intro σ x1 x2 x3 hf
    exact absurd hf (fun h => h)
  | succ n ih =>
    intro σ x1 x2 x3 hf H locs ls hM hl
    rw [f_X2_feed_30] at hf
    refine lv_iload_n hx hb dX2_feed_30 rfl (lv_at hl 3 rfl) ?_
    refine lv_iload_n hx hb dX2_feed_31 rfl (lv_at hl 1 rfl) ?_
    refine lv_icmp_ge (tgt := 70) hx hb dX2_feed_32 (by decide) (fun b1 => ?_) (fun b1 => ?_)
    · replace hf := hf.1 b1
      refine lv_aload_n hx hb dX2_feed_70 rfl (lv_at hl 0 rfl) ?_
      refine g_geti K kM hM 14 rfl q1467 rfl dX2_feed_71 rfl ?_
      exact g_reti K hr hM ⟨Nat.le_refl _, Nat.le_refl _⟩ hf dX2_feed_74
    · replace hf := hf.2 b1
      refine lv_aload_n hx hb dX2_feed_35 rfl (lv_at hl 0 rfl) ?_
      refine g_geta K kM hM 13 rfl q1466 rfl dX2_feed_36 rfl ?_
      refine lv_aload_n hx hb dX2_feed_39 rfl (lv_at hl 0 rfl) ?_
      refine g_geti K kM hM 14 rfl q1467 rfl dX2_feed_40 rfl ?_
      refine lv_iload_n hx hb dX2_feed_43 rfl (lv_at hl 2 rfl) ?_
      refine lv_bipush (v := 8) hx hb dX2_feed_44 rfl ?_
      refine lv_iload_n hx hb dX2_feed_46 rfl (lv_at hl 3 rfl) ?_
      refine lv_imul hx hb dX2_feed_47 ?_
      refine lv_ishr hx hb dX2_feed_48 ?_
      refine lv_sipush (v := 255) hx hb dX2_feed_49 rfl ?_
      refine lv_iand hx hb dX2_feed_52 ?_
      obtain ⟨g2, hf⟩ := hf
      refine g_iastN K hM 13 rfl rfl rfl g2 dX2_feed_53 (fun H locs σ3 hσ3 hM => ?_)
      have hf := hf σ3 hσ3
      refine lv_aload_n hx hb dX2_feed_54 rfl (lv_at hl 0 rfl) ?_
      refine lv_dup hx hb dX2_feed_55 rfl ?_
      refine g_geti K kM hM 14 rfl q1467 rfl dX2_feed_56 rfl ?_
      refine lv_iconst (v := 1) hx hb dX2_feed_59 rfl ?_
      refine lv_iadd hx hb dX2_feed_60 ?_
      refine g_putiN K kM hM 14 rfl q1467 rfl dX2_feed_61 rfl rfl rfl (fun H locs σ4 hσ4 hM => ?_)
      have hf := hf σ4 hσ4
      refine lv_iinc (v := x3 + 1) (lv' := [(3, .int (x3 + 1)), (0, .ref r.2.1), (1, .int x1), (2, .int x2)]) hx hb dX2_feed_64 hl (k := 3) rfl rfl (by decide) rfl (fun ls hl => ?_)
      refine lv_goto (tgt := 30) hx hb dX2_feed_67 (by decide) ?_
      exact ih _ _ _ _ hf _ _ _ hM (lv_sub hl [1, 2, 3, 0] rfl)
theorem c_X2_feed (l : Launch) (r : GR) (A : Nat → Prop) (σ : GS) (x1 : Int32) (x2 : Int32) (P : GS → Int32 → Prop) (hf : f_X2_feed σ x1 x2 P) : gMet dM l yX2_feed cX2_feed 4 (some .int) 1 25 0 0 r A σ [.ref r.2.1, .int x1, .int x2] (zI P) := by
  refine g_enter (lv := [(0, .ref r.2.1), (1, .int x1), (2, .int x2)]) (by decide) (Nat.le_of_ble_eq_true rfl) rfl ?_
  intro p e s m below meth c ls K hr hM hl _
  obtain ⟨hx, hb, hml, hown, hts, hlk, hKK, hA⟩ := id K
  unfold f_X2_feed at hf
  refine lv_iload_n hx hb dX2_feed_0 rfl (lv_at hl 1 rfl) ?_
  refine lv_i2l hx hb dX2_feed_1 rfl ?_
  refine lv_lconst (v := 1) hx hb dX2_feed_2 rfl ?_
  refine lv_ldc2 hx hb hown (hts _ q1695) dX2_feed_3 ?_
  refine g_cSi [.long x1.toInt64, .long (1 : Int64), .long (4 : Int64)] [] K hM hl (c_X2_within l r A _ _ _ _ _ hf) q1632 q1633 q84 q1634 hdX2_within ⟨Nat.le_of_ble_eq_true rfl, Nat.le_of_ble_eq_true rfl⟩ ⟨Nat.le_refl _, Nat.le_refl _⟩ rfl (Nat.le_of_ble_eq_true rfl) dX2_feed_6 (fun σ1 v2 H locs hf hM => ?_)
  refine lv_if_ne (tgt := 14) hx hb dX2_feed_9 (by decide) (fun b3 => ?_) (fun b3 => ?_)
  · replace hf := hf.2 b3
    refine lv_aload_n hx hb dX2_feed_14 rfl (lv_at hl 0 rfl) ?_
    refine g_geti K kM hM 14 rfl q1467 rfl dX2_feed_15 rfl ?_
    refine lv_iload_n hx hb dX2_feed_18 rfl (lv_at hl 1 rfl) ?_
    refine lv_iadd hx hb dX2_feed_19 ?_
    refine lv_bipush (v := 120) hx hb dX2_feed_20 rfl ?_
    refine lv_icmp_le (tgt := 28) hx hb dX2_feed_22 (by decide) (fun b4 => ?_) (fun b4 => ?_)
    · replace hf := hf.1 b4
      refine lv_iconst (v := 0) hx hb dX2_feed_28 rfl ?_
      refine lv_istore_n (lv' := [(3, .int (0 : Int32)), (0, .ref r.2.1), (1, .int x1), (2, .int x2)]) hx hb dX2_feed_29 rfl hl (by decide) rfl (fun ls hl => ?_)
      obtain ⟨n_, hf⟩ := hf
      exact w_X2_feed_30 K hr n_ _ _ _ _ hf _ _ _ hM (lv_sub hl [1, 2, 3, 0] rfl)
    · replace hf := hf.2 b4
      refine lv_bipush (v := -3) hx hb dX2_feed_25 rfl ?_
      exact g_reti K hr hM ⟨Nat.le_refl _, Nat.le_refl _⟩ hf dX2_feed_27
  · replace hf := hf.1 b3
    refine lv_iconst (v := -1) hx hb dX2_feed_12 rfl ?_
    exact g_reti K hr hM ⟨Nat.le_refl _, Nat.le_refl _⟩ hf dX2_feed_13
theorem c_X2_byteAt (l : Launch) (r : GR) (A : Nat → Prop) (σ : GS) (P : GS → Int32 → Prop) (hf : f_X2_byteAt σ P) : gMet dM l yX2_byteAt cX2_byteAt 1 (some .int) 0 0 0 0 r A σ [.ref r.2.1] (zI P) := by
  refine g_enter (lv := [(0, .ref r.2.1)]) (by decide) (Nat.le_of_ble_eq_true rfl) rfl ?_
  intro p e s m below meth c ls K hr hM hl _
  obtain ⟨hx, hb, hml, hown, hts, hlk, hKK, hA⟩ := id K
  unfold f_X2_byteAt at hf
  refine lv_aload_n hx hb dX2_byteAt_0 rfl (lv_at hl 0 rfl) ?_
  refine g_geti K kM hM 19 rfl q1472 rfl dX2_byteAt_1 rfl ?_
  refine lv_aload_n hx hb dX2_byteAt_4 rfl (lv_at hl 0 rfl) ?_
  refine g_geti K kM hM 20 rfl q1473 rfl dX2_byteAt_5 rfl ?_
  refine lv_icmp_ge (tgt := 47) hx hb dX2_byteAt_8 (by decide) (fun b1 => ?_) (fun b1 => ?_)
  · replace hf := hf.1 b1
    refine lv_iconst (v := 0) hx hb dX2_byteAt_47 rfl ?_
    exact g_reti K hr hM ⟨Nat.le_refl _, Nat.le_refl _⟩ hf dX2_byteAt_48
  · replace hf := hf.2 b1
    refine lv_aload_n hx hb dX2_byteAt_11 rfl (lv_at hl 0 rfl) ?_
    refine g_geti K kM hM 18 rfl q1471 rfl dX2_byteAt_12 rfl ?_
    refine lv_if_ge (tgt := 30) hx hb dX2_byteAt_15 (by decide) (fun b2 => ?_) (fun b2 => ?_)
    · replace hf := hf.1 b2
      refine lv_aload_n hx hb dX2_byteAt_30 rfl (lv_at hl 0 rfl) ?_
      refine g_geta K kM hM 16 rfl q1469 rfl dX2_byteAt_31 rfl ?_
      refine lv_aload_n hx hb dX2_byteAt_34 rfl (lv_at hl 0 rfl) ?_
      refine g_geti K kM hM 18 rfl q1471 rfl dX2_byteAt_35 rfl ?_
      refine lv_aload_n hx hb dX2_byteAt_38 rfl (lv_at hl 0 rfl) ?_
      refine g_geti K kM hM 19 rfl q1472 rfl dX2_byteAt_39 rfl ?_
      refine lv_iadd hx hb dX2_byteAt_42 ?_
      obtain ⟨g3, hf⟩ := hf
      refine g_iald K hM 16 rfl rfl rfl g3 dX2_byteAt_43 ?_
      refine lv_goto (tgt := 48) hx hb dX2_byteAt_44 (by decide) ?_
      exact g_reti K hr hM ⟨Nat.le_refl _, Nat.le_refl _⟩ hf dX2_byteAt_48
    · replace hf := hf.2 b2
      refine lv_aload_n hx hb dX2_byteAt_18 rfl (lv_at hl 0 rfl) ?_
      refine g_geta K kM hM 13 rfl q1466 rfl dX2_byteAt_19 rfl ?_
      refine lv_aload_n hx hb dX2_byteAt_22 rfl (lv_at hl 0 rfl) ?_
      refine g_geti K kM hM 19 rfl q1472 rfl dX2_byteAt_23 rfl ?_
      obtain ⟨g4, hf⟩ := hf
      refine g_iald K hM 13 rfl rfl rfl g4 dX2_byteAt_26 ?_
      refine lv_goto (tgt := 48) hx hb dX2_byteAt_27 (by decide) ?_
      exact g_reti K hr hM ⟨Nat.le_refl _, Nat.le_refl _⟩ hf dX2_byteAt_48
theorem w_X2_fails_19 {p : Program} {l : Launch} {e : Env} {s : State} {m : MethodId} {args : Array Value} {below : List Frame} {meth : Method} {c : Code} {r : GR} {A : Nat → Prop} {P : GS → Int32 → Prop} (K : gC p s m args meth c cX2_fails 1 RX2 r A) (hr : meth.sig.returnType = (some .int)) : ∀ (σ : GS) (t1 : Int32), f_X2_fails_19 P σ t1 → gW dM p l e (gRm 0 0 0 0) s m args below meth c r A (zI P) 0 0 1 19 [] [.int t1, .ref r.2.1] 0 0 σ := by
  obtain ⟨hx, hb, hml, hown, hts, hlk, hKK, hA⟩ := id K
  intro σ t1 hf H locs ls hM hl
  unfold f_X2_fails_19 at hf
  refine g_putiN K kM hM 21 rfl q1474 rfl dX2_fails_19 rfl rfl rfl (fun H locs σ1 hσ1 hM => ?_)
  have hf := hf σ1 hσ1
  refine lv_iconst (v := 0) hx hb dX2_fails_22 rfl ?_
  exact g_reti K hr hM ⟨Nat.le_refl _, Nat.le_refl _⟩ hf dX2_fails_23
theorem c_X2_fails (l : Launch) (r : GR) (A : Nat → Prop) (σ : GS) (P : GS → Int32 → Prop) (hf : f_X2_fails σ P) : gMet dM l yX2_fails cX2_fails 1 (some .int) 0 0 0 0 r A σ [.ref r.2.1] (zI P) := by
  refine g_enter (lv := [(0, .ref r.2.1)]) (by decide) (Nat.le_of_ble_eq_true rfl) rfl ?_
  intro p e s m below meth c ls K hr hM hl _
  obtain ⟨hx, hb, hml, hown, hts, hlk, hKK, hA⟩ := id K
  unfold f_X2_fails at hf
  refine lv_aload_n hx hb dX2_fails_0 rfl (lv_at hl 0 rfl) ?_
  refine lv_aload_n hx hb dX2_fails_1 rfl (lv_at hl 0 rfl) ?_
  refine g_geti K kM hM 21 rfl q1474 rfl dX2_fails_2 rfl ?_
  refine lv_if_ge (tgt := 15) hx hb dX2_fails_5 (by decide) (fun b1 => ?_) (fun b1 => ?_)
  · replace hf := hf.1 b1
    refine lv_aload_n hx hb dX2_fails_15 rfl (lv_at hl 0 rfl) ?_
    refine g_geti K kM hM 21 rfl q1474 rfl dX2_fails_16 rfl ?_
    exact w_X2_fails_19 K hr _ _ hf _ _ _ hM (lv_sub hl [] rfl)
  · replace hf := hf.2 b1
    refine lv_aload_n hx hb dX2_fails_8 rfl (lv_at hl 0 rfl) ?_
    refine g_geti K kM hM 19 rfl q1472 rfl dX2_fails_9 rfl ?_
    refine lv_goto (tgt := 19) hx hb dX2_fails_12 (by decide) ?_
    exact w_X2_fails_19 K hr _ _ hf _ _ _ hM (lv_sub hl [] rfl)
theorem c_X2_nameOf (l : Launch) (r : GR) (A : Nat → Prop) (σ : GS) (x0 : Int32) (P : GS → Int32 → Prop) (hf : f_X2_nameOf σ x0 P) : gMet dM l yX2_nameOf cX2_nameOf 1 (some .int) 0 0 0 0 r A σ [.int x0] (zI P) := by
  refine g_enter (lv := [(0, .int x0)]) (by decide) (Nat.le_of_ble_eq_true rfl) rfl ?_
  intro p e s m below meth c ls K hr hM hl _
  obtain ⟨hx, hb, hml, hown, hts, hlk, hKK, hA⟩ := id K
  unfold f_X2_nameOf at hf
  refine lv_iload_n hx hb dX2_nameOf_0 rfl (lv_at hl 0 rfl) ?_
  by_cases b1_0 : x0 = (98 : Int32)
  · replace hf := hf.1 b1_0
    refine lv_tableIn (off := 101) (tgt := 102) hx hb dX2_nameOf_1 (by rw [b1_0]; decide) (by rw [b1_0]; decide) (by rw [b1_0]; rfl) (by decide) ?_
    refine lv_iconst (v := 5) hx hb dX2_nameOf_102 rfl ?_
    exact g_reti K hr hM ⟨Nat.le_refl _, Nat.le_refl _⟩ hf dX2_nameOf_103
  replace hf := hf.2 b1_0
  by_cases b1_1 : x0 = (99 : Int32)
  · replace hf := hf.1 b1_1
    refine lv_tableIn (off := 95) (tgt := 96) hx hb dX2_nameOf_1 (by rw [b1_1]; decide) (by rw [b1_1]; decide) (by rw [b1_1]; rfl) (by decide) ?_
    refine lv_iconst (v := 2) hx hb dX2_nameOf_96 rfl ?_
    exact g_reti K hr hM ⟨Nat.le_refl _, Nat.le_refl _⟩ hf dX2_nameOf_97
  replace hf := hf.2 b1_1
  by_cases b1_9 : x0 = (107 : Int32)
  · replace hf := hf.1 b1_9
    refine lv_tableIn (off := 93) (tgt := 94) hx hb dX2_nameOf_1 (by rw [b1_9]; decide) (by rw [b1_9]; decide) (by rw [b1_9]; rfl) (by decide) ?_
    refine lv_iconst (v := 1) hx hb dX2_nameOf_94 rfl ?_
    exact g_reti K hr hM ⟨Nat.le_refl _, Nat.le_refl _⟩ hf dX2_nameOf_95
  replace hf := hf.2 b1_9
  by_cases b1_12 : x0 = (110 : Int32)
  · replace hf := hf.1 b1_12
    refine lv_tableIn (off := 103) (tgt := 104) hx hb dX2_nameOf_1 (by rw [b1_12]; decide) (by rw [b1_12]; decide) (by rw [b1_12]; rfl) (by decide) ?_
    refine lv_bipush (v := 6) hx hb dX2_nameOf_104 rfl ?_
    exact g_reti K hr hM ⟨Nat.le_refl _, Nat.le_refl _⟩ hf dX2_nameOf_106
  replace hf := hf.2 b1_12
  by_cases b1_14 : x0 = (112 : Int32)
  · replace hf := hf.1 b1_14
    refine lv_tableIn (off := 97) (tgt := 98) hx hb dX2_nameOf_1 (by rw [b1_14]; decide) (by rw [b1_14]; decide) (by rw [b1_14]; rfl) (by decide) ?_
    refine lv_iconst (v := 3) hx hb dX2_nameOf_98 rfl ?_
    exact g_reti K hr hM ⟨Nat.le_refl _, Nat.le_refl _⟩ hf dX2_nameOf_99
  replace hf := hf.2 b1_14
  by_cases b1_17 : x0 = (115 : Int32)
  · replace hf := hf.1 b1_17
    refine lv_tableIn (off := 99) (tgt := 100) hx hb dX2_nameOf_1 (by rw [b1_17]; decide) (by rw [b1_17]; decide) (by rw [b1_17]; rfl) (by decide) ?_
    refine lv_iconst (v := 4) hx hb dX2_nameOf_100 rfl ?_
    exact g_reti K hr hM ⟨Nat.le_refl _, Nat.le_refl _⟩ hf dX2_nameOf_101
  replace hf := hf.2 b1_17
  by_cases b1_18 : x0 = (116 : Int32)
  · replace hf := hf.1 b1_18
    refine lv_tableIn (off := 91) (tgt := 92) hx hb dX2_nameOf_1 (by rw [b1_18]; decide) (by rw [b1_18]; decide) (by rw [b1_18]; rfl) (by decide) ?_
    refine lv_iconst (v := 0) hx hb dX2_nameOf_92 rfl ?_
    exact g_reti K hr hM ⟨Nat.le_refl _, Nat.le_refl _⟩ hf dX2_nameOf_93
  replace hf := hf.2 b1_18
  refine g_swD (tgt := 107) hx hb dX2_nameOf_1 (by decide) (by
    have n0_ := lv_neT (a := 98) b1_0 rfl
    have n1_ := lv_neT (a := 99) b1_1 rfl
    have n2_ := lv_neT (a := 107) b1_9 rfl
    have n3_ := lv_neT (a := 110) b1_12 rfl
    have n4_ := lv_neT (a := 112) b1_14 rfl
    have n5_ := lv_neT (a := 115) b1_17 rfl
    have n6_ := lv_neT (a := 116) b1_18 rfl
    generalize x0.toInt = z_ at n0_ n1_ n2_ n3_ n4_ n5_ n6_ ⊢
    by_cases hq_ : z_ < 98 ∨ 116 < z_
    · exact Or.inl hq_
    · right
      have hz_ : z_ = 100 ∨ z_ = 101 ∨ z_ = 102 ∨ z_ = 103 ∨ z_ = 104 ∨ z_ = 105 ∨ z_ = 106 ∨ z_ = 108 ∨ z_ = 109 ∨ z_ = 111 ∨ z_ = 113 ∨ z_ = 114 := by omega
      rcases hz_ with rfl | rfl | rfl | rfl | rfl | rfl | rfl | rfl | rfl | rfl | rfl | rfl <;> rfl) ?_
  refine lv_iconst (v := -1) hx hb dX2_nameOf_107 rfl ?_
  exact g_reti K hr hM ⟨Nat.le_refl _, Nat.le_refl _⟩ hf dX2_nameOf_108
theorem c_X2_takes (l : Launch) (r : GR) (A : Nat → Prop) (σ : GS) (x1 : Int32) (P : GS → Int32 → Prop) (hf : f_X2_takes σ x1 P) : gMet dM l yX2_takes cX2_takes 2 (some .boolean) 1 20 0 0 r A σ [.ref r.2.1, .int x1] (zI P) := by
  refine g_enter (lv := [(0, .ref r.2.1), (1, .int x1)]) (by decide) (Nat.le_of_ble_eq_true rfl) rfl ?_
  intro p e s m below meth c ls K hr hM hl _
  obtain ⟨hx, hb, hml, hown, hts, hlk, hKK, hA⟩ := id K
  unfold f_X2_takes at hf
  refine lv_aload_n hx hb dX2_takes_0 rfl (lv_at hl 0 rfl) ?_
  refine g_geti K kM hM 21 rfl q1474 rfl dX2_takes_1 rfl ?_
  refine lv_if_ge (tgt := 15) hx hb dX2_takes_4 (by decide) (fun b1 => ?_) (fun b1 => ?_)
  · replace hf := hf.1 b1
    refine lv_iconst (v := 0) hx hb dX2_takes_15 rfl ?_
    exact g_retz K hr hM ⟨Nat.le_refl _, Nat.le_refl _⟩ gZ_0 hf dX2_takes_16
  · replace hf := hf.2 b1
    refine lv_aload_n hx hb dX2_takes_7 rfl (lv_at hl 0 rfl) ?_
    refine g_cVi [] [] K kM hM hl (c_X2_byteAt l r A _ _ hf) q1728 q1730 qs53 q84 q1731 hdX2_byteAt ⟨Nat.le_of_ble_eq_true rfl, Nat.le_of_ble_eq_true rfl⟩ ⟨Nat.le_refl _, Nat.le_refl _⟩ rfl (Nat.le_of_ble_eq_true rfl) dX2_takes_8 (fun σ2 v3 H locs hf hM => ?_)
    refine lv_iload_n hx hb dX2_takes_11 rfl (lv_at hl 1 rfl) ?_
    refine lv_icmp_eq (tgt := 17) hx hb dX2_takes_12 (by decide) (fun b4 => ?_) (fun b4 => ?_)
    · replace hf := hf.1 b4
      refine lv_aload_n hx hb dX2_takes_17 rfl (lv_at hl 0 rfl) ?_
      refine lv_dup hx hb dX2_takes_18 rfl ?_
      refine g_geti K kM hM 19 rfl q1472 rfl dX2_takes_19 rfl ?_
      refine lv_iconst (v := 1) hx hb dX2_takes_22 rfl ?_
      refine lv_iadd hx hb dX2_takes_23 ?_
      refine g_putiN K kM hM 19 rfl q1472 rfl dX2_takes_24 rfl rfl rfl (fun H locs σ5 hσ5 hM => ?_)
      have hf := hf σ5 hσ5
      refine lv_iconst (v := 1) hx hb dX2_takes_27 rfl ?_
      exact g_retz K hr hM ⟨Nat.le_refl _, Nat.le_refl _⟩ gZ_1 hf dX2_takes_28
    · replace hf := hf.2 b4
      refine lv_iconst (v := 0) hx hb dX2_takes_15 rfl ?_
      exact g_retz K hr hM ⟨Nat.le_refl _, Nat.le_refl _⟩ gZ_0 hf dX2_takes_16
theorem wo_X2_either_32 {p : Program} {l : Launch} {e : Env} {s : State} {m : MethodId} {args : Array Value} {below : List Frame} {meth : Method} {c : Code} {r : GR} {A : Nat → Prop} {fr lo : Nat} {c_both : GS → (GS → Int32 → Prop) → Prop} {P : GS → Int32 → Prop} {k5 : GS → Int32 → Prop} (K : gC p s m args meth c cX2_either 3 RX2 r A) (hr : meth.sig.returnType = (some .int)) (hB : 2 ≤ fr ∧ 41 ≤ lo) {f_both_ l_both_ : Nat} (H_both : ∀ (σ : GS) (P : GS → Int32 → Prop), c_both σ P → gMet dM l yX2_both cX2_both 3 (some .int) f_both_ l_both_ 0 0 r A σ [.ref r.2.1] (zI P)) (hR_both : f_both_ + 1 ≤ fr ∧ 8 + (3 + 11) + l_both_ ≤ lo) (H5 : ∀ (σ : GS) (x1 : Int32), k5 σ x1 → gW dM p l e (gRm fr lo 0 0) s m args below meth c r A (zI P) 0 0 3 5 [(0, .ref r.2.1), (1, .int x1)] [] 0 0 σ) : ∀ (σ : GS) (t0 : Int32), o_X2_either_32 c_both k5 P σ t0 → gW dM p l e (gRm fr lo 0 0) s m args below meth c r A (zI P) 0 0 3 32 [(0, .ref r.2.1)] [.int t0] 0 0 σ := by
  obtain ⟨hx, hb, hml, hown, hts, hlk, hKK, hA⟩ := id K
  intro σ t0 hf H locs ls hM hl
  unfold o_X2_either_32 at hf
  refine lv_istore_n (lv' := [(1, .int t0), (0, .ref r.2.1)]) hx hb dX2_either_32 rfl hl (by decide) rfl (fun ls hl => ?_)
  refine lv_goto (tgt := 5) hx hb dX2_either_33 (by decide) ?_
  exact H5 _ _ hf _ _ _ hM (lv_sub hl [1, 0] rfl)
theorem wo_X2_either_27 {p : Program} {l : Launch} {e : Env} {s : State} {m : MethodId} {args : Array Value} {below : List Frame} {meth : Method} {c : Code} {r : GR} {A : Nat → Prop} {fr lo : Nat} {c_both : GS → (GS → Int32 → Prop) → Prop} {P : GS → Int32 → Prop} {k5 : GS → Int32 → Prop} (K : gC p s m args meth c cX2_either 3 RX2 r A) (hr : meth.sig.returnType = (some .int)) (hB : 2 ≤ fr ∧ 41 ≤ lo) {f_both_ l_both_ : Nat} (H_both : ∀ (σ : GS) (P : GS → Int32 → Prop), c_both σ P → gMet dM l yX2_both cX2_both 3 (some .int) f_both_ l_both_ 0 0 r A σ [.ref r.2.1] (zI P)) (hR_both : f_both_ + 1 ≤ fr ∧ 8 + (3 + 11) + l_both_ ≤ lo) (H5 : ∀ (σ : GS) (x1 : Int32), k5 σ x1 → gW dM p l e (gRm fr lo 0 0) s m args below meth c r A (zI P) 0 0 3 5 [(0, .ref r.2.1), (1, .int x1)] [] 0 0 σ) : ∀ (σ : GS), o_X2_either_27 c_both k5 P σ → gW dM p l e (gRm fr lo 0 0) s m args below meth c r A (zI P) 0 0 3 27 [(0, .ref r.2.1)] [] 0 0 σ := by
  obtain ⟨hx, hb, hml, hown, hts, hlk, hKK, hA⟩ := id K
  intro σ hf H locs ls hM hl
  unfold o_X2_either_27 at hf
  refine lv_iconst (v := 1) hx hb dX2_either_27 rfl ?_
  refine lv_goto (tgt := 32) hx hb dX2_either_28 (by decide) ?_
  exact wo_X2_either_32 K hr hB H_both hR_both H5 _ _ hf _ _ _ hM (lv_sub hl [0] rfl)
theorem wo_X2_either_5 {p : Program} {l : Launch} {e : Env} {s : State} {m : MethodId} {args : Array Value} {below : List Frame} {meth : Method} {c : Code} {r : GR} {A : Nat → Prop} {fr lo : Nat} {c_both : GS → (GS → Int32 → Prop) → Prop} {P : GS → Int32 → Prop} (K : gC p s m args meth c cX2_either 3 RX2 r A) (hr : meth.sig.returnType = (some .int)) (hB : 2 ≤ fr ∧ 41 ≤ lo) {f_both_ l_both_ : Nat} (H_both : ∀ (σ : GS) (P : GS → Int32 → Prop), c_both σ P → gMet dM l yX2_both cX2_both 3 (some .int) f_both_ l_both_ 0 0 r A σ [.ref r.2.1] (zI P)) (hR_both : f_both_ + 1 ≤ fr ∧ 8 + (3 + 11) + l_both_ ≤ lo) : ∀ (n : Nat) (σ : GS) (x1 : Int32), o_X2_either_5 c_both P n σ x1 → gW dM p l e (gRm fr lo 0 0) s m args below meth c r A (zI P) 0 0 3 5 [(0, .ref r.2.1), (1, .int x1)] [] 0 0 σ := by
  obtain ⟨hx, hb, hml, hown, hts, hlk, hKK, hA⟩ := id K
  intro n
  induction n with
  | zero =>
    intro σ x1 hf
    exact absurd hf (fun h => h)
  | succ n ih =>
    intro σ x1 hf H locs ls hM hl
    rw [o_X2_either_5] at hf
    refine lv_aload_n hx hb dX2_either_5 rfl (lv_at hl 0 rfl) ?_
    refine lv_bipush (v := 124) hx hb dX2_either_6 rfl ?_
    refine g_cVi [.int (124 : Int32)] [] K kM hM hl (c_X2_takes l r A _ _ _ hf) q1736 q1738 qs55 q84 q1739 hdX2_takes ⟨Nat.le_trans (Nat.le_of_ble_eq_true rfl) hB.1, Nat.le_trans (Nat.le_of_ble_eq_true rfl) hB.2⟩ ⟨Nat.le_refl _, Nat.le_refl _⟩ rfl (Nat.le_of_ble_eq_true rfl) dX2_either_8 (fun σ1 v2 H locs hf hM => ?_)
    refine lv_if_eq (tgt := 36) hx hb dX2_either_11 (by decide) (fun b3 => ?_) (fun b3 => ?_)
    · replace hf := hf.1 b3
      refine lv_iload_n hx hb dX2_either_36 rfl (lv_at hl 1 rfl) ?_
      exact g_reti K hr hM ⟨Nat.le_refl _, Nat.le_refl _⟩ hf dX2_either_37
    · replace hf := hf.2 b3
      refine lv_aload_n hx hb dX2_either_14 rfl (lv_at hl 0 rfl) ?_
      refine g_cVi [] [] K kM hM hl (H_both _ _ hf) q1708 q1710 qs48 q84 q1711 hdX2_both ⟨hR_both.1, hR_both.2⟩ ⟨Nat.le_refl _, Nat.le_refl _⟩ rfl (Nat.le_of_ble_eq_true rfl) dX2_either_15 (fun σ4 v5 H locs hf hM => ?_)
      refine lv_istore_n (lv' := [(2, .int v5), (0, .ref r.2.1), (1, .int x1)]) hx hb dX2_either_18 rfl hl (by decide) rfl (fun ls hl => ?_)
      refine lv_iload_n hx hb dX2_either_19 rfl (lv_at hl 2 rfl) ?_
      refine lv_if_ne (tgt := 27) hx hb dX2_either_20 (by decide) (fun b6 => ?_) (fun b6 => ?_)
      · replace hf := hf.2 b6
        exact wo_X2_either_27 K hr hB H_both hR_both ih _ hf _ _ _ hM (lv_sub hl [1] rfl)
      · replace hf := hf.1 b6
        refine lv_iload_n hx hb dX2_either_23 rfl (lv_at hl 0 rfl) ?_
        refine lv_if_eq (tgt := 31) hx hb dX2_either_24 (by decide) (fun b7 => ?_) (fun b7 => ?_)
        · replace hf := hf.1 b7
          refine lv_iconst (v := 0) hx hb dX2_either_31 rfl ?_
          exact wo_X2_either_32 K hr hB H_both hR_both ih _ _ hf _ _ _ hM (lv_sub hl [1] rfl)
        · replace hf := hf.2 b7
          exact wo_X2_either_27 K hr hB H_both hR_both ih _ hf _ _ _ hM (lv_sub hl [1] rfl)
theorem co_X2_either (l : Launch) (r : GR) (A : Nat → Prop) {fr lo : Nat} {c_both : GS → (GS → Int32 → Prop) → Prop} (hB : 2 ≤ fr ∧ 41 ≤ lo) {f_both_ l_both_ : Nat} (H_both : ∀ (σ : GS) (P : GS → Int32 → Prop), c_both σ P → gMet dM l yX2_both cX2_both 3 (some .int) f_both_ l_both_ 0 0 r A σ [.ref r.2.1] (zI P)) (hR_both : f_both_ + 1 ≤ fr ∧ 8 + (3 + 11) + l_both_ ≤ lo) (σ : GS) (P : GS → Int32 → Prop) (hf : o_X2_either c_both σ P) : gMet dM l yX2_either cX2_either 3 (some .int) fr lo 0 0 r A σ [.ref r.2.1] (zI P) := by
  refine g_enter (lv := [(0, .ref r.2.1)]) (by decide) (Nat.le_of_ble_eq_true rfl) rfl ?_
  intro p e s m below meth c ls K hr hM hl _
  obtain ⟨hx, hb, hml, hown, hts, hlk, hKK, hA⟩ := id K
  unfold o_X2_either at hf
  refine lv_aload_n hx hb dX2_either_0 rfl (lv_at hl 0 rfl) ?_
  refine g_cVi [] [] K kM hM hl (H_both _ _ hf) q1708 q1710 qs48 q84 q1711 hdX2_both ⟨hR_both.1, hR_both.2⟩ ⟨Nat.le_refl _, Nat.le_refl _⟩ rfl (Nat.le_of_ble_eq_true rfl) dX2_either_1 (fun σ1 v2 H locs hf hM => ?_)
  refine lv_istore_n (lv' := [(1, .int v2), (0, .ref r.2.1)]) hx hb dX2_either_4 rfl hl (by decide) rfl (fun ls hl => ?_)
  obtain ⟨n_, hf⟩ := hf
  exact wo_X2_either_5 K hr hB H_both hR_both n_ _ _ hf _ _ _ hM (lv_sub hl [1, 0] rfl)
theorem wo_X2_both_32 {p : Program} {l : Launch} {e : Env} {s : State} {m : MethodId} {args : Array Value} {below : List Frame} {meth : Method} {c : Code} {r : GR} {A : Nat → Prop} {fr lo : Nat} {c_compared : GS → (GS → Int32 → Prop) → Prop} {P : GS → Int32 → Prop} {k5 : GS → Int32 → Prop} (K : gC p s m args meth c cX2_both 3 RX2 r A) (hr : meth.sig.returnType = (some .int)) (hB : 2 ≤ fr ∧ 41 ≤ lo) {f_compared_ l_compared_ : Nat} (H_compared : ∀ (σ : GS) (P : GS → Int32 → Prop), c_compared σ P → gMet dM l yX2_compared cX2_compared 4 (some .int) f_compared_ l_compared_ 0 0 r A σ [.ref r.2.1] (zI P)) (hR_compared : f_compared_ + 1 ≤ fr ∧ 8 + (4 + 11) + l_compared_ ≤ lo) (H5 : ∀ (σ : GS) (x1 : Int32), k5 σ x1 → gW dM p l e (gRm fr lo 0 0) s m args below meth c r A (zI P) 0 0 3 5 [(0, .ref r.2.1), (1, .int x1)] [] 0 0 σ) : ∀ (σ : GS) (t0 : Int32), o_X2_both_32 c_compared k5 P σ t0 → gW dM p l e (gRm fr lo 0 0) s m args below meth c r A (zI P) 0 0 3 32 [(0, .ref r.2.1)] [.int t0] 0 0 σ := by
  obtain ⟨hx, hb, hml, hown, hts, hlk, hKK, hA⟩ := id K
  intro σ t0 hf H locs ls hM hl
  unfold o_X2_both_32 at hf
  refine lv_istore_n (lv' := [(1, .int t0), (0, .ref r.2.1)]) hx hb dX2_both_32 rfl hl (by decide) rfl (fun ls hl => ?_)
  refine lv_goto (tgt := 5) hx hb dX2_both_33 (by decide) ?_
  exact H5 _ _ hf _ _ _ hM (lv_sub hl [1, 0] rfl)
theorem wo_X2_both_31 {p : Program} {l : Launch} {e : Env} {s : State} {m : MethodId} {args : Array Value} {below : List Frame} {meth : Method} {c : Code} {r : GR} {A : Nat → Prop} {fr lo : Nat} {c_compared : GS → (GS → Int32 → Prop) → Prop} {P : GS → Int32 → Prop} {k5 : GS → Int32 → Prop} (K : gC p s m args meth c cX2_both 3 RX2 r A) (hr : meth.sig.returnType = (some .int)) (hB : 2 ≤ fr ∧ 41 ≤ lo) {f_compared_ l_compared_ : Nat} (H_compared : ∀ (σ : GS) (P : GS → Int32 → Prop), c_compared σ P → gMet dM l yX2_compared cX2_compared 4 (some .int) f_compared_ l_compared_ 0 0 r A σ [.ref r.2.1] (zI P)) (hR_compared : f_compared_ + 1 ≤ fr ∧ 8 + (4 + 11) + l_compared_ ≤ lo) (H5 : ∀ (σ : GS) (x1 : Int32), k5 σ x1 → gW dM p l e (gRm fr lo 0 0) s m args below meth c r A (zI P) 0 0 3 5 [(0, .ref r.2.1), (1, .int x1)] [] 0 0 σ) : ∀ (σ : GS), o_X2_both_31 c_compared k5 P σ → gW dM p l e (gRm fr lo 0 0) s m args below meth c r A (zI P) 0 0 3 31 [(0, .ref r.2.1)] [] 0 0 σ := by
  obtain ⟨hx, hb, hml, hown, hts, hlk, hKK, hA⟩ := id K
  intro σ hf H locs ls hM hl
  unfold o_X2_both_31 at hf
  refine lv_iconst (v := 0) hx hb dX2_both_31 rfl ?_
  exact wo_X2_both_32 K hr hB H_compared hR_compared H5 _ _ hf _ _ _ hM (lv_sub hl [0] rfl)
theorem wo_X2_both_5 {p : Program} {l : Launch} {e : Env} {s : State} {m : MethodId} {args : Array Value} {below : List Frame} {meth : Method} {c : Code} {r : GR} {A : Nat → Prop} {fr lo : Nat} {c_compared : GS → (GS → Int32 → Prop) → Prop} {P : GS → Int32 → Prop} (K : gC p s m args meth c cX2_both 3 RX2 r A) (hr : meth.sig.returnType = (some .int)) (hB : 2 ≤ fr ∧ 41 ≤ lo) {f_compared_ l_compared_ : Nat} (H_compared : ∀ (σ : GS) (P : GS → Int32 → Prop), c_compared σ P → gMet dM l yX2_compared cX2_compared 4 (some .int) f_compared_ l_compared_ 0 0 r A σ [.ref r.2.1] (zI P)) (hR_compared : f_compared_ + 1 ≤ fr ∧ 8 + (4 + 11) + l_compared_ ≤ lo) : ∀ (n : Nat) (σ : GS) (x1 : Int32), o_X2_both_5 c_compared P n σ x1 → gW dM p l e (gRm fr lo 0 0) s m args below meth c r A (zI P) 0 0 3 5 [(0, .ref r.2.1), (1, .int x1)] [] 0 0 σ := by
  obtain ⟨hx, hb, hml, hown, hts, hlk, hKK, hA⟩ := id K
  intro n
  induction n with
  | zero =>
    intro σ x1 hf
    exact absurd hf (fun h => h)
  | succ n ih =>
    intro σ x1 hf H locs ls hM hl
    rw [o_X2_both_5] at hf
    refine lv_aload_n hx hb dX2_both_5 rfl (lv_at hl 0 rfl) ?_
    refine lv_bipush (v := 38) hx hb dX2_both_6 rfl ?_
    refine g_cVi [.int (38 : Int32)] [] K kM hM hl (c_X2_takes l r A _ _ _ hf) q1736 q1738 qs55 q84 q1739 hdX2_takes ⟨Nat.le_trans (Nat.le_of_ble_eq_true rfl) hB.1, Nat.le_trans (Nat.le_of_ble_eq_true rfl) hB.2⟩ ⟨Nat.le_refl _, Nat.le_refl _⟩ rfl (Nat.le_of_ble_eq_true rfl) dX2_both_8 (fun σ1 v2 H locs hf hM => ?_)
    refine lv_if_eq (tgt := 36) hx hb dX2_both_11 (by decide) (fun b3 => ?_) (fun b3 => ?_)
    · replace hf := hf.1 b3
      refine lv_iload_n hx hb dX2_both_36 rfl (lv_at hl 1 rfl) ?_
      exact g_reti K hr hM ⟨Nat.le_refl _, Nat.le_refl _⟩ hf dX2_both_37
    · replace hf := hf.2 b3
      refine lv_aload_n hx hb dX2_both_14 rfl (lv_at hl 0 rfl) ?_
      refine g_cVi [] [] K kM hM hl (H_compared _ _ hf) q1712 q1714 qs49 q84 q1715 hdX2_compared ⟨hR_compared.1, hR_compared.2⟩ ⟨Nat.le_refl _, Nat.le_refl _⟩ rfl (Nat.le_of_ble_eq_true rfl) dX2_both_15 (fun σ4 v5 H locs hf hM => ?_)
      refine lv_istore_n (lv' := [(2, .int v5), (0, .ref r.2.1), (1, .int x1)]) hx hb dX2_both_18 rfl hl (by decide) rfl (fun ls hl => ?_)
      refine lv_iload_n hx hb dX2_both_19 rfl (lv_at hl 2 rfl) ?_
      refine lv_if_eq (tgt := 31) hx hb dX2_both_20 (by decide) (fun b6 => ?_) (fun b6 => ?_)
      · replace hf := hf.1 b6
        exact wo_X2_both_31 K hr hB H_compared hR_compared ih _ hf _ _ _ hM (lv_sub hl [1] rfl)
      · replace hf := hf.2 b6
        refine lv_iload_n hx hb dX2_both_23 rfl (lv_at hl 0 rfl) ?_
        refine lv_if_eq (tgt := 31) hx hb dX2_both_24 (by decide) (fun b7 => ?_) (fun b7 => ?_)
        · replace hf := hf.1 b7
          exact wo_X2_both_31 K hr hB H_compared hR_compared ih _ hf _ _ _ hM (lv_sub hl [1] rfl)
        · replace hf := hf.2 b7
          refine lv_iconst (v := 1) hx hb dX2_both_27 rfl ?_
          refine lv_goto (tgt := 32) hx hb dX2_both_28 (by decide) ?_
          exact wo_X2_both_32 K hr hB H_compared hR_compared ih _ _ hf _ _ _ hM (lv_sub hl [1] rfl)
theorem co_X2_both (l : Launch) (r : GR) (A : Nat → Prop) {fr lo : Nat} {c_compared : GS → (GS → Int32 → Prop) → Prop} (hB : 2 ≤ fr ∧ 41 ≤ lo) {f_compared_ l_compared_ : Nat} (H_compared : ∀ (σ : GS) (P : GS → Int32 → Prop), c_compared σ P → gMet dM l yX2_compared cX2_compared 4 (some .int) f_compared_ l_compared_ 0 0 r A σ [.ref r.2.1] (zI P)) (hR_compared : f_compared_ + 1 ≤ fr ∧ 8 + (4 + 11) + l_compared_ ≤ lo) (σ : GS) (P : GS → Int32 → Prop) (hf : o_X2_both c_compared σ P) : gMet dM l yX2_both cX2_both 3 (some .int) fr lo 0 0 r A σ [.ref r.2.1] (zI P) := by
  refine g_enter (lv := [(0, .ref r.2.1)]) (by decide) (Nat.le_of_ble_eq_true rfl) rfl ?_
  intro p e s m below meth c ls K hr hM hl _
  obtain ⟨hx, hb, hml, hown, hts, hlk, hKK, hA⟩ := id K
  unfold o_X2_both at hf
  refine lv_aload_n hx hb dX2_both_0 rfl (lv_at hl 0 rfl) ?_
  refine g_cVi [] [] K kM hM hl (H_compared _ _ hf) q1712 q1714 qs49 q84 q1715 hdX2_compared ⟨hR_compared.1, hR_compared.2⟩ ⟨Nat.le_refl _, Nat.le_refl _⟩ rfl (Nat.le_of_ble_eq_true rfl) dX2_both_1 (fun σ1 v2 H locs hf hM => ?_)
  refine lv_istore_n (lv' := [(1, .int v2), (0, .ref r.2.1)]) hx hb dX2_both_4 rfl hl (by decide) rfl (fun ls hl => ?_)
  obtain ⟨n_, hf⟩ := hf
  exact wo_X2_both_5 K hr hB H_compared hR_compared n_ _ _ hf _ _ _ hM (lv_sub hl [1, 0] rfl)
theorem wo_X2_compared_85 {p : Program} {l : Launch} {e : Env} {s : State} {m : MethodId} {args : Array Value} {below : List Frame} {meth : Method} {c : Code} {r : GR} {A : Nat → Prop} {fr lo : Nat} {c_sums : GS → (GS → Int32 → Prop) → Prop} {P : GS → Int32 → Prop} (K : gC p s m args meth c cX2_compared 4 RX2 r A) (hr : meth.sig.returnType = (some .int)) (hB : 1 ≤ fr ∧ 20 ≤ lo) {f_sums_ l_sums_ : Nat} (H_sums : ∀ (σ : GS) (P : GS → Int32 → Prop), c_sums σ P → gMet dM l yX2_sums cX2_sums 4 (some .int) f_sums_ l_sums_ 0 0 r A σ [.ref r.2.1] (zI P)) (hR_sums : f_sums_ + 1 ≤ fr ∧ 8 + (4 + 11) + l_sums_ ≤ lo) : ∀ (σ : GS), o_X2_compared_85 c_sums P σ → gW dM p l e (gRm fr lo 0 0) s m args below meth c r A (zI P) 0 0 4 85 [] [] 0 0 σ := by
  obtain ⟨hx, hb, hml, hown, hts, hlk, hKK, hA⟩ := id K
  intro σ hf H locs ls hM hl
  unfold o_X2_compared_85 at hf
  refine lv_iconst (v := 1) hx hb dX2_compared_85 rfl ?_
  refine lv_goto (tgt := 90) hx hb dX2_compared_86 (by decide) ?_
  exact g_reti K hr hM ⟨Nat.le_refl _, Nat.le_refl _⟩ hf dX2_compared_90
theorem wo_X2_compared_37 {p : Program} {l : Launch} {e : Env} {s : State} {m : MethodId} {args : Array Value} {below : List Frame} {meth : Method} {c : Code} {r : GR} {A : Nat → Prop} {fr lo : Nat} {c_sums : GS → (GS → Int32 → Prop) → Prop} {P : GS → Int32 → Prop} (K : gC p s m args meth c cX2_compared 4 RX2 r A) (hr : meth.sig.returnType = (some .int)) (hB : 1 ≤ fr ∧ 20 ≤ lo) {f_sums_ l_sums_ : Nat} (H_sums : ∀ (σ : GS) (P : GS → Int32 → Prop), c_sums σ P → gMet dM l yX2_sums cX2_sums 4 (some .int) f_sums_ l_sums_ 0 0 r A σ [.ref r.2.1] (zI P)) (hR_sums : f_sums_ + 1 ≤ fr ∧ 8 + (4 + 11) + l_sums_ ≤ lo) : ∀ (σ : GS) (x1 : Int32) (x2 : Int32), o_X2_compared_37 c_sums P σ x1 x2 → gW dM p l e (gRm fr lo 0 0) s m args below meth c r A (zI P) 0 0 4 37 [(0, .ref r.2.1), (1, .int x1), (2, .int x2)] [] 0 0 σ := by
  obtain ⟨hx, hb, hml, hown, hts, hlk, hKK, hA⟩ := id K
  intro σ x1 x2 hf H locs ls hM hl
  unfold o_X2_compared_37 at hf
  refine lv_aload_n hx hb dX2_compared_37 rfl (lv_at hl 0 rfl) ?_
  refine lv_dup hx hb dX2_compared_38 rfl ?_
  refine g_geti K kM hM 19 rfl q1472 rfl dX2_compared_39 rfl ?_
  refine lv_iconst (v := 1) hx hb dX2_compared_42 rfl ?_
  refine lv_iadd hx hb dX2_compared_43 ?_
  refine g_putiN K kM hM 19 rfl q1472 rfl dX2_compared_44 rfl rfl rfl (fun H locs σ1 hσ1 hM => ?_)
  have hf := hf σ1 hσ1
  refine lv_aload_n hx hb dX2_compared_47 rfl (lv_at hl 0 rfl) ?_
  refine g_cVi [] [] K kM hM hl (H_sums _ _ hf) q1716 q1718 qs50 q84 q1719 hdX2_sums ⟨hR_sums.1, hR_sums.2⟩ ⟨Nat.le_refl _, Nat.le_refl _⟩ rfl (Nat.le_of_ble_eq_true rfl) dX2_compared_48 (fun σ2 v3 H locs hf hM => ?_)
  refine lv_istore_n (lv' := [(3, .int v3), (0, .ref r.2.1), (1, .int x1), (2, .int x2)]) hx hb dX2_compared_51 rfl hl (by decide) rfl (fun ls hl => ?_)
  refine lv_iload_n hx hb dX2_compared_52 rfl (lv_at hl 3 rfl) ?_
  refine lv_bipush (v := 60) hx hb dX2_compared_53 rfl ?_
  refine lv_icmp_ne (tgt := 66) hx hb dX2_compared_55 (by decide) (fun b4 => ?_) (fun b4 => ?_)
  · replace hf := hf.2 b4
    refine lv_iload_n hx hb dX2_compared_66 rfl (lv_at hl 3 rfl) ?_
    refine lv_bipush (v := 61) hx hb dX2_compared_67 rfl ?_
    refine lv_icmp_ne (tgt := 80) hx hb dX2_compared_69 (by decide) (fun b5 => ?_) (fun b5 => ?_)
    · replace hf := hf.2 b5
      refine lv_iload_n hx hb dX2_compared_80 rfl (lv_at hl 2 rfl) ?_
      refine lv_iload_n hx hb dX2_compared_81 rfl (lv_at hl 0 rfl) ?_
      refine lv_icmp_le (tgt := 89) hx hb dX2_compared_82 (by decide) (fun b6 => ?_) (fun b6 => ?_)
      · replace hf := hf.1 b6
        refine lv_iconst (v := 0) hx hb dX2_compared_89 rfl ?_
        exact g_reti K hr hM ⟨Nat.le_refl _, Nat.le_refl _⟩ hf dX2_compared_90
      · replace hf := hf.2 b6
        exact wo_X2_compared_85 K hr hB H_sums hR_sums _ hf _ _ _ hM (lv_sub hl [] rfl)
    · replace hf := hf.1 b5
      refine lv_iload_n hx hb dX2_compared_72 rfl (lv_at hl 2 rfl) ?_
      refine lv_iload_n hx hb dX2_compared_73 rfl (lv_at hl 0 rfl) ?_
      refine lv_icmp_ne (tgt := 89) hx hb dX2_compared_74 (by decide) (fun b7 => ?_) (fun b7 => ?_)
      · replace hf := hf.2 b7
        refine lv_iconst (v := 0) hx hb dX2_compared_89 rfl ?_
        exact g_reti K hr hM ⟨Nat.le_refl _, Nat.le_refl _⟩ hf dX2_compared_90
      · replace hf := hf.1 b7
        refine lv_goto (tgt := 85) hx hb dX2_compared_77 (by decide) ?_
        exact wo_X2_compared_85 K hr hB H_sums hR_sums _ hf _ _ _ hM (lv_sub hl [] rfl)
  · replace hf := hf.1 b4
    refine lv_iload_n hx hb dX2_compared_58 rfl (lv_at hl 2 rfl) ?_
    refine lv_iload_n hx hb dX2_compared_59 rfl (lv_at hl 0 rfl) ?_
    refine lv_icmp_ge (tgt := 89) hx hb dX2_compared_60 (by decide) (fun b8 => ?_) (fun b8 => ?_)
    · replace hf := hf.1 b8
      refine lv_iconst (v := 0) hx hb dX2_compared_89 rfl ?_
      exact g_reti K hr hM ⟨Nat.le_refl _, Nat.le_refl _⟩ hf dX2_compared_90
    · replace hf := hf.2 b8
      refine lv_goto (tgt := 85) hx hb dX2_compared_63 (by decide) ?_
      exact wo_X2_compared_85 K hr hB H_sums hR_sums _ hf _ _ _ hM (lv_sub hl [] rfl)
theorem co_X2_compared (l : Launch) (r : GR) (A : Nat → Prop) {fr lo : Nat} {c_sums : GS → (GS → Int32 → Prop) → Prop} (hB : 1 ≤ fr ∧ 20 ≤ lo) {f_sums_ l_sums_ : Nat} (H_sums : ∀ (σ : GS) (P : GS → Int32 → Prop), c_sums σ P → gMet dM l yX2_sums cX2_sums 4 (some .int) f_sums_ l_sums_ 0 0 r A σ [.ref r.2.1] (zI P)) (hR_sums : f_sums_ + 1 ≤ fr ∧ 8 + (4 + 11) + l_sums_ ≤ lo) (σ : GS) (P : GS → Int32 → Prop) (hf : o_X2_compared c_sums σ P) : gMet dM l yX2_compared cX2_compared 4 (some .int) fr lo 0 0 r A σ [.ref r.2.1] (zI P) := by
  refine g_enter (lv := [(0, .ref r.2.1)]) (by decide) (Nat.le_of_ble_eq_true rfl) rfl ?_
  intro p e s m below meth c ls K hr hM hl _
  obtain ⟨hx, hb, hml, hown, hts, hlk, hKK, hA⟩ := id K
  unfold o_X2_compared at hf
  refine lv_aload_n hx hb dX2_compared_0 rfl (lv_at hl 0 rfl) ?_
  refine g_cVi [] [] K kM hM hl (H_sums _ _ hf) q1716 q1718 qs50 q84 q1719 hdX2_sums ⟨hR_sums.1, hR_sums.2⟩ ⟨Nat.le_refl _, Nat.le_refl _⟩ rfl (Nat.le_of_ble_eq_true rfl) dX2_compared_1 (fun σ1 v2 H locs hf hM => ?_)
  refine lv_istore_n (lv' := [(1, .int v2), (0, .ref r.2.1)]) hx hb dX2_compared_4 rfl hl (by decide) rfl (fun ls hl => ?_)
  refine lv_aload_n hx hb dX2_compared_5 rfl (lv_at hl 1 rfl) ?_
  refine g_cVi [] [] K kM hM hl (c_X2_byteAt l r A _ _ hf) q1728 q1730 qs53 q84 q1731 hdX2_byteAt ⟨Nat.le_trans (Nat.le_of_ble_eq_true rfl) hB.1, Nat.le_trans (Nat.le_of_ble_eq_true rfl) hB.2⟩ ⟨Nat.le_refl _, Nat.le_refl _⟩ rfl (Nat.le_of_ble_eq_true rfl) dX2_compared_6 (fun σ3 v4 H locs hf hM => ?_)
  refine lv_istore_n (lv' := [(2, .int v4), (1, .int v2), (0, .ref r.2.1)]) hx hb dX2_compared_9 rfl hl (by decide) rfl (fun ls hl => ?_)
  refine lv_aload_n hx hb dX2_compared_10 rfl (lv_at hl 2 rfl) ?_
  refine g_geti K kM hM 21 rfl q1474 rfl dX2_compared_11 rfl ?_
  refine lv_if_ge (tgt := 35) hx hb dX2_compared_14 (by decide) (fun b5 => ?_) (fun b5 => ?_)
  · replace hf := hf.1 b5
    refine lv_iload_n hx hb dX2_compared_35 rfl (lv_at hl 1 rfl) ?_
    exact g_reti K hr hM ⟨Nat.le_refl _, Nat.le_refl _⟩ hf dX2_compared_36
  · replace hf := hf.2 b5
    refine lv_iload_n hx hb dX2_compared_17 rfl (lv_at hl 0 rfl) ?_
    refine lv_bipush (v := 60) hx hb dX2_compared_18 rfl ?_
    refine lv_icmp_eq (tgt := 37) hx hb dX2_compared_20 (by decide) (fun b6 => ?_) (fun b6 => ?_)
    · replace hf := hf.1 b6
      exact wo_X2_compared_37 K hr hB H_sums hR_sums _ _ _ hf _ _ _ hM (lv_sub hl [2, 1, 0] rfl)
    · replace hf := hf.2 b6
      refine lv_iload_n hx hb dX2_compared_23 rfl (lv_at hl 0 rfl) ?_
      refine lv_bipush (v := 61) hx hb dX2_compared_24 rfl ?_
      refine lv_icmp_eq (tgt := 37) hx hb dX2_compared_26 (by decide) (fun b7 => ?_) (fun b7 => ?_)
      · replace hf := hf.1 b7
        exact wo_X2_compared_37 K hr hB H_sums hR_sums _ _ _ hf _ _ _ hM (lv_sub hl [2, 1, 0] rfl)
      · replace hf := hf.2 b7
        refine lv_iload_n hx hb dX2_compared_29 rfl (lv_at hl 0 rfl) ?_
        refine lv_bipush (v := 62) hx hb dX2_compared_30 rfl ?_
        refine lv_icmp_eq (tgt := 37) hx hb dX2_compared_32 (by decide) (fun b8 => ?_) (fun b8 => ?_)
        · replace hf := hf.1 b8
          exact wo_X2_compared_37 K hr hB H_sums hR_sums _ _ _ hf _ _ _ hM (lv_sub hl [2, 1, 0] rfl)
        · replace hf := hf.2 b8
          refine lv_iload_n hx hb dX2_compared_35 rfl (lv_at hl 1 rfl) ?_
          exact g_reti K hr hM ⟨Nat.le_refl _, Nat.le_refl _⟩ hf dX2_compared_36
theorem wo_X2_sums_73 {p : Program} {l : Launch} {e : Env} {s : State} {m : MethodId} {args : Array Value} {below : List Frame} {meth : Method} {c : Code} {r : GR} {A : Nat → Prop} {fr lo : Nat} {c_product : GS → (GS → Int32 → Prop) → Prop} {P : GS → Int32 → Prop} {k5 : GS → Int32 → Prop} (K : gC p s m args meth c cX2_sums 4 RX2 r A) (hr : meth.sig.returnType = (some .int)) (hB : 1 ≤ fr ∧ 20 ≤ lo) {f_product_ l_product_ : Nat} (H_product : ∀ (σ : GS) (P : GS → Int32 → Prop), c_product σ P → gMet dM l yX2_product cX2_product 4 (some .int) f_product_ l_product_ 0 0 r A σ [.ref r.2.1] (zI P)) (hR_product : f_product_ + 1 ≤ fr ∧ 8 + (4 + 11) + l_product_ ≤ lo) (H5 : ∀ (σ : GS) (x1 : Int32), k5 σ x1 → gW dM p l e (gRm fr lo 0 0) s m args below meth c r A (zI P) 0 0 4 5 [(0, .ref r.2.1), (1, .int x1)] [] 0 0 σ) : ∀ (σ : GS) (t0 : Int32), o_X2_sums_73 c_product k5 P σ t0 → gW dM p l e (gRm fr lo 0 0) s m args below meth c r A (zI P) 0 0 4 73 [(0, .ref r.2.1)] [.int t0] 0 0 σ := by
  obtain ⟨hx, hb, hml, hown, hts, hlk, hKK, hA⟩ := id K
  intro σ t0 hf H locs ls hM hl
  unfold o_X2_sums_73 at hf
  refine lv_istore_n (lv' := [(1, .int t0), (0, .ref r.2.1)]) hx hb dX2_sums_73 rfl hl (by decide) rfl (fun ls hl => ?_)
  refine lv_goto (tgt := 5) hx hb dX2_sums_74 (by decide) ?_
  exact H5 _ _ hf _ _ _ hM (lv_sub hl [1, 0] rfl)
theorem wo_X2_sums_44 {p : Program} {l : Launch} {e : Env} {s : State} {m : MethodId} {args : Array Value} {below : List Frame} {meth : Method} {c : Code} {r : GR} {A : Nat → Prop} {fr lo : Nat} {c_product : GS → (GS → Int32 → Prop) → Prop} {P : GS → Int32 → Prop} {k5 : GS → Int32 → Prop} (K : gC p s m args meth c cX2_sums 4 RX2 r A) (hr : meth.sig.returnType = (some .int)) (hB : 1 ≤ fr ∧ 20 ≤ lo) {f_product_ l_product_ : Nat} (H_product : ∀ (σ : GS) (P : GS → Int32 → Prop), c_product σ P → gMet dM l yX2_product cX2_product 4 (some .int) f_product_ l_product_ 0 0 r A σ [.ref r.2.1] (zI P)) (hR_product : f_product_ + 1 ≤ fr ∧ 8 + (4 + 11) + l_product_ ≤ lo) (H5 : ∀ (σ : GS) (x1 : Int32), k5 σ x1 → gW dM p l e (gRm fr lo 0 0) s m args below meth c r A (zI P) 0 0 4 5 [(0, .ref r.2.1), (1, .int x1)] [] 0 0 σ) : ∀ (σ : GS) (x1 : Int32) (t0 : Int32), o_X2_sums_44 c_product k5 P σ x1 t0 → gW dM p l e (gRm fr lo 0 0) s m args below meth c r A (zI P) 0 0 4 44 [(0, .ref r.2.1), (1, .int x1)] [.int t0] 0 0 σ := by
  obtain ⟨hx, hb, hml, hown, hts, hlk, hKK, hA⟩ := id K
  intro σ x1 t0 hf H locs ls hM hl
  unfold o_X2_sums_44 at hf
  refine lv_istore_n (lv' := [(2, .int t0), (0, .ref r.2.1), (1, .int x1)]) hx hb dX2_sums_44 rfl hl (by decide) rfl (fun ls hl => ?_)
  refine lv_aload_n hx hb dX2_sums_45 rfl (lv_at hl 1 rfl) ?_
  refine lv_dup hx hb dX2_sums_46 rfl ?_
  refine g_geti K kM hM 19 rfl q1472 rfl dX2_sums_47 rfl ?_
  refine lv_iconst (v := 1) hx hb dX2_sums_50 rfl ?_
  refine lv_iadd hx hb dX2_sums_51 ?_
  refine g_putiN K kM hM 19 rfl q1472 rfl dX2_sums_52 rfl rfl rfl (fun H locs σ1 hσ1 hM => ?_)
  have hf := hf σ1 hσ1
  refine lv_aload_n hx hb dX2_sums_55 rfl (lv_at hl 1 rfl) ?_
  refine g_cVi [] [] K kM hM hl (H_product _ _ hf) q1720 q1722 qs51 q84 q1723 hdX2_product ⟨hR_product.1, hR_product.2⟩ ⟨Nat.le_refl _, Nat.le_refl _⟩ rfl (Nat.le_of_ble_eq_true rfl) dX2_sums_56 (fun σ2 v3 H locs hf hM => ?_)
  refine lv_istore_n (lv' := [(3, .int v3), (2, .int t0), (0, .ref r.2.1), (1, .int x1)]) hx hb dX2_sums_59 rfl hl (by decide) rfl (fun ls hl => ?_)
  refine lv_iload_n hx hb dX2_sums_60 rfl (lv_at hl 1 rfl) ?_
  refine lv_if_eq (tgt := 70) hx hb dX2_sums_61 (by decide) (fun b4 => ?_) (fun b4 => ?_)
  · replace hf := hf.1 b4
    refine lv_iload_n hx hb dX2_sums_70 rfl (lv_at hl 3 rfl) ?_
    refine lv_iload_n hx hb dX2_sums_71 rfl (lv_at hl 0 rfl) ?_
    refine lv_isub hx hb dX2_sums_72 ?_
    exact wo_X2_sums_73 K hr hB H_product hR_product H5 _ _ hf _ _ _ hM (lv_sub hl [2] rfl)
  · replace hf := hf.2 b4
    refine lv_iload_n hx hb dX2_sums_64 rfl (lv_at hl 3 rfl) ?_
    refine lv_iload_n hx hb dX2_sums_65 rfl (lv_at hl 0 rfl) ?_
    refine lv_iadd hx hb dX2_sums_66 ?_
    refine lv_goto (tgt := 73) hx hb dX2_sums_67 (by decide) ?_
    exact wo_X2_sums_73 K hr hB H_product hR_product H5 _ _ hf _ _ _ hM (lv_sub hl [2] rfl)
theorem wo_X2_sums_30 {p : Program} {l : Launch} {e : Env} {s : State} {m : MethodId} {args : Array Value} {below : List Frame} {meth : Method} {c : Code} {r : GR} {A : Nat → Prop} {fr lo : Nat} {c_product : GS → (GS → Int32 → Prop) → Prop} {P : GS → Int32 → Prop} {k5 : GS → Int32 → Prop} (K : gC p s m args meth c cX2_sums 4 RX2 r A) (hr : meth.sig.returnType = (some .int)) (hB : 1 ≤ fr ∧ 20 ≤ lo) {f_product_ l_product_ : Nat} (H_product : ∀ (σ : GS) (P : GS → Int32 → Prop), c_product σ P → gMet dM l yX2_product cX2_product 4 (some .int) f_product_ l_product_ 0 0 r A σ [.ref r.2.1] (zI P)) (hR_product : f_product_ + 1 ≤ fr ∧ 8 + (4 + 11) + l_product_ ≤ lo) (H5 : ∀ (σ : GS) (x1 : Int32), k5 σ x1 → gW dM p l e (gRm fr lo 0 0) s m args below meth c r A (zI P) 0 0 4 5 [(0, .ref r.2.1), (1, .int x1)] [] 0 0 σ) : ∀ (σ : GS) (x1 : Int32), o_X2_sums_30 c_product k5 P σ x1 → gW dM p l e (gRm fr lo 0 0) s m args below meth c r A (zI P) 0 0 4 30 [(0, .ref r.2.1), (1, .int x1)] [] 0 0 σ := by
  obtain ⟨hx, hb, hml, hown, hts, hlk, hKK, hA⟩ := id K
  intro σ x1 hf H locs ls hM hl
  unfold o_X2_sums_30 at hf
  refine lv_aload_n hx hb dX2_sums_30 rfl (lv_at hl 0 rfl) ?_
  refine g_cVi [] [] K kM hM hl (c_X2_byteAt l r A _ _ hf) q1728 q1730 qs53 q84 q1731 hdX2_byteAt ⟨Nat.le_trans (Nat.le_of_ble_eq_true rfl) hB.1, Nat.le_trans (Nat.le_of_ble_eq_true rfl) hB.2⟩ ⟨Nat.le_refl _, Nat.le_refl _⟩ rfl (Nat.le_of_ble_eq_true rfl) dX2_sums_31 (fun σ1 v2 H locs hf hM => ?_)
  refine lv_bipush (v := 43) hx hb dX2_sums_34 rfl ?_
  refine lv_icmp_ne (tgt := 43) hx hb dX2_sums_36 (by decide) (fun b3 => ?_) (fun b3 => ?_)
  · replace hf := hf.2 b3
    refine lv_iconst (v := 0) hx hb dX2_sums_43 rfl ?_
    exact wo_X2_sums_44 K hr hB H_product hR_product H5 _ _ _ hf _ _ _ hM (lv_sub hl [0, 1] rfl)
  · replace hf := hf.1 b3
    refine lv_iconst (v := 1) hx hb dX2_sums_39 rfl ?_
    refine lv_goto (tgt := 44) hx hb dX2_sums_40 (by decide) ?_
    exact wo_X2_sums_44 K hr hB H_product hR_product H5 _ _ _ hf _ _ _ hM (lv_sub hl [0, 1] rfl)
theorem wo_X2_sums_5 {p : Program} {l : Launch} {e : Env} {s : State} {m : MethodId} {args : Array Value} {below : List Frame} {meth : Method} {c : Code} {r : GR} {A : Nat → Prop} {fr lo : Nat} {c_product : GS → (GS → Int32 → Prop) → Prop} {P : GS → Int32 → Prop} (K : gC p s m args meth c cX2_sums 4 RX2 r A) (hr : meth.sig.returnType = (some .int)) (hB : 1 ≤ fr ∧ 20 ≤ lo) {f_product_ l_product_ : Nat} (H_product : ∀ (σ : GS) (P : GS → Int32 → Prop), c_product σ P → gMet dM l yX2_product cX2_product 4 (some .int) f_product_ l_product_ 0 0 r A σ [.ref r.2.1] (zI P)) (hR_product : f_product_ + 1 ≤ fr ∧ 8 + (4 + 11) + l_product_ ≤ lo) : ∀ (n : Nat) (σ : GS) (x1 : Int32), o_X2_sums_5 c_product P n σ x1 → gW dM p l e (gRm fr lo 0 0) s m args below meth c r A (zI P) 0 0 4 5 [(0, .ref r.2.1), (1, .int x1)] [] 0 0 σ := by
  obtain ⟨hx, hb, hml, hown, hts, hlk, hKK, hA⟩ := id K
  intro n
  induction n with
  | zero =>
    intro σ x1 hf
    exact absurd hf (fun h => h)
  | succ n ih =>
    intro σ x1 hf H locs ls hM hl
    rw [o_X2_sums_5] at hf
    refine lv_aload_n hx hb dX2_sums_5 rfl (lv_at hl 0 rfl) ?_
    refine g_geti K kM hM 21 rfl q1474 rfl dX2_sums_6 rfl ?_
    refine lv_if_ge (tgt := 77) hx hb dX2_sums_9 (by decide) (fun b1 => ?_) (fun b1 => ?_)
    · replace hf := hf.1 b1
      refine lv_iload_n hx hb dX2_sums_77 rfl (lv_at hl 1 rfl) ?_
      exact g_reti K hr hM ⟨Nat.le_refl _, Nat.le_refl _⟩ hf dX2_sums_78
    · replace hf := hf.2 b1
      refine lv_aload_n hx hb dX2_sums_12 rfl (lv_at hl 0 rfl) ?_
      refine g_cVi [] [] K kM hM hl (c_X2_byteAt l r A _ _ hf) q1728 q1730 qs53 q84 q1731 hdX2_byteAt ⟨Nat.le_trans (Nat.le_of_ble_eq_true rfl) hB.1, Nat.le_trans (Nat.le_of_ble_eq_true rfl) hB.2⟩ ⟨Nat.le_refl _, Nat.le_refl _⟩ rfl (Nat.le_of_ble_eq_true rfl) dX2_sums_13 (fun σ2 v3 H locs hf hM => ?_)
      refine lv_bipush (v := 43) hx hb dX2_sums_16 rfl ?_
      refine lv_icmp_eq (tgt := 30) hx hb dX2_sums_18 (by decide) (fun b4 => ?_) (fun b4 => ?_)
      · replace hf := hf.1 b4
        exact wo_X2_sums_30 K hr hB H_product hR_product ih _ _ hf _ _ _ hM (lv_sub hl [0, 1] rfl)
      · replace hf := hf.2 b4
        refine lv_aload_n hx hb dX2_sums_21 rfl (lv_at hl 0 rfl) ?_
        refine g_cVi [] [] K kM hM hl (c_X2_byteAt l r A _ _ hf) q1728 q1730 qs53 q84 q1731 hdX2_byteAt ⟨Nat.le_trans (Nat.le_of_ble_eq_true rfl) hB.1, Nat.le_trans (Nat.le_of_ble_eq_true rfl) hB.2⟩ ⟨Nat.le_refl _, Nat.le_refl _⟩ rfl (Nat.le_of_ble_eq_true rfl) dX2_sums_22 (fun σ5 v6 H locs hf hM => ?_)
        refine lv_bipush (v := 45) hx hb dX2_sums_25 rfl ?_
        refine lv_icmp_ne (tgt := 77) hx hb dX2_sums_27 (by decide) (fun b7 => ?_) (fun b7 => ?_)
        · replace hf := hf.2 b7
          refine lv_iload_n hx hb dX2_sums_77 rfl (lv_at hl 1 rfl) ?_
          exact g_reti K hr hM ⟨Nat.le_refl _, Nat.le_refl _⟩ hf dX2_sums_78
        · replace hf := hf.1 b7
          exact wo_X2_sums_30 K hr hB H_product hR_product ih _ _ hf _ _ _ hM (lv_sub hl [0, 1] rfl)
theorem co_X2_sums (l : Launch) (r : GR) (A : Nat → Prop) {fr lo : Nat} {c_product : GS → (GS → Int32 → Prop) → Prop} (hB : 1 ≤ fr ∧ 20 ≤ lo) {f_product_ l_product_ : Nat} (H_product : ∀ (σ : GS) (P : GS → Int32 → Prop), c_product σ P → gMet dM l yX2_product cX2_product 4 (some .int) f_product_ l_product_ 0 0 r A σ [.ref r.2.1] (zI P)) (hR_product : f_product_ + 1 ≤ fr ∧ 8 + (4 + 11) + l_product_ ≤ lo) (σ : GS) (P : GS → Int32 → Prop) (hf : o_X2_sums c_product σ P) : gMet dM l yX2_sums cX2_sums 4 (some .int) fr lo 0 0 r A σ [.ref r.2.1] (zI P) := by
  refine g_enter (lv := [(0, .ref r.2.1)]) (by decide) (Nat.le_of_ble_eq_true rfl) rfl ?_
  intro p e s m below meth c ls K hr hM hl _
  obtain ⟨hx, hb, hml, hown, hts, hlk, hKK, hA⟩ := id K
  unfold o_X2_sums at hf
  refine lv_aload_n hx hb dX2_sums_0 rfl (lv_at hl 0 rfl) ?_
  refine g_cVi [] [] K kM hM hl (H_product _ _ hf) q1720 q1722 qs51 q84 q1723 hdX2_product ⟨hR_product.1, hR_product.2⟩ ⟨Nat.le_refl _, Nat.le_refl _⟩ rfl (Nat.le_of_ble_eq_true rfl) dX2_sums_1 (fun σ1 v2 H locs hf hM => ?_)
  refine lv_istore_n (lv' := [(1, .int v2), (0, .ref r.2.1)]) hx hb dX2_sums_4 rfl hl (by decide) rfl (fun ls hl => ?_)
  obtain ⟨n_, hf⟩ := hf
  exact wo_X2_sums_5 K hr hB H_product hR_product n_ _ _ hf _ _ _ hM (lv_sub hl [1, 0] rfl)

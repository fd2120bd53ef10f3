set_option maxRecDepth 100000
set_option maxHeartbeats 4000000
theorem c_X0_in (l : Launch) (r : GR) (A : Nat → Prop) (σ : GS) (x0 : Int32) (x1 : Int32) (x2 : Int32) (P : GS → Int32 → Prop) (hf : f_X0_in r σ x0 x1 x2 P) : gMet dX l yX0_in cX0_in 3 (some .boolean) 0 0 0 0 r A σ [.int x0, .int x1, .int x2] (zI P) := by
  refine g_enter (lv := [(0, .int x0), (1, .int x1), (2, .int x2)]) (by decide) (Nat.le_of_ble_eq_true rfl) rfl ?_
  intro p e s m below meth c ls K hr hM hl hi
  obtain ⟨hx, hb, hml, hown, hts, hlk, hKK, hA⟩ := id K
  unfold f_X0_in at hf
  refine lv_iload_n hx hb dX0_in_0 rfl (lv_at hl 0 rfl) ?_
  refine lv_iload_n hx hb dX0_in_1 rfl (lv_at hl 1 rfl) ?_
  refine lv_icmp_lt (tgt := 14) hx hb dX0_in_2 (by decide) (fun b1 => ?_) (fun b1 => ?_)
  · replace hf := hf.1 b1
    refine lv_iconst (v := 0) hx hb dX0_in_14 rfl ?_
    exact g_retz K hr hM ⟨Nat.le_refl _, Nat.le_refl _⟩ gZ_0 hf dX0_in_15
  · replace hf := hf.2 b1
    refine lv_iload_n hx hb dX0_in_5 rfl (lv_at hl 0 rfl) ?_
    refine lv_iload_n hx hb dX0_in_6 rfl (lv_at hl 2 rfl) ?_
    refine lv_icmp_gt (tgt := 14) hx hb dX0_in_7 (by decide) (fun b2 => ?_) (fun b2 => ?_)
    · replace hf := hf.1 b2
      refine lv_iconst (v := 0) hx hb dX0_in_14 rfl ?_
      exact g_retz K hr hM ⟨Nat.le_refl _, Nat.le_refl _⟩ gZ_0 hf dX0_in_15
    · replace hf := hf.2 b2
      refine lv_iconst (v := 1) hx hb dX0_in_10 rfl ?_
      refine lv_goto (tgt := 15) hx hb dX0_in_11 (by decide) ?_
      exact g_retz K hr hM ⟨Nat.le_refl _, Nat.le_refl _⟩ gZ_1 hf dX0_in_15
theorem c_X0_isThingSo (l : Launch) (r : GR) (A : Nat → Prop) (σ : GS) (x0 : Int32) (x1 : Int32) (x2 : Int32) (x3 : Int32) (P : GS → Int32 → Prop) (hf : f_X0_isThingSo r σ x0 x1 x2 x3 P) : gMet dX l yX0_isThingSo cX0_isThingSo 4 (some .boolean) 1 22 0 0 r A σ [.int x0, .int x1, .int x2, .int x3] (zI P) := by
  refine g_enter (lv := [(0, .int x0), (1, .int x1), (2, .int x2), (3, .int x3)]) (by decide) (Nat.le_of_ble_eq_true rfl) rfl ?_
  intro p e s m below meth c ls K hr hM hl hi
  obtain ⟨hx, hb, hml, hown, hts, hlk, hKK, hA⟩ := id K
  unfold f_X0_isThingSo at hf
  refine lv_iload_n hx hb dX0_isThingSo_0 rfl (lv_at hl 0 rfl) ?_
  refine lv_iconst (v := 0) hx hb dX0_isThingSo_1 rfl ?_
  refine lv_sipush (v := 999) hx hb dX0_isThingSo_2 rfl ?_
  refine g_runi (rS [.int x0, .int (0 : Int32), .int (999 : Int32)] [] K hM hl (c_X0_in l r A _ _ _ _ _ hf) q261 q262 q82 q263 hdX0_in ⟨Nat.le_of_ble_eq_true rfl, Nat.le_of_ble_eq_true rfl⟩ ⟨Nat.le_refl _, Nat.le_refl _⟩ rfl (Nat.le_of_ble_eq_true rfl) dX0_isThingSo_5) hM (fun σ1 v2 H locs hf hM => ?_)
  refine lv_if_eq (tgt := 45) hx hb dX0_isThingSo_8 (by decide) (fun b3 => ?_) (fun b3 => ?_)
  · replace hf := hf.1 b3
    refine lv_iconst (v := 0) hx hb dX0_isThingSo_45 rfl ?_
    exact g_retz K hr hM ⟨Nat.le_refl _, Nat.le_refl _⟩ gZ_0 hf dX0_isThingSo_46
  · replace hf := hf.2 b3
    refine lv_iload_n hx hb dX0_isThingSo_11 rfl (lv_at hl 1 rfl) ?_
    refine lv_iconst (v := 0) hx hb dX0_isThingSo_12 rfl ?_
    refine lv_bipush (v := 99) hx hb dX0_isThingSo_13 rfl ?_
    refine g_runi (rS [.int x1, .int (0 : Int32), .int (99 : Int32)] [] K hM hl (c_X0_in l r A _ _ _ _ _ hf) q261 q262 q82 q263 hdX0_in ⟨Nat.le_of_ble_eq_true rfl, Nat.le_of_ble_eq_true rfl⟩ ⟨Nat.le_refl _, Nat.le_refl _⟩ rfl (Nat.le_of_ble_eq_true rfl) dX0_isThingSo_15) hM (fun σ4 v5 H locs hf hM => ?_)
    refine lv_if_eq (tgt := 45) hx hb dX0_isThingSo_18 (by decide) (fun b6 => ?_) (fun b6 => ?_)
    · replace hf := hf.1 b6
      refine lv_iconst (v := 0) hx hb dX0_isThingSo_45 rfl ?_
      exact g_retz K hr hM ⟨Nat.le_refl _, Nat.le_refl _⟩ gZ_0 hf dX0_isThingSo_46
    · replace hf := hf.2 b6
      refine lv_iload_n hx hb dX0_isThingSo_21 rfl (lv_at hl 2 rfl) ?_
      refine lv_iconst (v := 0) hx hb dX0_isThingSo_22 rfl ?_
      refine lv_bipush (v := 99) hx hb dX0_isThingSo_23 rfl ?_
      refine g_runi (rS [.int x2, .int (0 : Int32), .int (99 : Int32)] [] K hM hl (c_X0_in l r A _ _ _ _ _ hf) q261 q262 q82 q263 hdX0_in ⟨Nat.le_of_ble_eq_true rfl, Nat.le_of_ble_eq_true rfl⟩ ⟨Nat.le_refl _, Nat.le_refl _⟩ rfl (Nat.le_of_ble_eq_true rfl) dX0_isThingSo_25) hM (fun σ7 v8 H locs hf hM => ?_)
      refine lv_if_eq (tgt := 45) hx hb dX0_isThingSo_28 (by decide) (fun b9 => ?_) (fun b9 => ?_)
      · replace hf := hf.1 b9
        refine lv_iconst (v := 0) hx hb dX0_isThingSo_45 rfl ?_
        exact g_retz K hr hM ⟨Nat.le_refl _, Nat.le_refl _⟩ gZ_0 hf dX0_isThingSo_46
      · replace hf := hf.2 b9
        refine lv_iload_n hx hb dX0_isThingSo_31 rfl (lv_at hl 3 rfl) ?_
        refine lv_iconst (v := 0) hx hb dX0_isThingSo_32 rfl ?_
        refine lv_bipush (v := 99) hx hb dX0_isThingSo_33 rfl ?_
        refine g_runi (rS [.int x3, .int (0 : Int32), .int (99 : Int32)] [] K hM hl (c_X0_in l r A _ _ _ _ _ hf) q261 q262 q82 q263 hdX0_in ⟨Nat.le_of_ble_eq_true rfl, Nat.le_of_ble_eq_true rfl⟩ ⟨Nat.le_refl _, Nat.le_refl _⟩ rfl (Nat.le_of_ble_eq_true rfl) dX0_isThingSo_35) hM (fun σ10 v11 H locs hf hM => ?_)
        refine lv_if_eq (tgt := 45) hx hb dX0_isThingSo_38 (by decide) (fun b12 => ?_) (fun b12 => ?_)
        · replace hf := hf.1 b12
          refine lv_iconst (v := 0) hx hb dX0_isThingSo_45 rfl ?_
          exact g_retz K hr hM ⟨Nat.le_refl _, Nat.le_refl _⟩ gZ_0 hf dX0_isThingSo_46
        · replace hf := hf.2 b12
          refine lv_iconst (v := 1) hx hb dX0_isThingSo_41 rfl ?_
          refine lv_goto (tgt := 46) hx hb dX0_isThingSo_42 (by decide) ?_
          exact g_retz K hr hM ⟨Nat.le_refl _, Nat.le_refl _⟩ gZ_1 hf dX0_isThingSo_46
theorem c_X3_init (l : Launch) (r : GR) (A : Nat → Prop) (σ : GS) (x0 : Nat) (x1 : Int32) (x2 : Int32) (x3 : Int32) (x4 : Int32) (P : GS → Prop) (hf : f_X3_init r σ x0 x1 x2 x3 x4 P) : gMet dX l yX3_init cX3_init 5 none 1 24 0 0 r A σ [.ref x0, .int x1, .int x2, .int x3, .int x4] (zV P) := by
  refine g_enter (lv := [(0, .ref x0), (1, .int x1), (2, .int x2), (3, .int x3), (4, .int x4)]) (by decide) (Nat.le_of_ble_eq_true rfl) rfl ?_
  intro p e s m below meth c ls K hr hM hl hi
  obtain ⟨hx, hb, hml, hown, hts, hlk, hKK, hA⟩ := id K
  unfold f_X3_init at hf
  refine lv_aload_n hx hb dX3_init_0 rfl (lv_at hl 0 rfl) ?_
  refine rO K hl q268 q133 q134 ⟨Nat.le_of_ble_eq_true rfl, Nat.le_of_ble_eq_true rfl⟩ dX3_init_1 ?_
  refine lv_aload_n hx hb dX3_init_4 rfl (lv_at hl 0 rfl) ?_
  refine lv_iload_n hx hb dX3_init_5 rfl (lv_at hl 1 rfl) ?_
  refine p_put K kY3 nmX3 hM 1 rfl q271 rfl dX3_init_6 rfl rfl rfl hf (fun H locs σ1 hf hM => ?_)
  refine lv_aload_n hx hb dX3_init_9 rfl (lv_at hl 0 rfl) ?_
  refine lv_iload_n hx hb dX3_init_10 rfl (lv_at hl 2 rfl) ?_
  refine p_put K kY3 nmX3 hM 2 rfl q273 rfl dX3_init_11 rfl rfl rfl hf (fun H locs σ2 hf hM => ?_)
  refine lv_aload_n hx hb dX3_init_14 rfl (lv_at hl 0 rfl) ?_
  refine lv_iload_n hx hb dX3_init_15 rfl (lv_at hl 3 rfl) ?_
  refine p_put K kY3 nmX3 hM 3 rfl q275 rfl dX3_init_16 rfl rfl rfl hf (fun H locs σ3 hf hM => ?_)
  refine lv_aload_n hx hb dX3_init_19 rfl (lv_at hl 0 rfl) ?_
  refine lv_iload hx hb dX3_init_20 (lv_at hl 4 rfl) ?_
  refine p_putF K kY3 nmX3 hM 0 rfl q269 rfl dX3_init_22 rfl (hi rfl) rfl rfl rfl hf (fun H locs σ4 hf hM => ?_)
  exact g_retv K hr hM ⟨Nat.le_refl _, Nat.le_refl _⟩ hf dX3_init_25
theorem c_X0_thing (l : Launch) (r : GR) (A : Nat → Prop) (bc bs : Nat) (σ : GS) (x1 : Int32) (x2 : Int32) (x3 : Int32) (P : GS → Int32 → Prop) (hf : f_X0_thing r bc bs σ x1 x2 x3 P) : gMet dX l yX0_thing cX0_thing 4 (some .int) 2 48 bc bs r A σ [.ref r.2.1, .int x1, .int x2, .int x3] (zI P) := by
  refine g_enter (lv := [(0, .ref r.2.1), (1, .int x1), (2, .int x2), (3, .int x3)]) (by decide) (Nat.le_of_ble_eq_true rfl) rfl ?_
  intro p e s m below meth c ls K hr hM hl hi
  obtain ⟨hx, hb, hml, hown, hts, hlk, hKK, hA⟩ := id K
  unfold f_X0_thing at hf
  generalize hB_ : bc = B
  generalize hS_ : bs = S
  have hc : 0 + bc ≤ B ∧ 0 + bs ≤ S := ⟨bud_0 hB_, bud_0 hS_⟩
  refine lv_iload_n hx hb dX0_thing_0 rfl (lv_at hl 2 rfl) ?_
  refine lv_if_lt (tgt := 20) hx hb dX0_thing_1 (by decide) (fun b1 => ?_) (fun b1 => ?_)
  · replace hf := hf.1 b1
    refine lv_iconst (v := -1) hx hb dX0_thing_20 rfl ?_
    exact g_reti K hr hM ⟨bud_ret hc.1, bud_ret hc.2⟩ hf dX0_thing_21
  · replace hf := hf.2 b1
    refine lv_iload_n hx hb dX0_thing_4 rfl (lv_at hl 1 rfl) ?_
    refine lv_iload_n hx hb dX0_thing_5 rfl (lv_at hl 2 rfl) ?_
    refine lv_bipush (v := 100) hx hb dX0_thing_6 rfl ?_
    refine lv_idiv hx hb dX0_thing_8 (by decide) ?_
    refine lv_iload_n hx hb dX0_thing_9 rfl (lv_at hl 2 rfl) ?_
    refine lv_bipush (v := 100) hx hb dX0_thing_10 rfl ?_
    refine lv_irem hx hb dX0_thing_12 (by decide) ?_
    refine lv_iload_n hx hb dX0_thing_13 rfl (lv_at hl 3 rfl) ?_
    refine g_runi (rS [.int x1, .int (x2 / (100 : Int32)), .int (x2 - x2 / (100 : Int32) * (100 : Int32)), .int x3] [] K hM hl (c_X0_isThingSo l r A _ _ _ _ _ _ hf) q258 q259 q82 q260 hdX0_isThingSo ⟨Nat.le_of_ble_eq_true rfl, Nat.le_of_ble_eq_true rfl⟩ ⟨bud_ret hc.1, bud_ret hc.2⟩ rfl (Nat.le_of_ble_eq_true rfl) dX0_thing_14) hM (fun σ2 v3 H locs hf hM => ?_)
    refine lv_if_ne (tgt := 22) hx hb dX0_thing_17 (by decide) (fun b4 => ?_) (fun b4 => ?_)
    · replace hf := hf.2 b4
      refine lv_aload_n hx hb dX0_thing_22 rfl (lv_at hl 0 rfl) ?_
      refine g_geti K kX hM 2 rfl q163 rfl dX0_thing_23 rfl ?_
      refine lv_bipush (v := 6) hx hb dX0_thing_26 rfl ?_
      refine lv_icmp_ne (tgt := 34) hx hb dX0_thing_28 (by decide) (fun b5 => ?_) (fun b5 => ?_)
      · replace hf := hf.2 b5
        refine lv_aload_n hx hb dX0_thing_34 rfl (lv_at hl 0 rfl) ?_
        refine g_geta K kX hM 0 rfl q161 rfl dX0_thing_35 rfl ?_
        refine lv_aload_n hx hb dX0_thing_38 rfl (lv_at hl 0 rfl) ?_
        refine g_geti K kX hM 2 rfl q163 rfl dX0_thing_39 rfl ?_
        obtain ⟨b8, s9, g10, g11, hf⟩ := hf
        refine p_new K kY3 hM q135 q264 q85 hf0X3 (bud_le hc.1 g10) (bud_le hc.2 g11) dX0_thing_42 (fun H a6 σ7 ea6 hσ7 hM => ?_)
        have hf := hf a6 ea6 σ7 hσ7
        replace hc := And.intro (bud hc.1 g10) (bud hc.2 g11)
        refine lv_dup hx hb dX0_thing_45 rfl ?_
        refine lv_iload_n hx hb dX0_thing_46 rfl (lv_at hl 1 rfl) ?_
        refine lv_iload_n hx hb dX0_thing_47 rfl (lv_at hl 2 rfl) ?_
        refine lv_bipush (v := 100) hx hb dX0_thing_48 rfl ?_
        refine lv_idiv hx hb dX0_thing_50 (by decide) ?_
        refine lv_iload_n hx hb dX0_thing_51 rfl (lv_at hl 2 rfl) ?_
        refine lv_bipush (v := 100) hx hb dX0_thing_52 rfl ?_
        refine lv_irem hx hb dX0_thing_54 (by decide) ?_
        refine lv_iload_n hx hb dX0_thing_55 rfl (lv_at hl 3 rfl) ?_
        refine g_runv (rI [.int x1, .int (x2 / (100 : Int32)), .int (x2 - x2 / (100 : Int32) * (100 : Int32)), .int x3] [.ref a6, .int (gI σ2 2), .ref (r.2.2.1 0)] K hM hl (c_X3_init l r A _ _ _ _ _ _ _ hf) q265 q266 q85 q267 hdX3_init ⟨Nat.le_of_ble_eq_true rfl, Nat.le_of_ble_eq_true rfl⟩ ⟨bud_ret hc.1, bud_ret hc.2⟩ rfl (Nat.le_of_ble_eq_true rfl) dX0_thing_56) hM (fun σ12 H locs hf hM => ?_)
        obtain ⟨g14, hf⟩ := hf
        obtain ⟨f15, h16, hf⟩ := hf
        refine g_aast K kY3 hM 0 rfl rfl rfl rfl h16 g14 dX0_thing_59 (fun H locs σ17 hσ17 hM => ?_)
        have hf := hf σ17 hσ17
        refine lv_aload_n hx hb dX0_thing_60 rfl (lv_at hl 0 rfl) ?_
        refine lv_dup hx hb dX0_thing_61 rfl ?_
        refine g_geti K kX hM 2 rfl q163 rfl dX0_thing_62 rfl ?_
        refine lv_iconst (v := 1) hx hb dX0_thing_65 rfl ?_
        refine lv_iadd hx hb dX0_thing_66 ?_
        refine g_putiN K kX hM 2 rfl q163 rfl dX0_thing_67 rfl rfl rfl (fun H locs σ18 hσ18 hM => ?_)
        have hf := hf σ18 hσ18
        refine lv_aload_n hx hb dX0_thing_70 rfl (lv_at hl 0 rfl) ?_
        refine g_geti K kX hM 2 rfl q163 rfl dX0_thing_71 rfl ?_
        refine lv_iconst (v := 1) hx hb dX0_thing_74 rfl ?_
        refine lv_isub hx hb dX0_thing_75 ?_
        exact g_reti K hr hM ⟨bud_ret hc.1, bud_ret hc.2⟩ hf dX0_thing_76
      · replace hf := hf.1 b5
        refine lv_bipush (v := -3) hx hb dX0_thing_31 rfl ?_
        exact g_reti K hr hM ⟨bud_ret hc.1, bud_ret hc.2⟩ hf dX0_thing_33
    · replace hf := hf.1 b4
      refine lv_iconst (v := -1) hx hb dX0_thing_20 rfl ?_
      exact g_reti K hr hM ⟨bud_ret hc.1, bud_ret hc.2⟩ hf dX0_thing_21
theorem c_X0_isShelf (l : Launch) (r : GR) (A : Nat → Prop) (σ : GS) (x0 : Int32) (P : GS → Int32 → Prop) (hf : f_X0_isShelf r σ x0 P) : gMet dX l yX0_isShelf cX0_isShelf 1 (some .boolean) 1 22 0 0 r A σ [.int x0] (zI P) := by
  refine g_enter (lv := [(0, .int x0)]) (by decide) (Nat.le_of_ble_eq_true rfl) rfl ?_
  intro p e s m below meth c ls K hr hM hl hi
  obtain ⟨hx, hb, hml, hown, hts, hlk, hKK, hA⟩ := id K
  unfold f_X0_isShelf at hf
  refine lv_iload_n hx hb dX0_isShelf_0 rfl (lv_at hl 0 rfl) ?_
  refine lv_iconst (v := 0) hx hb dX0_isShelf_1 rfl ?_
  refine lv_iconst (v := 5) hx hb dX0_isShelf_2 rfl ?_
  refine g_runi (rS [.int x0, .int (0 : Int32), .int (5 : Int32)] [] K hM hl (c_X0_in l r A _ _ _ _ _ hf) q261 q262 q82 q263 hdX0_in ⟨Nat.le_of_ble_eq_true rfl, Nat.le_of_ble_eq_true rfl⟩ ⟨Nat.le_refl _, Nat.le_refl _⟩ rfl (Nat.le_of_ble_eq_true rfl) dX0_isShelf_3) hM (fun σ1 v2 H locs hf hM => ?_)
  obtain ⟨g3, hf⟩ := hf
  exact g_retz K hr hM ⟨Nat.le_refl _, Nat.le_refl _⟩ g3 hf dX0_isShelf_6
theorem c_X5_init (l : Launch) (r : GR) (A : Nat → Prop) (σ : GS) (x0 : Nat) (x1 : Int32) (x2 : Int32) (x3 : Int32) (x4 : Int32) (x5 : Int32) (P : GS → Prop) (hf : f_X5_init r σ x0 x1 x2 x3 x4 x5 P) : gMet dX l yX5_init cX5_init 6 none 1 24 0 0 r A σ [.ref x0, .int x1, .int x2, .int x3, .int x4, .int x5] (zV P) := by
  refine g_enter (lv := [(0, .ref x0), (1, .int x1), (2, .int x2), (3, .int x3), (4, .int x4), (5, .int x5)]) (by decide) (Nat.le_of_ble_eq_true rfl) rfl ?_
  intro p e s m below meth c ls K hr hM hl hi
  obtain ⟨hx, hb, hml, hown, hts, hlk, hKK, hA⟩ := id K
  unfold f_X5_init at hf
  refine lv_aload_n hx hb dX5_init_0 rfl (lv_at hl 0 rfl) ?_
  refine rO K hl q434 q133 q134 ⟨Nat.le_of_ble_eq_true rfl, Nat.le_of_ble_eq_true rfl⟩ dX5_init_1 ?_
  refine lv_aload_n hx hb dX5_init_4 rfl (lv_at hl 0 rfl) ?_
  refine lv_iload_n hx hb dX5_init_5 rfl (lv_at hl 1 rfl) ?_
  refine p_putF K kY5 nmX5 hM 0 rfl q435 rfl dX5_init_6 rfl (hi rfl) rfl rfl rfl hf (fun H locs σ1 hf hM => ?_)
  refine lv_aload_n hx hb dX5_init_9 rfl (lv_at hl 0 rfl) ?_
  refine lv_iload_n hx hb dX5_init_10 rfl (lv_at hl 2 rfl) ?_
  refine p_put K kY5 nmX5 hM 3 rfl q441 rfl dX5_init_11 rfl rfl rfl hf (fun H locs σ2 hf hM => ?_)
  refine lv_aload_n hx hb dX5_init_14 rfl (lv_at hl 0 rfl) ?_
  refine lv_iload_n hx hb dX5_init_15 rfl (lv_at hl 3 rfl) ?_
  refine p_put K kY5 nmX5 hM 4 rfl q443 rfl dX5_init_16 rfl rfl rfl hf (fun H locs σ3 hf hM => ?_)
  refine lv_aload_n hx hb dX5_init_19 rfl (lv_at hl 0 rfl) ?_
  refine lv_iload hx hb dX5_init_20 (lv_at hl 4 rfl) ?_
  refine p_putF K kY5 nmX5 hM 1 rfl q437 rfl dX5_init_22 rfl (hi rfl) rfl rfl rfl hf (fun H locs σ4 hf hM => ?_)
  refine lv_aload_n hx hb dX5_init_25 rfl (lv_at hl 0 rfl) ?_
  refine lv_iload hx hb dX5_init_26 (lv_at hl 5 rfl) ?_
  refine p_putF K kY5 nmX5 hM 2 rfl q439 rfl dX5_init_28 rfl (hi rfl) rfl rfl rfl hf (fun H locs σ5 hf hM => ?_)
  exact g_retv K hr hM ⟨Nat.le_refl _, Nat.le_refl _⟩ hf dX5_init_31
theorem c_X0_sort (l : Launch) (r : GR) (A : Nat → Prop) (bc bs : Nat) (σ : GS) (x1 : Int32) (x2 : Int32) (x3 : Int32) (P : GS → Int32 → Prop) (hf : f_X0_sort r bc bs σ x1 x2 x3 P) : gMet dX l yX0_sort cX0_sort 4 (some .int) 2 49 bc bs r A σ [.ref r.2.1, .int x1, .int x2, .int x3] (zI P) := by
  refine g_enter (lv := [(0, .ref r.2.1), (1, .int x1), (2, .int x2), (3, .int x3)]) (by decide) (Nat.le_of_ble_eq_true rfl) rfl ?_
  intro p e s m below meth c ls K hr hM hl hi
  obtain ⟨hx, hb, hml, hown, hts, hlk, hKK, hA⟩ := id K
  unfold f_X0_sort at hf
  generalize hB_ : bc = B
  generalize hS_ : bs = S
  have hc : 0 + bc ≤ B ∧ 0 + bs ≤ S := ⟨bud_0 hB_, bud_0 hS_⟩
  refine lv_iload_n hx hb dX0_sort_0 rfl (lv_at hl 1 rfl) ?_
  refine lv_iconst (v := 1) hx hb dX0_sort_1 rfl ?_
  refine lv_bipush (v := 99) hx hb dX0_sort_2 rfl ?_
  refine g_runi (rS [.int x1, .int (1 : Int32), .int (99 : Int32)] [] K hM hl (c_X0_in l r A _ _ _ _ _ hf) q261 q262 q82 q263 hdX0_in ⟨Nat.le_of_ble_eq_true rfl, Nat.le_of_ble_eq_true rfl⟩ ⟨bud_ret hc.1, bud_ret hc.2⟩ rfl (Nat.le_of_ble_eq_true rfl) dX0_sort_4) hM (fun σ1 v2 H locs hf hM => ?_)
  refine lv_if_eq (tgt := 44) hx hb dX0_sort_7 (by decide) (fun b3 => ?_) (fun b3 => ?_)
  · replace hf := hf.1 b3
    refine lv_iconst (v := -1) hx hb dX0_sort_44 rfl ?_
    exact g_reti K hr hM ⟨bud_ret hc.1, bud_ret hc.2⟩ hf dX0_sort_45
  · replace hf := hf.2 b3
    refine lv_iload_n hx hb dX0_sort_10 rfl (lv_at hl 2 rfl) ?_
    refine lv_iconst (v := 0) hx hb dX0_sort_11 rfl ?_
    refine lv_sipush (v := 9999) hx hb dX0_sort_12 rfl ?_
    refine g_runi (rS [.int x2, .int (0 : Int32), .int (9999 : Int32)] [] K hM hl (c_X0_in l r A _ _ _ _ _ hf) q261 q262 q82 q263 hdX0_in ⟨Nat.le_of_ble_eq_true rfl, Nat.le_of_ble_eq_true rfl⟩ ⟨bud_ret hc.1, bud_ret hc.2⟩ rfl (Nat.le_of_ble_eq_true rfl) dX0_sort_15) hM (fun σ4 v5 H locs hf hM => ?_)
    refine lv_if_eq (tgt := 44) hx hb dX0_sort_18 (by decide) (fun b6 => ?_) (fun b6 => ?_)
    · replace hf := hf.1 b6
      refine lv_iconst (v := -1) hx hb dX0_sort_44 rfl ?_
      exact g_reti K hr hM ⟨bud_ret hc.1, bud_ret hc.2⟩ hf dX0_sort_45
    · replace hf := hf.2 b6
      refine lv_iload_n hx hb dX0_sort_21 rfl (lv_at hl 3 rfl) ?_
      refine lv_if_lt (tgt := 44) hx hb dX0_sort_22 (by decide) (fun b7 => ?_) (fun b7 => ?_)
      · replace hf := hf.1 b7
        refine lv_iconst (v := -1) hx hb dX0_sort_44 rfl ?_
        exact g_reti K hr hM ⟨bud_ret hc.1, bud_ret hc.2⟩ hf dX0_sort_45
      · replace hf := hf.2 b7
        refine lv_iload_n hx hb dX0_sort_25 rfl (lv_at hl 3 rfl) ?_
        refine lv_bipush (v := 10) hx hb dX0_sort_26 rfl ?_
        refine lv_idiv hx hb dX0_sort_28 (by decide) ?_
        refine lv_iconst (v := 3) hx hb dX0_sort_29 rfl ?_
        refine lv_icmp_gt (tgt := 44) hx hb dX0_sort_30 (by decide) (fun b8 => ?_) (fun b8 => ?_)
        · replace hf := hf.1 b8
          refine lv_iconst (v := -1) hx hb dX0_sort_44 rfl ?_
          exact g_reti K hr hM ⟨bud_ret hc.1, bud_ret hc.2⟩ hf dX0_sort_45
        · replace hf := hf.2 b8
          refine lv_iload_n hx hb dX0_sort_33 rfl (lv_at hl 3 rfl) ?_
          refine lv_bipush (v := 10) hx hb dX0_sort_34 rfl ?_
          refine lv_irem hx hb dX0_sort_36 (by decide) ?_
          refine lv_aload_n hx hb dX0_sort_37 rfl (lv_at hl 0 rfl) ?_
          refine g_geti K kX hM 10 rfl q173 rfl dX0_sort_38 rfl ?_
          refine lv_icmp_lt (tgt := 46) hx hb dX0_sort_41 (by decide) (fun b9 => ?_) (fun b9 => ?_)
          · replace hf := hf.1 b9
            refine lv_aload_n hx hb dX0_sort_46 rfl (lv_at hl 0 rfl) ?_
            refine g_geti K kX hM 3 rfl q164 rfl dX0_sort_47 rfl ?_
            refine lv_iconst (v := 5) hx hb dX0_sort_50 rfl ?_
            refine lv_icmp_ne (tgt := 57) hx hb dX0_sort_51 (by decide) (fun b10 => ?_) (fun b10 => ?_)
            · replace hf := hf.2 b10
              refine lv_aload_n hx hb dX0_sort_57 rfl (lv_at hl 0 rfl) ?_
              refine g_geta K kX hM 1 rfl q162 rfl dX0_sort_58 rfl ?_
              refine lv_aload_n hx hb dX0_sort_61 rfl (lv_at hl 0 rfl) ?_
              refine g_geti K kX hM 3 rfl q164 rfl dX0_sort_62 rfl ?_
              obtain ⟨b13, s14, g15, g16, hf⟩ := hf
              refine p_new K kY5 hM q137 q430 q95 hf0X5 (bud_le hc.1 g15) (bud_le hc.2 g16) dX0_sort_65 (fun H a11 σ12 ea11 hσ12 hM => ?_)
              have hf := hf a11 ea11 σ12 hσ12
              replace hc := And.intro (bud hc.1 g15) (bud hc.2 g16)
              refine lv_dup hx hb dX0_sort_68 rfl ?_
              refine lv_iload_n hx hb dX0_sort_69 rfl (lv_at hl 1 rfl) ?_
              refine lv_iload_n hx hb dX0_sort_70 rfl (lv_at hl 2 rfl) ?_
              refine lv_bipush (v := 100) hx hb dX0_sort_71 rfl ?_
              refine lv_idiv hx hb dX0_sort_73 (by decide) ?_
              refine lv_iload_n hx hb dX0_sort_74 rfl (lv_at hl 2 rfl) ?_
              refine lv_bipush (v := 100) hx hb dX0_sort_75 rfl ?_
              refine lv_irem hx hb dX0_sort_77 (by decide) ?_
              refine lv_iload_n hx hb dX0_sort_78 rfl (lv_at hl 3 rfl) ?_
              refine lv_bipush (v := 10) hx hb dX0_sort_79 rfl ?_
              refine lv_idiv hx hb dX0_sort_81 (by decide) ?_
              refine lv_iload_n hx hb dX0_sort_82 rfl (lv_at hl 3 rfl) ?_
              refine lv_bipush (v := 10) hx hb dX0_sort_83 rfl ?_
              refine lv_irem hx hb dX0_sort_85 (by decide) ?_
              refine g_runv (rI [.int x1, .int (x2 / (100 : Int32)), .int (x2 - x2 / (100 : Int32) * (100 : Int32)), .int (x3 / (10 : Int32)), .int (x3 - x3 / (10 : Int32) * (10 : Int32))] [.ref a11, .int (gI σ4 3), .ref (r.2.2.1 1)] K hM hl (c_X5_init l r A _ _ _ _ _ _ _ _ hf) q431 q432 q95 q433 hdX5_init ⟨Nat.le_of_ble_eq_true rfl, Nat.le_of_ble_eq_true rfl⟩ ⟨bud_ret hc.1, bud_ret hc.2⟩ rfl (Nat.le_of_ble_eq_true rfl) dX0_sort_86) hM (fun σ17 H locs hf hM => ?_)
              obtain ⟨g19, hf⟩ := hf
              obtain ⟨f20, h21, hf⟩ := hf
              refine g_aast K kY5 hM 1 rfl rfl rfl rfl h21 g19 dX0_sort_89 (fun H locs σ22 hσ22 hM => ?_)
              have hf := hf σ22 hσ22
              refine lv_aload_n hx hb dX0_sort_90 rfl (lv_at hl 0 rfl) ?_
              refine lv_dup hx hb dX0_sort_91 rfl ?_
              refine g_geti K kX hM 3 rfl q164 rfl dX0_sort_92 rfl ?_
              refine lv_iconst (v := 1) hx hb dX0_sort_95 rfl ?_
              refine lv_iadd hx hb dX0_sort_96 ?_
              refine g_putiN K kX hM 3 rfl q164 rfl dX0_sort_97 rfl rfl rfl (fun H locs σ23 hσ23 hM => ?_)
              have hf := hf σ23 hσ23
              refine lv_aload_n hx hb dX0_sort_100 rfl (lv_at hl 0 rfl) ?_
              refine g_geti K kX hM 3 rfl q164 rfl dX0_sort_101 rfl ?_
              refine lv_iconst (v := 1) hx hb dX0_sort_104 rfl ?_
              refine lv_isub hx hb dX0_sort_105 ?_
              exact g_reti K hr hM ⟨bud_ret hc.1, bud_ret hc.2⟩ hf dX0_sort_106
            · replace hf := hf.1 b10
              refine lv_bipush (v := -3) hx hb dX0_sort_54 rfl ?_
              exact g_reti K hr hM ⟨bud_ret hc.1, bud_ret hc.2⟩ hf dX0_sort_56
          · replace hf := hf.2 b9
            refine lv_iconst (v := -1) hx hb dX0_sort_44 rfl ?_
            exact g_reti K hr hM ⟨bud_ret hc.1, bud_ret hc.2⟩ hf dX0_sort_45
theorem c_X0_isSort (l : Launch) (r : GR) (A : Nat → Prop) (σ : GS) (x1 : Int32) (P : GS → Int32 → Prop) (hf : f_X0_isSort r σ x1 P) : gMet dX l yX0_isSort cX0_isSort 2 (some .boolean) 1 22 0 0 r A σ [.ref r.2.1, .int x1] (zI P) := by
  refine g_enter (lv := [(0, .ref r.2.1), (1, .int x1)]) (by decide) (Nat.le_of_ble_eq_true rfl) rfl ?_
  intro p e s m below meth c ls K hr hM hl hi
  obtain ⟨hx, hb, hml, hown, hts, hlk, hKK, hA⟩ := id K
  unfold f_X0_isSort at hf
  refine lv_iload_n hx hb dX0_isSort_0 rfl (lv_at hl 1 rfl) ?_
  refine lv_iconst (v := 0) hx hb dX0_isSort_1 rfl ?_
  refine lv_aload_n hx hb dX0_isSort_2 rfl (lv_at hl 0 rfl) ?_
  refine g_geti K kX hM 3 rfl q164 rfl dX0_isSort_3 rfl ?_
  refine lv_iconst (v := 1) hx hb dX0_isSort_6 rfl ?_
  refine lv_isub hx hb dX0_isSort_7 ?_
  refine g_runi (rS [.int x1, .int (0 : Int32), .int ((gI σ 3) - (1 : Int32))] [] K hM hl (c_X0_in l r A _ _ _ _ _ hf) q261 q262 q82 q263 hdX0_in ⟨Nat.le_of_ble_eq_true rfl, Nat.le_of_ble_eq_true rfl⟩ ⟨Nat.le_refl _, Nat.le_refl _⟩ rfl (Nat.le_of_ble_eq_true rfl) dX0_isSort_8) hM (fun σ1 v2 H locs hf hM => ?_)
  obtain ⟨g3, hf⟩ := hf
  exact g_retz K hr hM ⟨Nat.le_refl _, Nat.le_refl _⟩ g3 hf dX0_isSort_11
theorem c_X0_isThing (l : Launch) (r : GR) (A : Nat → Prop) (σ : GS) (x1 : Int32) (P : GS → Int32 → Prop) (hf : f_X0_isThing r σ x1 P) : gMet dX l yX0_isThing cX0_isThing 2 (some .boolean) 1 22 0 0 r A σ [.ref r.2.1, .int x1] (zI P) := by
  refine g_enter (lv := [(0, .ref r.2.1), (1, .int x1)]) (by decide) (Nat.le_of_ble_eq_true rfl) rfl ?_
  intro p e s m below meth c ls K hr hM hl hi
  obtain ⟨hx, hb, hml, hown, hts, hlk, hKK, hA⟩ := id K
  unfold f_X0_isThing at hf
  refine lv_iload_n hx hb dX0_isThing_0 rfl (lv_at hl 1 rfl) ?_
  refine lv_iconst (v := 0) hx hb dX0_isThing_1 rfl ?_
  refine lv_aload_n hx hb dX0_isThing_2 rfl (lv_at hl 0 rfl) ?_
  refine g_geti K kX hM 2 rfl q163 rfl dX0_isThing_3 rfl ?_
  refine lv_iconst (v := 1) hx hb dX0_isThing_6 rfl ?_
  refine lv_isub hx hb dX0_isThing_7 ?_
  refine g_runi (rS [.int x1, .int (0 : Int32), .int ((gI σ 2) - (1 : Int32))] [] K hM hl (c_X0_in l r A _ _ _ _ _ hf) q261 q262 q82 q263 hdX0_in ⟨Nat.le_of_ble_eq_true rfl, Nat.le_of_ble_eq_true rfl⟩ ⟨Nat.le_refl _, Nat.le_refl _⟩ rfl (Nat.le_of_ble_eq_true rfl) dX0_isThing_8) hM (fun σ1 v2 H locs hf hM => ?_)
  obtain ⟨g3, hf⟩ := hf
  exact g_retz K hr hM ⟨Nat.le_refl _, Nat.le_refl _⟩ g3 hf dX0_isThing_11
theorem c_X5_points (l : Launch) (r : GR) (A : Nat → Prop) (σ : GS) (x0 : Nat) (P : GS → Int32 → Prop) (hf : f_X5_points r σ x0 P) : gMet dX l yX5_points cX5_points 1 (some .int) 0 0 0 0 r A σ [.ref x0] (zI P) := by
  refine g_enter (lv := [(0, .ref x0)]) (by decide) (Nat.le_of_ble_eq_true rfl) rfl ?_
  intro p e s m below meth c ls K hr hM hl hi
  obtain ⟨hx, hb, hml, hown, hts, hlk, hKK, hA⟩ := id K
  unfold f_X5_points at hf
  refine lv_aload_n hx hb dX5_points_0 rfl (lv_at hl 0 rfl) ?_
  obtain ⟨v2, h1, hf⟩ := hf
  refine p_get K kY5 hM 4 rfl q443 rfl dX5_points_1 h1 ?_
  refine lv_bipush (v := 10) hx hb dX5_points_4 rfl ?_
  refine lv_aload_n hx hb dX5_points_6 rfl (lv_at hl 0 rfl) ?_
  obtain ⟨v4, h3, hf⟩ := hf
  refine p_get K kY5 hM 1 rfl q437 rfl dX5_points_7 h3 ?_
  refine lv_imul hx hb dX5_points_10 ?_
  refine lv_iadd hx hb dX5_points_11 ?_
  exact g_reti K hr hM ⟨Nat.le_refl _, Nat.le_refl _⟩ hf dX5_points_12
theorem c_X0_of (l : Launch) (r : GR) (A : Nat → Prop) (σ : GS) (x1 : Int32) (x2 : Int32) (P : GS → Int32 → Prop) (hf : f_X0_of r σ x1 x2 P) : gMet dX l yX0_of cX0_of 4 (some .int) 2 43 0 0 r A σ [.ref r.2.1, .int x1, .int x2] (zI P) := by
  refine g_enter (lv := [(0, .ref r.2.1), (1, .int x1), (2, .int x2)]) (by decide) (Nat.le_of_ble_eq_true rfl) rfl ?_
  intro p e s m below meth c ls K hr hM hl hi
  obtain ⟨hx, hb, hml, hown, hts, hlk, hKK, hA⟩ := id K
  unfold f_X0_of at hf
  refine lv_iload_n hx hb dX0_of_0 rfl (lv_at hl 2 rfl) ?_
  refine lv_bipush (v := 10) hx hb dX0_of_1 rfl ?_
  refine lv_icmp_lt (tgt := 87) hx hb dX0_of_3 (by decide) (fun b1 => ?_) (fun b1 => ?_)
  · replace hf := hf.1 b1
    refine lv_aload_n hx hb dX0_of_87 rfl (lv_at hl 0 rfl) ?_
    refine lv_iload_n hx hb dX0_of_88 rfl (lv_at hl 1 rfl) ?_
    refine g_runi (rV [.int x1] [] K kX hM hl (c_X0_isThing l r A _ _ _ hf) q471 q473 qs3 q82 q474 hdX0_isThing ⟨Nat.le_of_ble_eq_true rfl, Nat.le_of_ble_eq_true rfl⟩ ⟨Nat.le_refl _, Nat.le_refl _⟩ rfl (Nat.le_of_ble_eq_true rfl) dX0_of_89) hM (fun σ2 v3 H locs hf hM => ?_)
    refine lv_if_ne (tgt := 97) hx hb dX0_of_92 (by decide) (fun b4 => ?_) (fun b4 => ?_)
    · replace hf := hf.2 b4
      refine lv_aload_n hx hb dX0_of_97 rfl (lv_at hl 0 rfl) ?_
      refine g_geta K kX hM 0 rfl q161 rfl dX0_of_98 rfl ?_
      refine lv_iload_n hx hb dX0_of_101 rfl (lv_at hl 1 rfl) ?_
      obtain ⟨g5, hf⟩ := hf
      obtain ⟨a6, h7, hf⟩ := hf
      refine g_aaldS K hM 0 rfl rfl rfl rfl g5 h7 dX0_of_102 ?_
      refine lv_astore_n (lv' := [(3, .ref a6), (0, .ref r.2.1), (1, .int x1), (2, .int x2)]) hx hb dX0_of_103 rfl hl (by decide) rfl (fun ls hl => ?_)
      refine lv_iload_n hx hb dX0_of_104 rfl (lv_at hl 3 rfl) ?_
      by_cases b16_0 : x2 = (0 : Int32)
      · replace hf := hf.1 b16_0
        refine lv_tableIn (off := 31) (tgt := 136) hx hb dX0_of_105 (by rw [b16_0]; decide) (by rw [b16_0]; decide) (by rw [b16_0]; rfl) (by decide) ?_
        refine lv_aload_n hx hb dX0_of_136 rfl (lv_at hl 0 rfl) ?_
        obtain ⟨v9, h8, hf⟩ := hf
        refine p_getN K kY3 hM 1 rfl q272 rfl dX0_of_137 h8 ?_
        exact g_reti K hr hM ⟨Nat.le_refl _, Nat.le_refl _⟩ hf dX0_of_140
      replace hf := hf.2 b16_0
      by_cases b16_1 : x2 = (1 : Int32)
      · replace hf := hf.1 b16_1
        refine lv_tableIn (off := 36) (tgt := 141) hx hb dX0_of_105 (by rw [b16_1]; decide) (by rw [b16_1]; decide) (by rw [b16_1]; rfl) (by decide) ?_
        refine lv_aload_n hx hb dX0_of_141 rfl (lv_at hl 0 rfl) ?_
        obtain ⟨v11, h10, hf⟩ := hf
        refine p_getN K kY3 hM 2 rfl q274 rfl dX0_of_142 h10 ?_
        exact g_reti K hr hM ⟨Nat.le_refl _, Nat.le_refl _⟩ hf dX0_of_145
      replace hf := hf.2 b16_1
      by_cases b16_2 : x2 = (2 : Int32)
      · replace hf := hf.1 b16_2
        refine lv_tableIn (off := 41) (tgt := 146) hx hb dX0_of_105 (by rw [b16_2]; decide) (by rw [b16_2]; decide) (by rw [b16_2]; rfl) (by decide) ?_
        refine lv_aload_n hx hb dX0_of_146 rfl (lv_at hl 0 rfl) ?_
        obtain ⟨v13, h12, hf⟩ := hf
        refine p_getN K kY3 hM 3 rfl q276 rfl dX0_of_147 h12 ?_
        exact g_reti K hr hM ⟨Nat.le_refl _, Nat.le_refl _⟩ hf dX0_of_150
      replace hf := hf.2 b16_2
      by_cases b16_3 : x2 = (3 : Int32)
      · replace hf := hf.1 b16_3
        refine lv_tableIn (off := 46) (tgt := 151) hx hb dX0_of_105 (by rw [b16_3]; decide) (by rw [b16_3]; decide) (by rw [b16_3]; rfl) (by decide) ?_
        refine lv_aload_n hx hb dX0_of_151 rfl (lv_at hl 0 rfl) ?_
        obtain ⟨v15, h14, hf⟩ := hf
        refine p_getN K kY3 hM 0 rfl q270 rfl dX0_of_152 h14 ?_
        exact g_reti K hr hM ⟨Nat.le_refl _, Nat.le_refl _⟩ hf dX0_of_155
      replace hf := hf.2 b16_3
      refine lv_tableOut (tgt := 156) hx hb dX0_of_105 (by have := lv_neT (a := 0) b16_0 rfl; have := lv_neT (a := 1) b16_1 rfl; have := lv_neT (a := 2) b16_2 rfl; have := lv_neT (a := 3) b16_3 rfl; omega) (by decide) ?_
      refine lv_iconst (v := -1) hx hb dX0_of_156 rfl ?_
      exact g_reti K hr hM ⟨Nat.le_refl _, Nat.le_refl _⟩ hf dX0_of_157
    · replace hf := hf.1 b4
      refine lv_iconst (v := -1) hx hb dX0_of_95 rfl ?_
      exact g_reti K hr hM ⟨Nat.le_refl _, Nat.le_refl _⟩ hf dX0_of_96
  · replace hf := hf.2 b1
    refine lv_aload_n hx hb dX0_of_6 rfl (lv_at hl 0 rfl) ?_
    refine lv_iload_n hx hb dX0_of_7 rfl (lv_at hl 1 rfl) ?_
    refine g_runi (rV [.int x1] [] K kX hM hl (c_X0_isSort l r A _ _ _ hf) q463 q465 qs2 q82 q466 hdX0_isSort ⟨Nat.le_of_ble_eq_true rfl, Nat.le_of_ble_eq_true rfl⟩ ⟨Nat.le_refl _, Nat.le_refl _⟩ rfl (Nat.le_of_ble_eq_true rfl) dX0_of_8) hM (fun σ17 v18 H locs hf hM => ?_)
    refine lv_if_ne (tgt := 16) hx hb dX0_of_11 (by decide) (fun b19 => ?_) (fun b19 => ?_)
    · replace hf := hf.2 b19
      refine lv_aload_n hx hb dX0_of_16 rfl (lv_at hl 0 rfl) ?_
      refine g_geta K kX hM 1 rfl q162 rfl dX0_of_17 rfl ?_
      refine lv_iload_n hx hb dX0_of_20 rfl (lv_at hl 1 rfl) ?_
      obtain ⟨g20, hf⟩ := hf
      obtain ⟨a21, h22, hf⟩ := hf
      refine g_aaldS K hM 1 rfl rfl rfl rfl g20 h22 dX0_of_21 ?_
      refine lv_astore_n (lv' := [(3, .ref a21), (0, .ref r.2.1), (1, .int x1), (2, .int x2)]) hx hb dX0_of_22 rfl hl (by decide) rfl (fun ls hl => ?_)
      refine lv_iload_n hx hb dX0_of_23 rfl (lv_at hl 3 rfl) ?_
      by_cases b35_0 : x2 = (10 : Int32)
      · replace hf := hf.1 b35_0
        refine lv_tableIn (off := 36) (tgt := 60) hx hb dX0_of_24 (by rw [b35_0]; decide) (by rw [b35_0]; decide) (by rw [b35_0]; rfl) (by decide) ?_
        refine lv_aload_n hx hb dX0_of_60 rfl (lv_at hl 0 rfl) ?_
        obtain ⟨v24, h23, hf⟩ := hf
        refine p_getN K kY5 hM 0 rfl q436 rfl dX0_of_61 h23 ?_
        exact g_reti K hr hM ⟨Nat.le_refl _, Nat.le_refl _⟩ hf dX0_of_64
      replace hf := hf.2 b35_0
      by_cases b35_1 : x2 = (11 : Int32)
      · replace hf := hf.1 b35_1
        refine lv_tableIn (off := 41) (tgt := 65) hx hb dX0_of_24 (by rw [b35_1]; decide) (by rw [b35_1]; decide) (by rw [b35_1]; rfl) (by decide) ?_
        refine lv_aload_n hx hb dX0_of_65 rfl (lv_at hl 0 rfl) ?_
        obtain ⟨v26, h25, hf⟩ := hf
        refine p_getN K kY5 hM 3 rfl q442 rfl dX0_of_66 h25 ?_
        exact g_reti K hr hM ⟨Nat.le_refl _, Nat.le_refl _⟩ hf dX0_of_69
      replace hf := hf.2 b35_1
      by_cases b35_2 : x2 = (12 : Int32)
      · replace hf := hf.1 b35_2
        refine lv_tableIn (off := 46) (tgt := 70) hx hb dX0_of_24 (by rw [b35_2]; decide) (by rw [b35_2]; decide) (by rw [b35_2]; rfl) (by decide) ?_
        refine lv_aload_n hx hb dX0_of_70 rfl (lv_at hl 0 rfl) ?_
        obtain ⟨f29, h30, hf⟩ := hf
        refine g_runi (rP [] [] K kY5 hM hl h30 (c_X5_points l r A _ _ _ hf) q467 q468 q469 q95 q470 hdX5_points ⟨Nat.le_of_ble_eq_true rfl, Nat.le_of_ble_eq_true rfl⟩ ⟨Nat.le_refl _, Nat.le_refl _⟩ rfl (Nat.le_of_ble_eq_true rfl) dX0_of_71) hM (fun σ27 v28 H locs hf hM => ?_)
        exact g_reti K hr hM ⟨Nat.le_refl _, Nat.le_refl _⟩ hf dX0_of_74
      replace hf := hf.2 b35_2
      by_cases b35_3 : x2 = (13 : Int32)
      · replace hf := hf.1 b35_3
        refine lv_tableIn (off := 51) (tgt := 75) hx hb dX0_of_24 (by rw [b35_3]; decide) (by rw [b35_3]; decide) (by rw [b35_3]; rfl) (by decide) ?_
        refine lv_aload_n hx hb dX0_of_75 rfl (lv_at hl 0 rfl) ?_
        obtain ⟨v32, h31, hf⟩ := hf
        refine p_getN K kY5 hM 1 rfl q438 rfl dX0_of_76 h31 ?_
        exact g_reti K hr hM ⟨Nat.le_refl _, Nat.le_refl _⟩ hf dX0_of_79
      replace hf := hf.2 b35_3
      by_cases b35_4 : x2 = (14 : Int32)
      · replace hf := hf.1 b35_4
        refine lv_tableIn (off := 56) (tgt := 80) hx hb dX0_of_24 (by rw [b35_4]; decide) (by rw [b35_4]; decide) (by rw [b35_4]; rfl) (by decide) ?_
        refine lv_aload_n hx hb dX0_of_80 rfl (lv_at hl 0 rfl) ?_
        obtain ⟨v34, h33, hf⟩ := hf
        refine p_getN K kY5 hM 2 rfl q440 rfl dX0_of_81 h33 ?_
        exact g_reti K hr hM ⟨Nat.le_refl _, Nat.le_refl _⟩ hf dX0_of_84
      replace hf := hf.2 b35_4
      refine lv_tableOut (tgt := 85) hx hb dX0_of_24 (by have := lv_neT (a := 10) b35_0 rfl; have := lv_neT (a := 11) b35_1 rfl; have := lv_neT (a := 12) b35_2 rfl; have := lv_neT (a := 13) b35_3 rfl; have := lv_neT (a := 14) b35_4 rfl; omega) (by decide) ?_
      refine lv_iconst (v := -1) hx hb dX0_of_85 rfl ?_
      exact g_reti K hr hM ⟨Nat.le_refl _, Nat.le_refl _⟩ hf dX0_of_86
    · replace hf := hf.1 b19
      refine lv_iconst (v := -1) hx hb dX0_of_14 rfl ?_
      exact g_reti K hr hM ⟨Nat.le_refl _, Nat.le_refl _⟩ hf dX0_of_15
theorem c_X0_setTo (l : Launch) (r : GR) (A : Nat → Prop) (σ : GS) (x1 : Int32) (x2 : Int32) (x3 : Int32) (P : GS → Prop) (hf : f_X0_setTo r σ x1 x2 x3 P) : gMet dX l yX0_setTo cX0_setTo 4 none 0 0 0 0 r A σ [.ref r.2.1, .int x1, .int x2, .int x3] (zV P) := by
  refine g_enter (lv := [(0, .ref r.2.1), (1, .int x1), (2, .int x2), (3, .int x3)]) (by decide) (Nat.le_of_ble_eq_true rfl) rfl ?_
  intro p e s m below meth c ls K hr hM hl hi
  obtain ⟨hx, hb, hml, hown, hts, hlk, hKK, hA⟩ := id K
  unfold f_X0_setTo at hf
  refine lv_iload_n hx hb dX0_setTo_0 rfl (lv_at hl 1 rfl) ?_
  by_cases b21_0 : x1 = (0 : Int32)
  · replace hf := hf.1 b21_0
    refine lv_tableIn (off := 31) (tgt := 32) hx hb dX0_setTo_1 (by rw [b21_0]; decide) (by rw [b21_0]; decide) (by rw [b21_0]; rfl) (by decide) ?_
    refine lv_aload_n hx hb dX0_setTo_32 rfl (lv_at hl 0 rfl) ?_
    refine g_geta K kX hM 0 rfl q161 rfl dX0_setTo_33 rfl ?_
    refine lv_iload_n hx hb dX0_setTo_36 rfl (lv_at hl 2 rfl) ?_
    obtain ⟨g1, hf⟩ := hf
    obtain ⟨a2, h3, hf⟩ := hf
    refine g_aaldS K hM 0 rfl rfl rfl rfl g1 h3 dX0_setTo_37 ?_
    refine lv_iload_n hx hb dX0_setTo_38 rfl (lv_at hl 3 rfl) ?_
    refine p_putN K kY3 nmX3 hM 1 rfl q272 rfl dX0_setTo_39 rfl rfl rfl hf (fun H locs σ4 hf hM => ?_)
    refine lv_goto (tgt := 94) hx hb dX0_setTo_42 (by decide) ?_
    exact g_retv K hr hM ⟨Nat.le_refl _, Nat.le_refl _⟩ hf dX0_setTo_94
  replace hf := hf.2 b21_0
  by_cases b21_1 : x1 = (1 : Int32)
  · replace hf := hf.1 b21_1
    refine lv_tableIn (off := 44) (tgt := 45) hx hb dX0_setTo_1 (by rw [b21_1]; decide) (by rw [b21_1]; decide) (by rw [b21_1]; rfl) (by decide) ?_
    refine lv_aload_n hx hb dX0_setTo_45 rfl (lv_at hl 0 rfl) ?_
    refine g_geta K kX hM 0 rfl q161 rfl dX0_setTo_46 rfl ?_
    refine lv_iload_n hx hb dX0_setTo_49 rfl (lv_at hl 2 rfl) ?_
    obtain ⟨g5, hf⟩ := hf
    obtain ⟨a6, h7, hf⟩ := hf
    refine g_aaldS K hM 0 rfl rfl rfl rfl g5 h7 dX0_setTo_50 ?_
    refine lv_iload_n hx hb dX0_setTo_51 rfl (lv_at hl 3 rfl) ?_
    refine p_putN K kY3 nmX3 hM 2 rfl q274 rfl dX0_setTo_52 rfl rfl rfl hf (fun H locs σ8 hf hM => ?_)
    refine lv_goto (tgt := 94) hx hb dX0_setTo_55 (by decide) ?_
    exact g_retv K hr hM ⟨Nat.le_refl _, Nat.le_refl _⟩ hf dX0_setTo_94
  replace hf := hf.2 b21_1
  by_cases b21_2 : x1 = (2 : Int32)
  · replace hf := hf.1 b21_2
    refine lv_tableIn (off := 57) (tgt := 58) hx hb dX0_setTo_1 (by rw [b21_2]; decide) (by rw [b21_2]; decide) (by rw [b21_2]; rfl) (by decide) ?_
    refine lv_aload_n hx hb dX0_setTo_58 rfl (lv_at hl 0 rfl) ?_
    refine g_geta K kX hM 0 rfl q161 rfl dX0_setTo_59 rfl ?_
    refine lv_iload_n hx hb dX0_setTo_62 rfl (lv_at hl 2 rfl) ?_
    obtain ⟨g9, hf⟩ := hf
    obtain ⟨a10, h11, hf⟩ := hf
    refine g_aaldS K hM 0 rfl rfl rfl rfl g9 h11 dX0_setTo_63 ?_
    refine lv_iload_n hx hb dX0_setTo_64 rfl (lv_at hl 3 rfl) ?_
    refine p_putN K kY3 nmX3 hM 3 rfl q276 rfl dX0_setTo_65 rfl rfl rfl hf (fun H locs σ12 hf hM => ?_)
    refine lv_goto (tgt := 94) hx hb dX0_setTo_68 (by decide) ?_
    exact g_retv K hr hM ⟨Nat.le_refl _, Nat.le_refl _⟩ hf dX0_setTo_94
  replace hf := hf.2 b21_2
  by_cases b21_3 : x1 = (3 : Int32)
  · replace hf := hf.1 b21_3
    refine lv_tableIn (off := 70) (tgt := 71) hx hb dX0_setTo_1 (by rw [b21_3]; decide) (by rw [b21_3]; decide) (by rw [b21_3]; rfl) (by decide) ?_
    refine lv_aload_n hx hb dX0_setTo_71 rfl (lv_at hl 0 rfl) ?_
    refine g_geta K kX hM 1 rfl q162 rfl dX0_setTo_72 rfl ?_
    refine lv_iload_n hx hb dX0_setTo_75 rfl (lv_at hl 2 rfl) ?_
    obtain ⟨g13, hf⟩ := hf
    obtain ⟨a14, h15, hf⟩ := hf
    refine g_aaldS K hM 1 rfl rfl rfl rfl g13 h15 dX0_setTo_76 ?_
    refine lv_iload_n hx hb dX0_setTo_77 rfl (lv_at hl 3 rfl) ?_
    refine p_putN K kY5 nmX5 hM 3 rfl q442 rfl dX0_setTo_78 rfl rfl rfl hf (fun H locs σ16 hf hM => ?_)
    refine lv_goto (tgt := 94) hx hb dX0_setTo_81 (by decide) ?_
    exact g_retv K hr hM ⟨Nat.le_refl _, Nat.le_refl _⟩ hf dX0_setTo_94
  replace hf := hf.2 b21_3
  refine lv_tableOut (tgt := 84) hx hb dX0_setTo_1 (by have := lv_neT (a := 0) b21_0 rfl; have := lv_neT (a := 1) b21_1 rfl; have := lv_neT (a := 2) b21_2 rfl; have := lv_neT (a := 3) b21_3 rfl; omega) (by decide) ?_
  refine lv_aload_n hx hb dX0_setTo_84 rfl (lv_at hl 0 rfl) ?_
  refine g_geta K kX hM 1 rfl q162 rfl dX0_setTo_85 rfl ?_
  refine lv_iload_n hx hb dX0_setTo_88 rfl (lv_at hl 2 rfl) ?_
  obtain ⟨g17, hf⟩ := hf
  obtain ⟨a18, h19, hf⟩ := hf
  refine g_aaldS K hM 1 rfl rfl rfl rfl g17 h19 dX0_setTo_89 ?_
  refine lv_iload_n hx hb dX0_setTo_90 rfl (lv_at hl 3 rfl) ?_
  refine p_putN K kY5 nmX5 hM 4 rfl q444 rfl dX0_setTo_91 rfl rfl rfl hf (fun H locs σ20 hf hM => ?_)
  exact g_retv K hr hM ⟨Nat.le_refl _, Nat.le_refl _⟩ hf dX0_setTo_94
theorem c_X0_undo (l : Launch) (r : GR) (A : Nat → Prop) (σ : GS) (P : GS → Int32 → Prop) (hf : f_X0_undo r σ P) : gMet dX l yX0_undo cX0_undo 1 (some .int) 1 23 0 0 r A σ [.ref r.2.1] (zI P) := by
  refine g_enter (lv := [(0, .ref r.2.1)]) (by decide) (Nat.le_of_ble_eq_true rfl) rfl ?_
  intro p e s m below meth c ls K hr hM hl hi
  obtain ⟨hx, hb, hml, hown, hts, hlk, hKK, hA⟩ := id K
  unfold f_X0_undo at hf
  refine lv_aload_n hx hb dX0_undo_0 rfl (lv_at hl 0 rfl) ?_
  refine g_geti K kX hM 5 rfl q166 rfl dX0_undo_1 rfl ?_
  refine lv_if_ne (tgt := 10) hx hb dX0_undo_4 (by decide) (fun b1 => ?_) (fun b1 => ?_)
  · replace hf := hf.2 b1
    refine lv_aload_n hx hb dX0_undo_10 rfl (lv_at hl 0 rfl) ?_
    refine lv_dup hx hb dX0_undo_11 rfl ?_
    refine g_geti K kX hM 5 rfl q166 rfl dX0_undo_12 rfl ?_
    refine lv_iconst (v := 1) hx hb dX0_undo_15 rfl ?_
    refine lv_isub hx hb dX0_undo_16 ?_
    refine g_putiN K kX hM 5 rfl q166 rfl dX0_undo_17 rfl rfl rfl (fun H locs σ2 hσ2 hM => ?_)
    have hf := hf σ2 hσ2
    refine lv_aload_n hx hb dX0_undo_20 rfl (lv_at hl 0 rfl) ?_
    refine lv_dup hx hb dX0_undo_21 rfl ?_
    refine g_geti K kX hM 6 rfl q167 rfl dX0_undo_22 rfl ?_
    refine lv_iconst (v := 1) hx hb dX0_undo_25 rfl ?_
    refine lv_iadd hx hb dX0_undo_26 ?_
    refine g_putiN K kX hM 6 rfl q167 rfl dX0_undo_27 rfl rfl rfl (fun H locs σ3 hσ3 hM => ?_)
    have hf := hf σ3 hσ3
    refine lv_aload_n hx hb dX0_undo_30 rfl (lv_at hl 0 rfl) ?_
    refine lv_aload_n hx hb dX0_undo_31 rfl (lv_at hl 0 rfl) ?_
    refine g_geta K kX hM 4 rfl q165 rfl dX0_undo_32 rfl ?_
    refine lv_aload_n hx hb dX0_undo_35 rfl (lv_at hl 0 rfl) ?_
    refine g_geti K kX hM 5 rfl q166 rfl dX0_undo_36 rfl ?_
    obtain ⟨g4, hf⟩ := hf
    obtain ⟨a5, h6, hf⟩ := hf
    refine g_aaldS K hM 4 rfl rfl rfl rfl g4 h6 dX0_undo_39 ?_
    obtain ⟨v8, h7, hf⟩ := hf
    refine p_getN K kY4 hM 0 rfl q505 rfl dX0_undo_40 h7 ?_
    refine lv_aload_n hx hb dX0_undo_43 rfl (lv_at hl 0 rfl) ?_
    refine g_geta K kX hM 4 rfl q165 rfl dX0_undo_44 rfl ?_
    refine lv_aload_n hx hb dX0_undo_47 rfl (lv_at hl 0 rfl) ?_
    refine g_geti K kX hM 5 rfl q166 rfl dX0_undo_48 rfl ?_
    obtain ⟨g9, hf⟩ := hf
    obtain ⟨a10, h11, hf⟩ := hf
    refine g_aaldS K hM 4 rfl rfl rfl rfl g9 h11 dX0_undo_51 ?_
    obtain ⟨v13, h12, hf⟩ := hf
    refine p_getN K kY4 hM 1 rfl q507 rfl dX0_undo_52 h12 ?_
    refine lv_aload_n hx hb dX0_undo_55 rfl (lv_at hl 0 rfl) ?_
    refine g_geta K kX hM 4 rfl q165 rfl dX0_undo_56 rfl ?_
    refine lv_aload_n hx hb dX0_undo_59 rfl (lv_at hl 0 rfl) ?_
    refine g_geti K kX hM 5 rfl q166 rfl dX0_undo_60 rfl ?_
    obtain ⟨g14, hf⟩ := hf
    obtain ⟨a15, h16, hf⟩ := hf
    refine g_aaldS K hM 4 rfl rfl rfl rfl g14 h16 dX0_undo_63 ?_
    obtain ⟨v18, h17, hf⟩ := hf
    refine p_getN K kY4 hM 2 rfl q509 rfl dX0_undo_64 h17 ?_
    refine g_runv (rV [.int v8, .int v13, .int v18] [] K kX hM hl (c_X0_setTo l r A _ _ _ _ _ hf) q479 q481 qs4 q82 q482 hdX0_setTo ⟨Nat.le_of_ble_eq_true rfl, Nat.le_of_ble_eq_true rfl⟩ ⟨Nat.le_refl _, Nat.le_refl _⟩ rfl (Nat.le_of_ble_eq_true rfl) dX0_undo_67) hM (fun σ19 H locs hf hM => ?_)
    refine lv_aload_n hx hb dX0_undo_70 rfl (lv_at hl 0 rfl) ?_
    refine g_geti K kX hM 5 rfl q166 rfl dX0_undo_71 rfl ?_
    exact g_reti K hr hM ⟨Nat.le_refl _, Nat.le_refl _⟩ hf dX0_undo_74
  · replace hf := hf.1 b1
    refine lv_bipush (v := -5) hx hb dX0_undo_7 rfl ?_
    exact g_reti K hr hM ⟨Nat.le_refl _, Nat.le_refl _⟩ hf dX0_undo_9
theorem c_X0_redo (l : Launch) (r : GR) (A : Nat → Prop) (σ : GS) (P : GS → Int32 → Prop) (hf : f_X0_redo r σ P) : gMet dX l yX0_redo cX0_redo 1 (some .int) 1 23 0 0 r A σ [.ref r.2.1] (zI P) := by
  refine g_enter (lv := [(0, .ref r.2.1)]) (by decide) (Nat.le_of_ble_eq_true rfl) rfl ?_
  intro p e s m below meth c ls K hr hM hl hi
  obtain ⟨hx, hb, hml, hown, hts, hlk, hKK, hA⟩ := id K
  unfold f_X0_redo at hf
  refine lv_aload_n hx hb dX0_redo_0 rfl (lv_at hl 0 rfl) ?_
  refine g_geti K kX hM 6 rfl q167 rfl dX0_redo_1 rfl ?_
  refine lv_if_ne (tgt := 10) hx hb dX0_redo_4 (by decide) (fun b1 => ?_) (fun b1 => ?_)
  · replace hf := hf.2 b1
    refine lv_aload_n hx hb dX0_redo_10 rfl (lv_at hl 0 rfl) ?_
    refine lv_aload_n hx hb dX0_redo_11 rfl (lv_at hl 0 rfl) ?_
    refine g_geta K kX hM 4 rfl q165 rfl dX0_redo_12 rfl ?_
    refine lv_aload_n hx hb dX0_redo_15 rfl (lv_at hl 0 rfl) ?_
    refine g_geti K kX hM 5 rfl q166 rfl dX0_redo_16 rfl ?_
    obtain ⟨g2, hf⟩ := hf
    obtain ⟨a3, h4, hf⟩ := hf
    refine g_aaldS K hM 4 rfl rfl rfl rfl g2 h4 dX0_redo_19 ?_
    obtain ⟨v6, h5, hf⟩ := hf
    refine p_getN K kY4 hM 0 rfl q505 rfl dX0_redo_20 h5 ?_
    refine lv_aload_n hx hb dX0_redo_23 rfl (lv_at hl 0 rfl) ?_
    refine g_geta K kX hM 4 rfl q165 rfl dX0_redo_24 rfl ?_
    refine lv_aload_n hx hb dX0_redo_27 rfl (lv_at hl 0 rfl) ?_
    refine g_geti K kX hM 5 rfl q166 rfl dX0_redo_28 rfl ?_
    obtain ⟨g7, hf⟩ := hf
    obtain ⟨a8, h9, hf⟩ := hf
    refine g_aaldS K hM 4 rfl rfl rfl rfl g7 h9 dX0_redo_31 ?_
    obtain ⟨v11, h10, hf⟩ := hf
    refine p_getN K kY4 hM 1 rfl q507 rfl dX0_redo_32 h10 ?_
    refine lv_aload_n hx hb dX0_redo_35 rfl (lv_at hl 0 rfl) ?_
    refine g_geta K kX hM 4 rfl q165 rfl dX0_redo_36 rfl ?_
    refine lv_aload_n hx hb dX0_redo_39 rfl (lv_at hl 0 rfl) ?_
    refine g_geti K kX hM 5 rfl q166 rfl dX0_redo_40 rfl ?_
    obtain ⟨g12, hf⟩ := hf
    obtain ⟨a13, h14, hf⟩ := hf
    refine g_aaldS K hM 4 rfl rfl rfl rfl g12 h14 dX0_redo_43 ?_
    obtain ⟨v16, h15, hf⟩ := hf
    refine p_getN K kY4 hM 3 rfl q511 rfl dX0_redo_44 h15 ?_
    refine g_runv (rV [.int v6, .int v11, .int v16] [] K kX hM hl (c_X0_setTo l r A _ _ _ _ _ hf) q479 q481 qs4 q82 q482 hdX0_setTo ⟨Nat.le_of_ble_eq_true rfl, Nat.le_of_ble_eq_true rfl⟩ ⟨Nat.le_refl _, Nat.le_refl _⟩ rfl (Nat.le_of_ble_eq_true rfl) dX0_redo_47) hM (fun σ17 H locs hf hM => ?_)
    refine lv_aload_n hx hb dX0_redo_50 rfl (lv_at hl 0 rfl) ?_
    refine lv_dup hx hb dX0_redo_51 rfl ?_
    refine g_geti K kX hM 5 rfl q166 rfl dX0_redo_52 rfl ?_
    refine lv_iconst (v := 1) hx hb dX0_redo_55 rfl ?_
    refine lv_iadd hx hb dX0_redo_56 ?_
    refine g_putiN K kX hM 5 rfl q166 rfl dX0_redo_57 rfl rfl rfl (fun H locs σ19 hσ19 hM => ?_)
    have hf := hf σ19 hσ19
    refine lv_aload_n hx hb dX0_redo_60 rfl (lv_at hl 0 rfl) ?_
    refine lv_dup hx hb dX0_redo_61 rfl ?_
    refine g_geti K kX hM 6 rfl q167 rfl dX0_redo_62 rfl ?_
    refine lv_iconst (v := 1) hx hb dX0_redo_65 rfl ?_
    refine lv_isub hx hb dX0_redo_66 ?_
    refine g_putiN K kX hM 6 rfl q167 rfl dX0_redo_67 rfl rfl rfl (fun H locs σ20 hσ20 hM => ?_)
    have hf := hf σ20 hσ20
    refine lv_aload_n hx hb dX0_redo_70 rfl (lv_at hl 0 rfl) ?_
    refine g_geti K kX hM 6 rfl q167 rfl dX0_redo_71 rfl ?_
    exact g_reti K hr hM ⟨Nat.le_refl _, Nat.le_refl _⟩ hf dX0_redo_74
  · replace hf := hf.1 b1
    refine lv_bipush (v := -5) hx hb dX0_redo_7 rfl ?_
    exact g_reti K hr hM ⟨Nat.le_refl _, Nat.le_refl _⟩ hf dX0_redo_9
theorem c_X0_valueAt (l : Launch) (r : GR) (A : Nat → Prop) (σ : GS) (x1 : Int32) (x2 : Int32) (P : GS → Int32 → Prop) (hf : f_X0_valueAt r σ x1 x2 P) : gMet dX l yX0_valueAt cX0_valueAt 3 (some .int) 0 0 0 0 r A σ [.ref r.2.1, .int x1, .int x2] (zI P) := by
  refine g_enter (lv := [(0, .ref r.2.1), (1, .int x1), (2, .int x2)]) (by decide) (Nat.le_of_ble_eq_true rfl) rfl ?_
  intro p e s m below meth c ls K hr hM hl hi
  obtain ⟨hx, hb, hml, hown, hts, hlk, hKK, hA⟩ := id K
  unfold f_X0_valueAt at hf
  refine lv_iload_n hx hb dX0_valueAt_0 rfl (lv_at hl 1 rfl) ?_
  by_cases b26_0 : x1 = (0 : Int32)
  · replace hf := hf.1 b26_0
    refine lv_tableIn (off := 31) (tgt := 32) hx hb dX0_valueAt_1 (by rw [b26_0]; decide) (by rw [b26_0]; decide) (by rw [b26_0]; rfl) (by decide) ?_
    refine lv_aload_n hx hb dX0_valueAt_32 rfl (lv_at hl 0 rfl) ?_
    refine g_geta K kX hM 0 rfl q161 rfl dX0_valueAt_33 rfl ?_
    refine lv_iload_n hx hb dX0_valueAt_36 rfl (lv_at hl 2 rfl) ?_
    obtain ⟨g1, hf⟩ := hf
    obtain ⟨a2, h3, hf⟩ := hf
    refine g_aaldS K hM 0 rfl rfl rfl rfl g1 h3 dX0_valueAt_37 ?_
    obtain ⟨v5, h4, hf⟩ := hf
    refine p_getN K kY3 hM 1 rfl q272 rfl dX0_valueAt_38 h4 ?_
    exact g_reti K hr hM ⟨Nat.le_refl _, Nat.le_refl _⟩ hf dX0_valueAt_41
  replace hf := hf.2 b26_0
  by_cases b26_1 : x1 = (1 : Int32)
  · replace hf := hf.1 b26_1
    refine lv_tableIn (off := 41) (tgt := 42) hx hb dX0_valueAt_1 (by rw [b26_1]; decide) (by rw [b26_1]; decide) (by rw [b26_1]; rfl) (by decide) ?_
    refine lv_aload_n hx hb dX0_valueAt_42 rfl (lv_at hl 0 rfl) ?_
    refine g_geta K kX hM 0 rfl q161 rfl dX0_valueAt_43 rfl ?_
    refine lv_iload_n hx hb dX0_valueAt_46 rfl (lv_at hl 2 rfl) ?_
    obtain ⟨g6, hf⟩ := hf
    obtain ⟨a7, h8, hf⟩ := hf
    refine g_aaldS K hM 0 rfl rfl rfl rfl g6 h8 dX0_valueAt_47 ?_
    obtain ⟨v10, h9, hf⟩ := hf
    refine p_getN K kY3 hM 2 rfl q274 rfl dX0_valueAt_48 h9 ?_
    exact g_reti K hr hM ⟨Nat.le_refl _, Nat.le_refl _⟩ hf dX0_valueAt_51
  replace hf := hf.2 b26_1
  by_cases b26_2 : x1 = (2 : Int32)
  · replace hf := hf.1 b26_2
    refine lv_tableIn (off := 51) (tgt := 52) hx hb dX0_valueAt_1 (by rw [b26_2]; decide) (by rw [b26_2]; decide) (by rw [b26_2]; rfl) (by decide) ?_
    refine lv_aload_n hx hb dX0_valueAt_52 rfl (lv_at hl 0 rfl) ?_
    refine g_geta K kX hM 0 rfl q161 rfl dX0_valueAt_53 rfl ?_
    refine lv_iload_n hx hb dX0_valueAt_56 rfl (lv_at hl 2 rfl) ?_
    obtain ⟨g11, hf⟩ := hf
    obtain ⟨a12, h13, hf⟩ := hf
    refine g_aaldS K hM 0 rfl rfl rfl rfl g11 h13 dX0_valueAt_57 ?_
    obtain ⟨v15, h14, hf⟩ := hf
    refine p_getN K kY3 hM 3 rfl q276 rfl dX0_valueAt_58 h14 ?_
    exact g_reti K hr hM ⟨Nat.le_refl _, Nat.le_refl _⟩ hf dX0_valueAt_61
  replace hf := hf.2 b26_2
  by_cases b26_3 : x1 = (3 : Int32)
  · replace hf := hf.1 b26_3
    refine lv_tableIn (off := 61) (tgt := 62) hx hb dX0_valueAt_1 (by rw [b26_3]; decide) (by rw [b26_3]; decide) (by rw [b26_3]; rfl) (by decide) ?_
    refine lv_aload_n hx hb dX0_valueAt_62 rfl (lv_at hl 0 rfl) ?_
    refine g_geta K kX hM 1 rfl q162 rfl dX0_valueAt_63 rfl ?_
    refine lv_iload_n hx hb dX0_valueAt_66 rfl (lv_at hl 2 rfl) ?_
    obtain ⟨g16, hf⟩ := hf
    obtain ⟨a17, h18, hf⟩ := hf
    refine g_aaldS K hM 1 rfl rfl rfl rfl g16 h18 dX0_valueAt_67 ?_
    obtain ⟨v20, h19, hf⟩ := hf
    refine p_getN K kY5 hM 3 rfl q442 rfl dX0_valueAt_68 h19 ?_
    exact g_reti K hr hM ⟨Nat.le_refl _, Nat.le_refl _⟩ hf dX0_valueAt_71
  replace hf := hf.2 b26_3
  refine lv_tableOut (tgt := 72) hx hb dX0_valueAt_1 (by have := lv_neT (a := 0) b26_0 rfl; have := lv_neT (a := 1) b26_1 rfl; have := lv_neT (a := 2) b26_2 rfl; have := lv_neT (a := 3) b26_3 rfl; omega) (by decide) ?_
  refine lv_aload_n hx hb dX0_valueAt_72 rfl (lv_at hl 0 rfl) ?_
  refine g_geta K kX hM 1 rfl q162 rfl dX0_valueAt_73 rfl ?_
  refine lv_iload_n hx hb dX0_valueAt_76 rfl (lv_at hl 2 rfl) ?_
  obtain ⟨g21, hf⟩ := hf
  obtain ⟨a22, h23, hf⟩ := hf
  refine g_aaldS K hM 1 rfl rfl rfl rfl g21 h23 dX0_valueAt_77 ?_
  obtain ⟨v25, h24, hf⟩ := hf
  refine p_getN K kY5 hM 4 rfl q444 rfl dX0_valueAt_78 h24 ?_
  exact g_reti K hr hM ⟨Nat.le_refl _, Nat.le_refl _⟩ hf dX0_valueAt_81
theorem c_X4_init (l : Launch) (r : GR) (A : Nat → Prop) (σ : GS) (x0 : Nat) (x1 : Int32) (x2 : Int32) (x3 : Int32) (x4 : Int32) (P : GS → Prop) (hf : f_X4_init r σ x0 x1 x2 x3 x4 P) : gMet dX l yX4_init cX4_init 5 none 1 24 0 0 r A σ [.ref x0, .int x1, .int x2, .int x3, .int x4] (zV P) := by
  refine g_enter (lv := [(0, .ref x0), (1, .int x1), (2, .int x2), (3, .int x3), (4, .int x4)]) (by decide) (Nat.le_of_ble_eq_true rfl) rfl ?_
  intro p e s m below meth c ls K hr hM hl hi
  obtain ⟨hx, hb, hml, hown, hts, hlk, hKK, hA⟩ := id K
  unfold f_X4_init at hf
  refine lv_aload_n hx hb dX4_init_0 rfl (lv_at hl 0 rfl) ?_
  refine rO K hl q503 q133 q134 ⟨Nat.le_of_ble_eq_true rfl, Nat.le_of_ble_eq_true rfl⟩ dX4_init_1 ?_
  refine lv_aload_n hx hb dX4_init_4 rfl (lv_at hl 0 rfl) ?_
  refine lv_iload_n hx hb dX4_init_5 rfl (lv_at hl 1 rfl) ?_
  refine p_putF K kY4 nmX4 hM 0 rfl q504 rfl dX4_init_6 rfl (hi rfl) rfl rfl rfl hf (fun H locs σ1 hf hM => ?_)
  refine lv_aload_n hx hb dX4_init_9 rfl (lv_at hl 0 rfl) ?_
  refine lv_iload_n hx hb dX4_init_10 rfl (lv_at hl 2 rfl) ?_
  refine p_putF K kY4 nmX4 hM 1 rfl q506 rfl dX4_init_11 rfl (hi rfl) rfl rfl rfl hf (fun H locs σ2 hf hM => ?_)
  refine lv_aload_n hx hb dX4_init_14 rfl (lv_at hl 0 rfl) ?_
  refine lv_iload_n hx hb dX4_init_15 rfl (lv_at hl 3 rfl) ?_
  refine p_putF K kY4 nmX4 hM 2 rfl q508 rfl dX4_init_16 rfl (hi rfl) rfl rfl rfl hf (fun H locs σ3 hf hM => ?_)
  refine lv_aload_n hx hb dX4_init_19 rfl (lv_at hl 0 rfl) ?_
  refine lv_iload hx hb dX4_init_20 (lv_at hl 4 rfl) ?_
  refine p_putF K kY4 nmX4 hM 3 rfl q510 rfl dX4_init_22 rfl (hi rfl) rfl rfl rfl hf (fun H locs σ4 hf hM => ?_)
  exact g_retv K hr hM ⟨Nat.le_refl _, Nat.le_refl _⟩ hf dX4_init_25
theorem w_X0_become_73 {p : Program} {l : Launch} {e : Env} {s : State} {m : MethodId} {args : Array Value} {below : List Frame} {meth : Method} {c : Code} {r : GR} {A : Nat → Prop} {B S : Nat} {P : GS → Int32 → Prop} (K : gC p s m args meth c cX0_become 6 RX0 r A) (hr : meth.sig.returnType = (some .int)) : ∀ (bc bs cells slots : Nat) (σ : GS) (x1 : Int32) (x2 : Int32) (x3 : Int32) (x4 : Int32), cells + bc ≤ B ∧ slots + bs ≤ S → f_X0_become_73 r P bc bs σ x1 x2 x3 x4 → gW dX p l e (gRm 2 48 B S) s m args below meth c r A (zI P) B S 6 73 [(0, .ref r.2.1), (1, .int x1), (2, .int x2), (3, .int x3), (4, .int x4)] [] cells slots σ := by
  obtain ⟨hx, hb, hml, hown, hts, hlk, hKK, hA⟩ := id K
  intro bc bs cells slots σ x1 x2 x3 x4 hc hf H locs ls hM hl
  unfold f_X0_become_73 at hf
  refine lv_aload_n hx hb dX0_become_73 rfl (lv_at hl 0 rfl) ?_
  refine g_geta K kX hM 4 rfl q165 rfl dX0_become_74 rfl ?_
  refine lv_aload_n hx hb dX0_become_77 rfl (lv_at hl 0 rfl) ?_
  refine g_geti K kX hM 5 rfl q166 rfl dX0_become_78 rfl ?_
  obtain ⟨b3, s4, g5, g6, hf⟩ := hf
  refine p_new K kY4 hM q139 q499 q94 hf0X4 (bud_le hc.1 g5) (bud_le hc.2 g6) dX0_become_81 (fun H a1 σ2 ea1 hσ2 hM => ?_)
  have hf := hf a1 ea1 σ2 hσ2
  replace hc := And.intro (bud hc.1 g5) (bud hc.2 g6)
  refine lv_dup hx hb dX0_become_84 rfl ?_
  refine lv_iload_n hx hb dX0_become_85 rfl (lv_at hl 1 rfl) ?_
  refine lv_iload_n hx hb dX0_become_86 rfl (lv_at hl 2 rfl) ?_
  refine lv_iload hx hb dX0_become_87 (lv_at hl 4 rfl) ?_
  refine lv_iload_n hx hb dX0_become_89 rfl (lv_at hl 3 rfl) ?_
  refine g_runv (rI [.int x1, .int x2, .int x4, .int x3] [.ref a1, .int (gI σ 5), .ref (r.2.2.1 4)] K hM hl (c_X4_init l r A _ _ _ _ _ _ _ hf) q500 q501 q94 q502 hdX4_init ⟨Nat.le_of_ble_eq_true rfl, Nat.le_of_ble_eq_true rfl⟩ ⟨bud_ret hc.1, bud_ret hc.2⟩ rfl (Nat.le_of_ble_eq_true rfl) dX0_become_90) hM (fun σ7 H locs hf hM => ?_)
  obtain ⟨g9, hf⟩ := hf
  obtain ⟨f10, h11, hf⟩ := hf
  refine g_aast K kY4 hM 4 rfl rfl rfl rfl h11 g9 dX0_become_93 (fun H locs σ12 hσ12 hM => ?_)
  have hf := hf σ12 hσ12
  refine lv_aload_n hx hb dX0_become_94 rfl (lv_at hl 0 rfl) ?_
  refine lv_dup hx hb dX0_become_95 rfl ?_
  refine g_geti K kX hM 5 rfl q166 rfl dX0_become_96 rfl ?_
  refine lv_iconst (v := 1) hx hb dX0_become_99 rfl ?_
  refine lv_iadd hx hb dX0_become_100 ?_
  refine g_putiN K kX hM 5 rfl q166 rfl dX0_become_101 rfl rfl rfl (fun H locs σ13 hσ13 hM => ?_)
  have hf := hf σ13 hσ13
  refine lv_aload_n hx hb dX0_become_104 rfl (lv_at hl 0 rfl) ?_
  refine lv_iload_n hx hb dX0_become_105 rfl (lv_at hl 1 rfl) ?_
  refine lv_iload_n hx hb dX0_become_106 rfl (lv_at hl 2 rfl) ?_
  refine lv_iload_n hx hb dX0_become_107 rfl (lv_at hl 3 rfl) ?_
  refine g_runv (rV [.int x1, .int x2, .int x3] [] K kX hM hl (c_X0_setTo l r A _ _ _ _ _ hf) q479 q481 qs4 q82 q482 hdX0_setTo ⟨Nat.le_of_ble_eq_true rfl, Nat.le_of_ble_eq_true rfl⟩ ⟨bud_ret hc.1, bud_ret hc.2⟩ rfl (Nat.le_of_ble_eq_true rfl) dX0_become_108) hM (fun σ14 H locs hf hM => ?_)
  refine lv_iload hx hb dX0_become_111 (lv_at hl 4 rfl) ?_
  exact g_reti K hr hM ⟨bud_ret hc.1, bud_ret hc.2⟩ hf dX0_become_113
theorem w_X0_become_34 {p : Program} {l : Launch} {e : Env} {s : State} {m : MethodId} {args : Array Value} {below : List Frame} {meth : Method} {c : Code} {r : GR} {A : Nat → Prop} {B S : Nat} {P : GS → Int32 → Prop} (K : gC p s m args meth c cX0_become 6 RX0 r A) (hr : meth.sig.returnType = (some .int)) : ∀ (n : Nat) (bc bs cells slots : Nat) (σ : GS) (x1 : Int32) (x2 : Int32) (x3 : Int32) (x4 : Int32) (x5 : Int32), cells + bc ≤ B ∧ slots + bs ≤ S → f_X0_become_34 r P n bc bs σ x1 x2 x3 x4 x5 → gW dX p l e (gRm 2 48 B S) s m args below meth c r A (zI P) B S 6 34 [(0, .ref r.2.1), (1, .int x1), (2, .int x2), (3, .int x3), (4, .int x4), (5, .int x5)] [] cells slots σ := by
  obtain ⟨hx, hb, hml, hown, hts, hlk, hKK, hA⟩ := id K
  intro n
  induction n with
  | zero =>
    intro bc bs cells slots σ x1 x2 x3 x4 x5 hc hf
    exact absurd hf (fun h => h)
  | succ n ih =>
    intro bc bs cells slots σ x1 x2 x3 x4 x5 hc hf H locs ls hM hl
    rw [f_X0_become_34] at hf
    refine lv_iload hx hb dX0_become_34 (lv_at hl 5 rfl) ?_
    refine lv_bipush (v := 40) hx hb dX0_become_36 rfl ?_
    refine lv_icmp_ge (tgt := 63) hx hb dX0_become_38 (by decide) (fun b1 => ?_) (fun b1 => ?_)
    · replace hf := hf.1 b1
      refine lv_aload_n hx hb dX0_become_63 rfl (lv_at hl 0 rfl) ?_
      refine lv_dup hx hb dX0_become_64 rfl ?_
      refine g_geti K kX hM 5 rfl q166 rfl dX0_become_65 rfl ?_
      refine lv_iconst (v := 1) hx hb dX0_become_68 rfl ?_
      refine lv_isub hx hb dX0_become_69 ?_
      refine g_putiN K kX hM 5 rfl q166 rfl dX0_become_70 rfl rfl rfl (fun H locs σ2 hσ2 hM => ?_)
      have hf := hf σ2 hσ2
      exact w_X0_become_73 K hr _ _ _ _ _ _ _ _ _ hc hf _ _ _ hM (lv_sub hl [0, 1, 2, 3, 4] rfl)
    · replace hf := hf.2 b1
      refine lv_aload_n hx hb dX0_become_41 rfl (lv_at hl 0 rfl) ?_
      refine g_geta K kX hM 4 rfl q165 rfl dX0_become_42 rfl ?_
      refine lv_iload hx hb dX0_become_45 (lv_at hl 5 rfl) ?_
      refine lv_iconst (v := 1) hx hb dX0_become_47 rfl ?_
      refine lv_isub hx hb dX0_become_48 ?_
      refine lv_aload_n hx hb dX0_become_49 rfl (lv_at hl 0 rfl) ?_
      refine g_geta K kX hM 4 rfl q165 rfl dX0_become_50 rfl ?_
      refine lv_iload hx hb dX0_become_53 (lv_at hl 5 rfl) ?_
      obtain ⟨g3, hf⟩ := hf
      obtain ⟨a4, h5, hf⟩ := hf
      refine g_aaldS K hM 4 rfl rfl rfl rfl g3 h5 dX0_become_55 ?_
      obtain ⟨g6, hf⟩ := hf
      obtain ⟨f7, h8, hf⟩ := hf
      refine g_aast K kY4 hM 4 rfl rfl rfl rfl h8 g6 dX0_become_56 (fun H locs σ9 hσ9 hM => ?_)
      have hf := hf σ9 hσ9
      refine lv_iinc (v := x5 + 1) (lv' := [(5, .int (x5 + 1)), (0, .ref r.2.1), (1, .int x1), (2, .int x2), (3, .int x3), (4, .int x4)]) hx hb dX0_become_57 hl (k := 5) rfl rfl (by decide) rfl (fun ls hl => ?_)
      refine lv_goto (tgt := 34) hx hb dX0_become_60 (by decide) ?_
      exact ih _ _ _ _ _ _ _ _ _ _ hc hf _ _ _ hM (lv_sub hl [1, 2, 3, 4, 5, 0] rfl)
theorem c_X0_become (l : Launch) (r : GR) (A : Nat → Prop) (bc bs : Nat) (σ : GS) (x1 : Int32) (x2 : Int32) (x3 : Int32) (P : GS → Int32 → Prop) (hf : f_X0_become r bc bs σ x1 x2 x3 P) : gMet dX l yX0_become cX0_become 6 (some .int) 2 48 bc bs r A σ [.ref r.2.1, .int x1, .int x2, .int x3] (zI P) := by
  refine g_enter (lv := [(0, .ref r.2.1), (1, .int x1), (2, .int x2), (3, .int x3)]) (by decide) (Nat.le_of_ble_eq_true rfl) rfl ?_
  intro p e s m below meth c ls K hr hM hl hi
  obtain ⟨hx, hb, hml, hown, hts, hlk, hKK, hA⟩ := id K
  unfold f_X0_become at hf
  generalize hB_ : bc = B
  generalize hS_ : bs = S
  have hc : 0 + bc ≤ B ∧ 0 + bs ≤ S := ⟨bud_0 hB_, bud_0 hS_⟩
  refine lv_aload_n hx hb dX0_become_0 rfl (lv_at hl 0 rfl) ?_
  refine lv_iload_n hx hb dX0_become_1 rfl (lv_at hl 1 rfl) ?_
  refine lv_iload_n hx hb dX0_become_2 rfl (lv_at hl 2 rfl) ?_
  refine g_runi (rV [.int x1, .int x2] [] K kX hM hl (c_X0_valueAt l r A _ _ _ _ hf) q495 q497 qs6 q82 q498 hdX0_valueAt ⟨Nat.le_of_ble_eq_true rfl, Nat.le_of_ble_eq_true rfl⟩ ⟨bud_ret hc.1, bud_ret hc.2⟩ rfl (Nat.le_of_ble_eq_true rfl) dX0_become_3) hM (fun σ1 v2 H locs hf hM => ?_)
  refine lv_istore (lv' := [(4, .int v2), (0, .ref r.2.1), (1, .int x1), (2, .int x2), (3, .int x3)]) hx hb dX0_become_6 hl (by decide) rfl (fun ls hl => ?_)
  refine lv_iload hx hb dX0_become_8 (lv_at hl 0 rfl) ?_
  refine lv_iload_n hx hb dX0_become_10 rfl (lv_at hl 4 rfl) ?_
  refine lv_icmp_ne (tgt := 17) hx hb dX0_become_11 (by decide) (fun b3 => ?_) (fun b3 => ?_)
  · replace hf := hf.2 b3
    refine lv_aload_n hx hb dX0_become_17 rfl (lv_at hl 1 rfl) ?_
    refine lv_iconst (v := 0) hx hb dX0_become_18 rfl ?_
    refine g_putiN K kX hM 6 rfl q167 rfl dX0_become_19 rfl rfl rfl (fun H locs σ4 hσ4 hM => ?_)
    have hf := hf σ4 hσ4
    refine lv_aload_n hx hb dX0_become_22 rfl (lv_at hl 1 rfl) ?_
    refine g_geti K kX hM 5 rfl q166 rfl dX0_become_23 rfl ?_
    refine lv_bipush (v := 40) hx hb dX0_become_26 rfl ?_
    refine lv_icmp_ne (tgt := 73) hx hb dX0_become_28 (by decide) (fun b5 => ?_) (fun b5 => ?_)
    · replace hf := hf.2 b5
      exact w_X0_become_73 K hr _ _ _ _ _ _ _ _ _ hc hf _ _ _ hM (lv_sub hl [1, 2, 3, 4, 0] rfl)
    · replace hf := hf.1 b5
      refine lv_iconst (v := 1) hx hb dX0_become_31 rfl ?_
      refine lv_istore (lv' := [(5, .int (1 : Int32)), (4, .int v2), (0, .ref r.2.1), (1, .int x1), (2, .int x2), (3, .int x3)]) hx hb dX0_become_32 hl (by decide) rfl (fun ls hl => ?_)
      obtain ⟨n_, hf⟩ := hf
      exact w_X0_become_34 K hr n_ _ _ _ _ _ _ _ _ _ _ hc hf _ _ _ hM (lv_sub hl [2, 3, 4, 5, 1, 0] rfl)
  · replace hf := hf.1 b3
    refine lv_iload hx hb dX0_become_14 (lv_at hl 0 rfl) ?_
    exact g_reti K hr hM ⟨bud_ret hc.1, bud_ret hc.2⟩ hf dX0_become_16
theorem w_X0_mend_31 {p : Program} {l : Launch} {e : Env} {s : State} {m : MethodId} {args : Array Value} {below : List Frame} {meth : Method} {c : Code} {r : GR} {A : Nat → Prop} {B S : Nat} {P : GS → Int32 → Prop} (K : gC p s m args meth c cX0_mend 4 RX0 r A) (hr : meth.sig.returnType = (some .int)) : ∀ (bc bs cells slots : Nat) (σ : GS) (x1 : Int32) (x2 : Int32) (x3 : Int32) (t2 : Int32) (t1 : Int32) (t0 : Int32), cells + bc ≤ B ∧ slots + bs ≤ S → f_X0_mend_31 r P bc bs σ x1 x2 x3 t2 t1 t0 → gW dX p l e (gRm 3 73 B S) s m args below meth c r A (zI P) B S 4 31 [(0, .ref r.2.1), (1, .int x1), (2, .int x2), (3, .int x3)] [.int t2, .int t1, .int t0] cells slots σ := by
  obtain ⟨hx, hb, hml, hown, hts, hlk, hKK, hA⟩ := id K
  intro bc bs cells slots σ x1 x2 x3 t2 t1 t0 hc hf H locs ls hM hl
  unfold f_X0_mend_31 at hf
  refine g_runi (rS [.int t0, .int t1, .int t2] [] K hM hl (c_X0_in l r A _ _ _ _ _ hf) q261 q262 q82 q263 hdX0_in ⟨Nat.le_of_ble_eq_true rfl, Nat.le_of_ble_eq_true rfl⟩ ⟨bud_ret hc.1, bud_ret hc.2⟩ rfl (Nat.le_of_ble_eq_true rfl) dX0_mend_31) hM (fun σ1 v2 H locs hf hM => ?_)
  refine lv_if_eq (tgt := 47) hx hb dX0_mend_34 (by decide) (fun b3 => ?_) (fun b3 => ?_)
  · replace hf := hf.1 b3
    refine lv_iconst (v := -1) hx hb dX0_mend_47 rfl ?_
    exact g_reti K hr hM ⟨bud_ret hc.1, bud_ret hc.2⟩ hf dX0_mend_48
  · replace hf := hf.2 b3
    refine lv_aload_n hx hb dX0_mend_37 rfl (lv_at hl 0 rfl) ?_
    refine lv_iload_n hx hb dX0_mend_38 rfl (lv_at hl 2 rfl) ?_
    refine lv_iload_n hx hb dX0_mend_39 rfl (lv_at hl 1 rfl) ?_
    refine lv_iload_n hx hb dX0_mend_40 rfl (lv_at hl 3 rfl) ?_
    obtain ⟨c6, s7, hf⟩ := hf
    obtain ⟨b8, s9, g10, g11, hf⟩ := hf
    refine g_runi (rV [.int x2, .int x1, .int x3] [] K kX hM hl (c_X0_become l r A _ _ _ _ _ _ _ hf) q491 q493 qs5 q82 q494 hdX0_become ⟨Nat.le_of_ble_eq_true rfl, Nat.le_of_ble_eq_true rfl⟩ ⟨bud_le hc.1 g10, bud_le hc.2 g11⟩ rfl (Nat.le_of_ble_eq_true rfl) dX0_mend_41) hM (fun σ4 v5 H locs hf hM => ?_)
    replace hc := And.intro (bud hc.1 g10) (bud hc.2 g11)
    refine lv_goto (tgt := 48) hx hb dX0_mend_44 (by decide) ?_
    exact g_reti K hr hM ⟨bud_ret hc.1, bud_ret hc.2⟩ hf dX0_mend_48
theorem c_X0_mend (l : Launch) (r : GR) (A : Nat → Prop) (bc bs : Nat) (σ : GS) (x1 : Int32) (x2 : Int32) (x3 : Int32) (P : GS → Int32 → Prop) (hf : f_X0_mend r bc bs σ x1 x2 x3 P) : gMet dX l yX0_mend cX0_mend 4 (some .int) 3 73 bc bs r A σ [.ref r.2.1, .int x1, .int x2, .int x3] (zI P) := by
  refine g_enter (lv := [(0, .ref r.2.1), (1, .int x1), (2, .int x2), (3, .int x3)]) (by decide) (Nat.le_of_ble_eq_true rfl) rfl ?_
  intro p e s m below meth c ls K hr hM hl hi
  obtain ⟨hx, hb, hml, hown, hts, hlk, hKK, hA⟩ := id K
  unfold f_X0_mend at hf
  generalize hB_ : bc = B
  generalize hS_ : bs = S
  have hc : 0 + bc ≤ B ∧ 0 + bs ≤ S := ⟨bud_0 hB_, bud_0 hS_⟩
  refine lv_aload_n hx hb dX0_mend_0 rfl (lv_at hl 0 rfl) ?_
  refine lv_iload_n hx hb dX0_mend_1 rfl (lv_at hl 1 rfl) ?_
  refine g_runi (rV [.int x1] [] K kX hM hl (c_X0_isThing l r A _ _ _ hf) q471 q473 qs3 q82 q474 hdX0_isThing ⟨Nat.le_of_ble_eq_true rfl, Nat.le_of_ble_eq_true rfl⟩ ⟨bud_ret hc.1, bud_ret hc.2⟩ rfl (Nat.le_of_ble_eq_true rfl) dX0_mend_2) hM (fun σ1 v2 H locs hf hM => ?_)
  refine lv_if_eq (tgt := 47) hx hb dX0_mend_5 (by decide) (fun b3 => ?_) (fun b3 => ?_)
  · replace hf := hf.1 b3
    refine lv_iconst (v := -1) hx hb dX0_mend_47 rfl ?_
    exact g_reti K hr hM ⟨bud_ret hc.1, bud_ret hc.2⟩ hf dX0_mend_48
  · replace hf := hf.2 b3
    refine lv_iload_n hx hb dX0_mend_8 rfl (lv_at hl 2 rfl) ?_
    refine lv_iconst (v := 0) hx hb dX0_mend_9 rfl ?_
    refine lv_iconst (v := 2) hx hb dX0_mend_10 rfl ?_
    refine g_runi (rS [.int x2, .int (0 : Int32), .int (2 : Int32)] [] K hM hl (c_X0_in l r A _ _ _ _ _ hf) q261 q262 q82 q263 hdX0_in ⟨Nat.le_of_ble_eq_true rfl, Nat.le_of_ble_eq_true rfl⟩ ⟨bud_ret hc.1, bud_ret hc.2⟩ rfl (Nat.le_of_ble_eq_true rfl) dX0_mend_11) hM (fun σ4 v5 H locs hf hM => ?_)
    refine lv_if_eq (tgt := 47) hx hb dX0_mend_14 (by decide) (fun b6 => ?_) (fun b6 => ?_)
    · replace hf := hf.1 b6
      refine lv_iconst (v := -1) hx hb dX0_mend_47 rfl ?_
      exact g_reti K hr hM ⟨bud_ret hc.1, bud_ret hc.2⟩ hf dX0_mend_48
    · replace hf := hf.2 b6
      refine lv_iload_n hx hb dX0_mend_17 rfl (lv_at hl 3 rfl) ?_
      refine lv_iconst (v := 0) hx hb dX0_mend_18 rfl ?_
      refine lv_iload_n hx hb dX0_mend_19 rfl (lv_at hl 2 rfl) ?_
      refine lv_if_ne (tgt := 29) hx hb dX0_mend_20 (by decide) (fun b7 => ?_) (fun b7 => ?_)
      · replace hf := hf.2 b7
        refine lv_bipush (v := 99) hx hb dX0_mend_29 rfl ?_
        exact w_X0_mend_31 K hr _ _ _ _ _ _ _ _ _ _ _ hc hf _ _ _ hM (lv_sub hl [0, 1, 2, 3] rfl)
      · replace hf := hf.1 b7
        refine lv_sipush (v := 999) hx hb dX0_mend_23 rfl ?_
        refine lv_goto (tgt := 31) hx hb dX0_mend_26 (by decide) ?_
        exact w_X0_mend_31 K hr _ _ _ _ _ _ _ _ _ _ _ hc hf _ _ _ hM (lv_sub hl [0, 1, 2, 3] rfl)
theorem c_X0_purse (l : Launch) (r : GR) (A : Nat → Prop) (bc bs : Nat) (σ : GS) (x1 : Int32) (x2 : Int32) (x3 : Int32) (P : GS → Int32 → Prop) (hf : f_X0_purse r bc bs σ x1 x2 x3 P) : gMet dX l yX0_purse cX0_purse 4 (some .int) 3 73 bc bs r A σ [.ref r.2.1, .int x1, .int x2, .int x3] (zI P) := by
  refine g_enter (lv := [(0, .ref r.2.1), (1, .int x1), (2, .int x2), (3, .int x3)]) (by decide) (Nat.le_of_ble_eq_true rfl) rfl ?_
  intro p e s m below meth c ls K hr hM hl hi
  obtain ⟨hx, hb, hml, hown, hts, hlk, hKK, hA⟩ := id K
  unfold f_X0_purse at hf
  generalize hB_ : bc = B
  generalize hS_ : bs = S
  have hc : 0 + bc ≤ B ∧ 0 + bs ≤ S := ⟨bud_0 hB_, bud_0 hS_⟩
  refine lv_aload_n hx hb dX0_purse_0 rfl (lv_at hl 0 rfl) ?_
  refine lv_iload_n hx hb dX0_purse_1 rfl (lv_at hl 1 rfl) ?_
  refine g_runi (rV [.int x1] [] K kX hM hl (c_X0_isSort l r A _ _ _ hf) q463 q465 qs2 q82 q466 hdX0_isSort ⟨Nat.le_of_ble_eq_true rfl, Nat.le_of_ble_eq_true rfl⟩ ⟨bud_ret hc.1, bud_ret hc.2⟩ rfl (Nat.le_of_ble_eq_true rfl) dX0_purse_2) hM (fun σ1 v2 H locs hf hM => ?_)
  refine lv_if_eq (tgt := 39) hx hb dX0_purse_5 (by decide) (fun b3 => ?_) (fun b3 => ?_)
  · replace hf := hf.1 b3
    refine lv_iconst (v := -1) hx hb dX0_purse_39 rfl ?_
    exact g_reti K hr hM ⟨bud_ret hc.1, bud_ret hc.2⟩ hf dX0_purse_40
  · replace hf := hf.2 b3
    refine lv_iload_n hx hb dX0_purse_8 rfl (lv_at hl 2 rfl) ?_
    refine lv_iconst (v := 0) hx hb dX0_purse_9 rfl ?_
    refine lv_iconst (v := 1) hx hb dX0_purse_10 rfl ?_
    refine g_runi (rS [.int x2, .int (0 : Int32), .int (1 : Int32)] [] K hM hl (c_X0_in l r A _ _ _ _ _ hf) q261 q262 q82 q263 hdX0_in ⟨Nat.le_of_ble_eq_true rfl, Nat.le_of_ble_eq_true rfl⟩ ⟨bud_ret hc.1, bud_ret hc.2⟩ rfl (Nat.le_of_ble_eq_true rfl) dX0_purse_11) hM (fun σ4 v5 H locs hf hM => ?_)
    refine lv_if_eq (tgt := 39) hx hb dX0_purse_14 (by decide) (fun b6 => ?_) (fun b6 => ?_)
    · replace hf := hf.1 b6
      refine lv_iconst (v := -1) hx hb dX0_purse_39 rfl ?_
      exact g_reti K hr hM ⟨bud_ret hc.1, bud_ret hc.2⟩ hf dX0_purse_40
    · replace hf := hf.2 b6
      refine lv_iload_n hx hb dX0_purse_17 rfl (lv_at hl 3 rfl) ?_
      refine lv_iconst (v := 0) hx hb dX0_purse_18 rfl ?_
      refine lv_bipush (v := 99) hx hb dX0_purse_19 rfl ?_
      refine g_runi (rS [.int x3, .int (0 : Int32), .int (99 : Int32)] [] K hM hl (c_X0_in l r A _ _ _ _ _ hf) q261 q262 q82 q263 hdX0_in ⟨Nat.le_of_ble_eq_true rfl, Nat.le_of_ble_eq_true rfl⟩ ⟨bud_ret hc.1, bud_ret hc.2⟩ rfl (Nat.le_of_ble_eq_true rfl) dX0_purse_21) hM (fun σ7 v8 H locs hf hM => ?_)
      refine lv_if_eq (tgt := 39) hx hb dX0_purse_24 (by decide) (fun b9 => ?_) (fun b9 => ?_)
      · replace hf := hf.1 b9
        refine lv_iconst (v := -1) hx hb dX0_purse_39 rfl ?_
        exact g_reti K hr hM ⟨bud_ret hc.1, bud_ret hc.2⟩ hf dX0_purse_40
      · replace hf := hf.2 b9
        refine lv_aload_n hx hb dX0_purse_27 rfl (lv_at hl 0 rfl) ?_
        refine lv_iconst (v := 3) hx hb dX0_purse_28 rfl ?_
        refine lv_iload_n hx hb dX0_purse_29 rfl (lv_at hl 2 rfl) ?_
        refine lv_iadd hx hb dX0_purse_30 ?_
        refine lv_iload_n hx hb dX0_purse_31 rfl (lv_at hl 1 rfl) ?_
        refine lv_iload_n hx hb dX0_purse_32 rfl (lv_at hl 3 rfl) ?_
        obtain ⟨c12, s13, hf⟩ := hf
        obtain ⟨b14, s15, g16, g17, hf⟩ := hf
        refine g_runi (rV [.int ((3 : Int32) + x2), .int x1, .int x3] [] K kX hM hl (c_X0_become l r A _ _ _ _ _ _ _ hf) q491 q493 qs5 q82 q494 hdX0_become ⟨Nat.le_of_ble_eq_true rfl, Nat.le_of_ble_eq_true rfl⟩ ⟨bud_le hc.1 g16, bud_le hc.2 g17⟩ rfl (Nat.le_of_ble_eq_true rfl) dX0_purse_33) hM (fun σ10 v11 H locs hf hM => ?_)
        replace hc := And.intro (bud hc.1 g16) (bud hc.2 g17)
        refine lv_goto (tgt := 40) hx hb dX0_purse_36 (by decide) ?_
        exact g_reti K hr hM ⟨bud_ret hc.1, bud_ret hc.2⟩ hf dX0_purse_40
theorem w_X0_feed_27 {p : Program} {l : Launch} {e : Env} {s : State} {m : MethodId} {args : Array Value} {below : List Frame} {meth : Method} {c : Code} {r : GR} {A : Nat → Prop} {P : GS → Int32 → Prop} (K : gC p s m args meth c cX0_feed 4 RX0 r A) (hr : meth.sig.returnType = (some .int)) : ∀ (n : Nat) (σ : GS) (x1 : Int32) (x2 : Int32) (x3 : Int32), f_X0_feed_27 r P n σ x1 x2 x3 → gW dX p l e (gRm 1 22 0 0) s m args below meth c r A (zI P) 0 0 4 27 [(0, .ref r.2.1), (1, .int x1), (2, .int x2), (3, .int x3)] [] 0 0 σ := by
  obtain ⟨hx, hb, hml, hown, hts, hlk, hKK, hA⟩ := id K
  intro n
  induction n with
  | zero =>
    intro σ x1 x2 x3 hf
    exact absurd hf (fun h => h)
  | succ n ih =>
    intro σ x1 x2 x3 hf H locs ls hM hl
    rw [f_X0_feed_27] at hf
    refine lv_iload_n hx hb dX0_feed_27 rfl (lv_at hl 3 rfl) ?_
    refine lv_iload_n hx hb dX0_feed_28 rfl (lv_at hl 1 rfl) ?_
    refine lv_icmp_ge (tgt := 64) hx hb dX0_feed_29 (by decide) (fun b1 => ?_) (fun b1 => ?_)
    · replace hf := hf.1 b1
      refine lv_aload_n hx hb dX0_feed_64 rfl (lv_at hl 0 rfl) ?_
      refine g_geti K kX hM 8 rfl q171 rfl dX0_feed_65 rfl ?_
      exact g_reti K hr hM ⟨Nat.le_refl _, Nat.le_refl _⟩ hf dX0_feed_68
    · replace hf := hf.2 b1
      refine lv_aload_n hx hb dX0_feed_32 rfl (lv_at hl 0 rfl) ?_
      refine g_geta K kX hM 7 rfl q168 rfl dX0_feed_33 rfl ?_
      refine lv_aload_n hx hb dX0_feed_36 rfl (lv_at hl 0 rfl) ?_
      refine g_geti K kX hM 8 rfl q171 rfl dX0_feed_37 rfl ?_
      refine lv_iload_n hx hb dX0_feed_40 rfl (lv_at hl 2 rfl) ?_
      refine lv_bipush (v := 8) hx hb dX0_feed_41 rfl ?_
      refine lv_iload_n hx hb dX0_feed_43 rfl (lv_at hl 3 rfl) ?_
      refine lv_imul hx hb dX0_feed_44 ?_
      refine lv_ishr hx hb dX0_feed_45 ?_
      refine lv_i2b hx hb dX0_feed_46 rfl ?_
      obtain ⟨g2, hf⟩ := hf
      refine g_bastN K hM 7 rfl rfl rfl g2 dX0_feed_47 (fun H locs σ3 hσ3 hM => ?_)
      have hf := hf σ3 hσ3
      refine lv_aload_n hx hb dX0_feed_48 rfl (lv_at hl 0 rfl) ?_
      refine lv_dup hx hb dX0_feed_49 rfl ?_
      refine g_geti K kX hM 8 rfl q171 rfl dX0_feed_50 rfl ?_
      refine lv_iconst (v := 1) hx hb dX0_feed_53 rfl ?_
      refine lv_iadd hx hb dX0_feed_54 ?_
      refine g_putiN K kX hM 8 rfl q171 rfl dX0_feed_55 rfl rfl rfl (fun H locs σ4 hσ4 hM => ?_)
      have hf := hf σ4 hσ4
      refine lv_iinc (v := x3 + 1) (lv' := [(3, .int (x3 + 1)), (0, .ref r.2.1), (1, .int x1), (2, .int x2)]) hx hb dX0_feed_58 hl (k := 3) rfl rfl (by decide) rfl (fun ls hl => ?_)
      refine lv_goto (tgt := 27) hx hb dX0_feed_61 (by decide) ?_
      exact ih _ _ _ _ hf _ _ _ hM (lv_sub hl [1, 2, 3, 0] rfl)
theorem c_X0_feed (l : Launch) (r : GR) (A : Nat → Prop) (σ : GS) (x1 : Int32) (x2 : Int32) (P : GS → Int32 → Prop) (hf : f_X0_feed r σ x1 x2 P) : gMet dX l yX0_feed cX0_feed 4 (some .int) 1 22 0 0 r A σ [.ref r.2.1, .int x1, .int x2] (zI P) := by
  refine g_enter (lv := [(0, .ref r.2.1), (1, .int x1), (2, .int x2)]) (by decide) (Nat.le_of_ble_eq_true rfl) rfl ?_
  intro p e s m below meth c ls K hr hM hl hi
  obtain ⟨hx, hb, hml, hown, hts, hlk, hKK, hA⟩ := id K
  unfold f_X0_feed at hf
  refine lv_iload_n hx hb dX0_feed_0 rfl (lv_at hl 1 rfl) ?_
  refine lv_iconst (v := 1) hx hb dX0_feed_1 rfl ?_
  refine lv_iconst (v := 4) hx hb dX0_feed_2 rfl ?_
  refine g_runi (rS [.int x1, .int (1 : Int32), .int (4 : Int32)] [] K hM hl (c_X0_in l r A _ _ _ _ _ hf) q261 q262 q82 q263 hdX0_in ⟨Nat.le_of_ble_eq_true rfl, Nat.le_of_ble_eq_true rfl⟩ ⟨Nat.le_refl _, Nat.le_refl _⟩ rfl (Nat.le_of_ble_eq_true rfl) dX0_feed_3) hM (fun σ1 v2 H locs hf hM => ?_)
  refine lv_if_ne (tgt := 11) hx hb dX0_feed_6 (by decide) (fun b3 => ?_) (fun b3 => ?_)
  · replace hf := hf.2 b3
    refine lv_aload_n hx hb dX0_feed_11 rfl (lv_at hl 0 rfl) ?_
    refine g_geti K kX hM 8 rfl q171 rfl dX0_feed_12 rfl ?_
    refine lv_iload_n hx hb dX0_feed_15 rfl (lv_at hl 1 rfl) ?_
    refine lv_iadd hx hb dX0_feed_16 ?_
    refine lv_bipush (v := 120) hx hb dX0_feed_17 rfl ?_
    refine lv_icmp_le (tgt := 25) hx hb dX0_feed_19 (by decide) (fun b4 => ?_) (fun b4 => ?_)
    · replace hf := hf.1 b4
      refine lv_iconst (v := 0) hx hb dX0_feed_25 rfl ?_
      refine lv_istore_n (lv' := [(3, .int (0 : Int32)), (0, .ref r.2.1), (1, .int x1), (2, .int x2)]) hx hb dX0_feed_26 rfl hl (by decide) rfl (fun ls hl => ?_)
      obtain ⟨n_, hf⟩ := hf
      exact w_X0_feed_27 K hr n_ _ _ _ _ hf _ _ _ hM (lv_sub hl [1, 2, 3, 0] rfl)
    · replace hf := hf.2 b4
      refine lv_bipush (v := -3) hx hb dX0_feed_22 rfl ?_
      exact g_reti K hr hM ⟨Nat.le_refl _, Nat.le_refl _⟩ hf dX0_feed_24
  · replace hf := hf.1 b3
    refine lv_iconst (v := -1) hx hb dX0_feed_9 rfl ?_
    exact g_reti K hr hM ⟨Nat.le_refl _, Nat.le_refl _⟩ hf dX0_feed_10
theorem c_X6_init (l : Launch) (r : GR) (A : Nat → Prop) (σ : GS) (x0 : Nat) (P : GS → Prop) (hf : f_X6_init r σ x0 P) : gMet dX l yX6_init cX6_init 2 none 1 24 0 0 r A σ [.ref x0, .ref r.2.1] (zV P) := by
  refine g_enter (lv := [(0, .ref x0), (1, .ref r.2.1)]) (by decide) (Nat.le_of_ble_eq_true rfl) rfl ?_
  intro p e s m below meth c ls K hr hM hl hi
  obtain ⟨hx, hb, hml, hown, hts, hlk, hKK, hA⟩ := id K
  unfold f_X6_init at hf
  refine lv_aload_n hx hb dX6_init_0 rfl (lv_at hl 0 rfl) ?_
  refine lv_aload_n hx hb dX6_init_1 rfl (lv_at hl 1 rfl) ?_
  refine p_putF K kY6 nmX6 hM 3 rfl q543 rfl dX6_init_2 rfl (hi rfl) rfl rfl rfl hf (fun H locs σ1 hf hM => ?_)
  refine lv_aload_n hx hb dX6_init_5 rfl (lv_at hl 0 rfl) ?_
  refine rO K hl q538 q133 q134 ⟨Nat.le_of_ble_eq_true rfl, Nat.le_of_ble_eq_true rfl⟩ dX6_init_6 ?_
  refine lv_aload_n hx hb dX6_init_9 rfl (lv_at hl 0 rfl) ?_
  refine lv_iconst (v := -1) hx hb dX6_init_10 rfl ?_
  refine p_put K kY6 nmX6 hM 1 rfl q540 rfl dX6_init_11 rfl rfl rfl hf (fun H locs σ2 hf hM => ?_)
  exact g_retv K hr hM ⟨Nat.le_refl _, Nat.le_refl _⟩ hf dX6_init_14
theorem c_X6_here (l : Launch) (r : GR) (A : Nat → Prop) (σ : GS) (x0 : Nat) (P : GS → Int32 → Prop) (hf : f_X6_here r σ x0 P) : gMet dX l yX6_here cX6_here 1 (some .int) 0 0 0 0 r A σ [.ref x0] (zI P) := by
  refine g_enter (lv := [(0, .ref x0)]) (by decide) (Nat.le_of_ble_eq_true rfl) rfl ?_
  intro p e s m below meth c ls K hr hM hl hi
  obtain ⟨hx, hb, hml, hown, hts, hlk, hKK, hA⟩ := id K
  unfold f_X6_here at hf
  refine lv_aload_n hx hb dX6_here_0 rfl (lv_at hl 0 rfl) ?_
  obtain ⟨v2, h1, hf⟩ := hf
  refine p_get K kY6 hM 0 rfl q539 rfl dX6_here_1 h1 ?_
  refine lv_aload_n hx hb dX6_here_4 rfl (lv_at hl 0 rfl) ?_
  obtain ⟨h3, hf⟩ := hf
  refine p_get K kY6 hM 3 rfl q543 rfl dX6_here_5 h3 ?_
  refine g_getiN K kX hM 8 rfl q170 rfl dX6_here_8 rfl ?_
  refine lv_icmp_ge (tgt := 29) hx hb dX6_here_11 (by decide) (fun b4 => ?_) (fun b4 => ?_)
  · replace hf := hf.1 b4
    refine lv_iconst (v := -1) hx hb dX6_here_29 rfl ?_
    exact g_reti K hr hM ⟨Nat.le_refl _, Nat.le_refl _⟩ hf dX6_here_30
  · replace hf := hf.2 b4
    refine lv_aload_n hx hb dX6_here_14 rfl (lv_at hl 0 rfl) ?_
    obtain ⟨h5, hf⟩ := hf
    refine p_get K kY6 hM 3 rfl q543 rfl dX6_here_15 h5 ?_
    refine g_getaN K kX hM 7 rfl q169 rfl dX6_here_18 rfl ?_
    refine lv_aload_n hx hb dX6_here_21 rfl (lv_at hl 0 rfl) ?_
    obtain ⟨v7, h6, hf⟩ := hf
    refine p_get K kY6 hM 0 rfl q539 rfl dX6_here_22 h6 ?_
    obtain ⟨g8, hf⟩ := hf
    refine g_bald K hM 7 rfl rfl rfl g8 dX6_here_25 ?_
    refine lv_goto (tgt := 30) hx hb dX6_here_26 (by decide) ?_
    exact g_reti K hr hM ⟨Nat.le_refl _, Nat.le_refl _⟩ hf dX6_here_30
theorem c_X8_init (l : Launch) (r : GR) (A : Nat → Prop) (σ : GS) (x0 : Nat) (P : GS → Prop) (hf : f_X8_init r σ x0 P) : gMet dX l yX8_init cX8_init 1 none 1 24 0 0 r A σ [.ref x0] (zV P) := by
  refine g_enter (lv := [(0, .ref x0)]) (by decide) (Nat.le_of_ble_eq_true rfl) rfl ?_
  intro p e s m below meth c ls K hr hM hl hi
  obtain ⟨hx, hb, hml, hown, hts, hlk, hKK, hA⟩ := id K
  unfold f_X8_init at hf
  refine lv_aload_n hx hb dX8_init_0 rfl (lv_at hl 0 rfl) ?_
  refine rO K hl q707 q133 q134 ⟨Nat.le_of_ble_eq_true rfl, Nat.le_of_ble_eq_true rfl⟩ dX8_init_1 ?_
  exact g_retv K hr hM ⟨Nat.le_refl _, Nat.le_refl _⟩ hf dX8_init_4
theorem c_X10_init (l : Launch) (r : GR) (A : Nat → Prop) (σ : GS) (x0 : Nat) (x1 : Option Nat) (P : GS → Prop) (hf : f_X10_init r σ x0 x1 P) : gMet dX l yX10_init cX10_init 2 none 2 44 0 0 r A σ [.ref x0, va_rf x1] (zV P) := by
  refine g_enter (lv := [(0, .ref x0), (1, va_rf x1)]) (by decide) (by cases x1 <;> exact Nat.le_of_ble_eq_true rfl) (by cases x1 <;> rfl) ?_
  intro p e s m below meth c ls K hr hM hl hi
  obtain ⟨hx, hb, hml, hown, hts, hlk, hKK, hA⟩ := id K
  unfold f_X10_init at hf
  refine lv_aload_n hx hb dX10_init_0 rfl (lv_at hl 0 rfl) ?_
  refine g_runv (rIN [] [] K hM hl (c_X8_init l r A _ _ _ hf) q725 q705 q103 q706 hdX8_init ⟨Nat.le_of_ble_eq_true rfl, Nat.le_of_ble_eq_true rfl⟩ ⟨Nat.le_refl _, Nat.le_refl _⟩ rfl (Nat.le_of_ble_eq_true rfl) dX10_init_1) hM (fun σ1 H locs hf hM => ?_)
  refine lv_aload_n hx hb dX10_init_4 rfl (lv_at hl 0 rfl) ?_
  refine g_aload_nq hx hb dX10_init_5 rfl (lv_at hl 1 rfl) ?_
  refine p_putF K kY9 nmX10 hM 0 rfl q726 rfl dX10_init_6 rfl (hi rfl) rfl (by cases x1 <;> rfl) (va_rf_fit _ _) hf (fun H locs σ3 hf hM => ?_)
  exact g_retv K hr hM ⟨Nat.le_refl _, Nat.le_refl _⟩ hf dX10_init_9
theorem c_X11_init (l : Launch) (r : GR) (A : Nat → Prop) (σ : GS) (x0 : Nat) (x1 : Option Nat) (P : GS → Prop) (hf : f_X11_init r σ x0 x1 P) : gMet dX l yX11_init cX11_init 2 none 2 44 0 0 r A σ [.ref x0, va_rf x1] (zV P) := by
  refine g_enter (lv := [(0, .ref x0), (1, va_rf x1)]) (by decide) (by cases x1 <;> exact Nat.le_of_ble_eq_true rfl) (by cases x1 <;> rfl) ?_
  intro p e s m below meth c ls K hr hM hl hi
  obtain ⟨hx, hb, hml, hown, hts, hlk, hKK, hA⟩ := id K
  unfold f_X11_init at hf
  refine lv_aload_n hx hb dX11_init_0 rfl (lv_at hl 0 rfl) ?_
  refine g_runv (rIN [] [] K hM hl (c_X8_init l r A _ _ _ hf) q735 q705 q103 q706 hdX8_init ⟨Nat.le_of_ble_eq_true rfl, Nat.le_of_ble_eq_true rfl⟩ ⟨Nat.le_refl _, Nat.le_refl _⟩ rfl (Nat.le_of_ble_eq_true rfl) dX11_init_1) hM (fun σ1 H locs hf hM => ?_)
  refine lv_aload_n hx hb dX11_init_4 rfl (lv_at hl 0 rfl) ?_
  refine g_aload_nq hx hb dX11_init_5 rfl (lv_at hl 1 rfl) ?_
  refine p_putF K kY10 nmX11 hM 0 rfl q736 rfl dX11_init_6 rfl (hi rfl) rfl (by cases x1 <;> rfl) (va_rf_fit _ _) hf (fun H locs σ3 hf hM => ?_)
  exact g_retv K hr hM ⟨Nat.le_refl _, Nat.le_refl _⟩ hf dX11_init_9
theorem c_X12_init (l : Launch) (r : GR) (A : Nat → Prop) (σ : GS) (x0 : Nat) (x1 : Int32) (P : GS → Prop) (hf : f_X12_init r σ x0 x1 P) : gMet dX l yX12_init cX12_init 2 none 2 44 0 0 r A σ [.ref x0, .int x1] (zV P) := by
  refine g_enter (lv := [(0, .ref x0), (1, .int x1)]) (by decide) (Nat.le_of_ble_eq_true rfl) rfl ?_
  intro p e s m below meth c ls K hr hM hl hi
  obtain ⟨hx, hb, hml, hown, hts, hlk, hKK, hA⟩ := id K
  unfold f_X12_init at hf
  refine lv_aload_n hx hb dX12_init_0 rfl (lv_at hl 0 rfl) ?_
  refine g_runv (rIN [] [] K hM hl (c_X8_init l r A _ _ _ hf) q746 q705 q103 q706 hdX8_init ⟨Nat.le_of_ble_eq_true rfl, Nat.le_of_ble_eq_true rfl⟩ ⟨Nat.le_refl _, Nat.le_refl _⟩ rfl (Nat.le_of_ble_eq_true rfl) dX12_init_1) hM (fun σ1 H locs hf hM => ?_)
  refine lv_aload_n hx hb dX12_init_4 rfl (lv_at hl 0 rfl) ?_
  refine lv_iload_n hx hb dX12_init_5 rfl (lv_at hl 1 rfl) ?_
  refine p_putF K kY11 nmX12 hM 0 rfl q747 rfl dX12_init_6 rfl (hi rfl) rfl rfl rfl hf (fun H locs σ3 hf hM => ?_)
  exact g_retv K hr hM ⟨Nat.le_refl _, Nat.le_refl _⟩ hf dX12_init_9
theorem c_J4_isLatin1_s3 (l : Launch) (r : GR) (A : Nat → Prop) (σ : GS) (P : GS → Int32 → Prop) (hf : f_J4_isLatin1_s3 r σ P) : gMet dX l yJ4_isLatin1 cJ4_isLatin1 1 (some .boolean) 0 0 0 0 r A σ [.ref (r.2.2.1 (100 + 3))] (zI P) := by
  refine g_enter (lv := [(0, .ref (r.2.2.1 (100 + 3)))]) (by decide) (Nat.le_of_ble_eq_true rfl) rfl ?_
  intro p e s m below meth c ls K hr hM hl hi
  obtain ⟨hx, hb, hml, hown, hts, hlk, hKK, hA⟩ := id K
  unfold f_J4_isLatin1_s3 at hf
  refine s_compact K hM q625 dJ4_isLatin1_0 ?_
  refine lv_if_eq (tgt := 17) hx hb dJ4_isLatin1_3 (by decide) (fun b1 => ?_) (fun b1 => ?_)
  · replace hf := hf.1 b1
    refine lv_iconst (v := 0) hx hb dJ4_isLatin1_17 rfl ?_
    exact g_retz K hr hM ⟨Nat.le_refl _, Nat.le_refl _⟩ gZ_0 hf dJ4_isLatin1_18
  · replace hf := hf.2 b1
    refine lv_aload_n hx hb dJ4_isLatin1_6 rfl (lv_at hl 0 rfl) ?_
    refine s_coder K hM 3 rfl q2036 dJ4_isLatin1_7 ?_
    refine lv_if_ne (tgt := 17) hx hb dJ4_isLatin1_10 (by decide) (fun b2 => ?_) (fun b2 => ?_)
    · replace hf := hf.2 b2
      refine lv_iconst (v := 0) hx hb dJ4_isLatin1_17 rfl ?_
      exact g_retz K hr hM ⟨Nat.le_refl _, Nat.le_refl _⟩ gZ_0 hf dJ4_isLatin1_18
    · replace hf := hf.1 b2
      refine lv_iconst (v := 1) hx hb dJ4_isLatin1_13 rfl ?_
      refine lv_goto (tgt := 18) hx hb dJ4_isLatin1_14 (by decide) ?_
      exact g_retz K hr hM ⟨Nat.le_refl _, Nat.le_refl _⟩ gZ_1 hf dJ4_isLatin1_18
theorem c_J4_coder_s3 (l : Launch) (r : GR) (A : Nat → Prop) (σ : GS) (P : GS → Int32 → Prop) (hf : f_J4_coder_s3 r σ P) : gMet dX l yJ4_coder cJ4_coder 1 (some .byte) 0 0 0 0 r A σ [.ref (r.2.2.1 (100 + 3))] (zI P) := by
  refine g_enter (lv := [(0, .ref (r.2.2.1 (100 + 3)))]) (by decide) (Nat.le_of_ble_eq_true rfl) rfl ?_
  intro p e s m below meth c ls K hr hM hl hi
  obtain ⟨hx, hb, hml, hown, hts, hlk, hKK, hA⟩ := id K
  unfold f_J4_coder_s3 at hf
  refine s_compact K hM q625 dJ4_coder_0 ?_
  refine lv_if_eq (tgt := 13) hx hb dJ4_coder_3 (by decide) (fun b1 => ?_) (fun b1 => ?_)
  · replace hf := hf.1 b1
    refine lv_iconst (v := 1) hx hb dJ4_coder_13 rfl ?_
    exact g_retb K hr hM ⟨Nat.le_refl _, Nat.le_refl _⟩ rfl hf dJ4_coder_14
  · replace hf := hf.2 b1
    refine lv_aload_n hx hb dJ4_coder_6 rfl (lv_at hl 0 rfl) ?_
    refine s_coder K hM 3 rfl q2036 dJ4_coder_7 ?_
    refine lv_goto (tgt := 14) hx hb dJ4_coder_10 (by decide) ?_
    exact g_retb K hr hM ⟨Nat.le_refl _, Nat.le_refl _⟩ rfl hf dJ4_coder_14
theorem c_J4_length_s3 (l : Launch) (r : GR) (A : Nat → Prop) (σ : GS) (P : GS → Int32 → Prop) (hf : f_J4_length_s3 r σ P) : gMet dX l yJ4_length cJ4_length 1 (some .int) 1 20 0 0 r A σ [.ref (r.2.2.1 (100 + 3))] (zI P) := by
  refine g_enter (lv := [(0, .ref (r.2.2.1 (100 + 3)))]) (by decide) (Nat.le_of_ble_eq_true rfl) rfl ?_
  intro p e s m below meth c ls K hr hM hl hi
  obtain ⟨hx, hb, hml, hown, hts, hlk, hKK, hA⟩ := id K
  unfold f_J4_length_s3 at hf
  refine lv_aload_n hx hb dJ4_length_0 rfl (lv_at hl 0 rfl) ?_
  refine s_value K hM 3 rfl q2037 dJ4_length_1 ?_
  refine s_len K hM 3 rfl rfl dJ4_length_4 ?_
  refine lv_aload_n hx hb dJ4_length_5 rfl (lv_at hl 0 rfl) ?_
  refine g_runi (rStr 3 [] [.int (Int32.ofNat 7)] K hM hl rfl (c_J4_coder_s3 l r A _ _ hf) q631 q632 q633 q90 q634 hdJ4_coder ⟨Nat.le_of_ble_eq_true rfl, Nat.le_of_ble_eq_true rfl⟩ ⟨Nat.le_refl _, Nat.le_refl _⟩ rfl (Nat.le_of_ble_eq_true rfl) dJ4_length_6) hM (fun σ1 v2 H locs hf hM => ?_)
  refine lv_ishr hx hb dJ4_length_9 ?_
  exact g_reti K hr hM ⟨Nat.le_refl _, Nat.le_refl _⟩ hf dJ4_length_10
theorem c_J8_canEncode (l : Launch) (r : GR) (A : Nat → Prop) (σ : GS) (x0 : Int32) (P : GS → Int32 → Prop) (hf : f_J8_canEncode r σ x0 P) : gMet dX l yJ8_canEncode cJ8_canEncode 1 (some .boolean) 0 0 0 0 r A σ [.int x0] (zI P) := by
  refine g_enter (lv := [(0, .int x0)]) (by decide) (Nat.le_of_ble_eq_true rfl) rfl ?_
  intro p e s m below meth c ls K hr hM hl hi
  obtain ⟨hx, hb, hml, hown, hts, hlk, hKK, hA⟩ := id K
  unfold f_J8_canEncode at hf
  refine lv_iload_n hx hb dJ8_canEncode_0 rfl (lv_at hl 0 rfl) ?_
  refine lv_if_lt (tgt := 15) hx hb dJ8_canEncode_1 (by decide) (fun b1 => ?_) (fun b1 => ?_)
  · replace hf := hf.1 b1
    refine lv_iconst (v := 0) hx hb dJ8_canEncode_15 rfl ?_
    exact g_retz K hr hM ⟨Nat.le_refl _, Nat.le_refl _⟩ gZ_0 hf dJ8_canEncode_16
  · replace hf := hf.2 b1
    refine lv_iload_n hx hb dJ8_canEncode_4 rfl (lv_at hl 0 rfl) ?_
    refine lv_sipush (v := 255) hx hb dJ8_canEncode_5 rfl ?_
    refine lv_icmp_gt (tgt := 15) hx hb dJ8_canEncode_8 (by decide) (fun b2 => ?_) (fun b2 => ?_)
    · replace hf := hf.1 b2
      refine lv_iconst (v := 0) hx hb dJ8_canEncode_15 rfl ?_
      exact g_retz K hr hM ⟨Nat.le_refl _, Nat.le_refl _⟩ gZ_0 hf dJ8_canEncode_16
    · replace hf := hf.2 b2
      refine lv_iconst (v := 1) hx hb dJ8_canEncode_11 rfl ?_
      refine lv_goto (tgt := 16) hx hb dJ8_canEncode_12 (by decide) ?_
      exact g_retz K hr hM ⟨Nat.le_refl _, Nat.le_refl _⟩ gZ_1 hf dJ8_canEncode_16
theorem w_J8_indexOfChar_s3_7 {p : Program} {l : Launch} {e : Env} {s : State} {m : MethodId} {args : Array Value} {below : List Frame} {meth : Method} {c : Code} {r : GR} {A : Nat → Prop} {P : GS → Int32 → Prop} (K : gC p s m args meth c cJ8_indexOfChar 6 RJ8 r A) (hr : meth.sig.returnType = (some .int)) : ∀ (n : Nat) (σ : GS) (x3 : Int32) (x4 : Int32) (x5 : Int32), f_J8_indexOfChar_s3_7 r P n σ x3 x4 x5 → gW dX p l e (gRm 0 0 0 0) s m args below meth c r A (zI P) 0 0 6 7 [(0, .ref (r.2.2.1 (200 + 3))), (3, .int x3), (4, .int x4), (5, .int x5)] [] 0 0 σ := by
  obtain ⟨hx, hb, hml, hown, hts, hlk, hKK, hA⟩ := id K
  intro n
  induction n with
  | zero =>
    intro σ x3 x4 x5 hf
    exact absurd hf (fun h => h)
  | succ n ih =>
    intro σ x3 x4 x5 hf H locs ls hM hl
    rw [f_J8_indexOfChar_s3_7] at hf
    refine lv_iload hx hb dJ8_indexOfChar_7 (lv_at hl 3 rfl) ?_
    refine lv_iload_n hx hb dJ8_indexOfChar_9 rfl (lv_at hl 1 rfl) ?_
    refine lv_icmp_ge (tgt := 31) hx hb dJ8_indexOfChar_10 (by decide) (fun b1 => ?_) (fun b1 => ?_)
    · replace hf := hf.1 b1
      refine lv_iconst (v := -1) hx hb dJ8_indexOfChar_31 rfl ?_
      exact g_reti K hr hM ⟨Nat.le_refl _, Nat.le_refl _⟩ hf dJ8_indexOfChar_32
    · replace hf := hf.2 b1
      refine lv_aload_n hx hb dJ8_indexOfChar_13 rfl (lv_at hl 0 rfl) ?_
      refine lv_iload hx hb dJ8_indexOfChar_14 (lv_at hl 3 rfl) ?_
      obtain ⟨g2, hf⟩ := hf
      refine s_bald K hM 3 rfl rfl g2 dJ8_indexOfChar_16 ?_
      refine lv_iload hx hb dJ8_indexOfChar_17 (lv_at hl 2 rfl) ?_
      refine lv_icmp_ne (tgt := 25) hx hb dJ8_indexOfChar_19 (by decide) (fun b3 => ?_) (fun b3 => ?_)
      · replace hf := hf.2 b3
        refine lv_iinc (v := x5 + 1) (lv' := [(5, .int (x5 + 1)), (0, .ref (r.2.2.1 (200 + 3))), (3, .int x3), (4, .int x4)]) hx hb dJ8_indexOfChar_25 hl (k := 3) rfl rfl (by decide) rfl (fun ls hl => ?_)
        refine lv_goto (tgt := 7) hx hb dJ8_indexOfChar_28 (by decide) ?_
        exact ih _ _ _ _ hf _ _ _ hM (lv_sub hl [1, 2, 3, 0] rfl)
      · replace hf := hf.1 b3
        refine lv_iload hx hb dJ8_indexOfChar_22 (lv_at hl 3 rfl) ?_
        exact g_reti K hr hM ⟨Nat.le_refl _, Nat.le_refl _⟩ hf dJ8_indexOfChar_24
theorem c_J8_indexOfChar_s3 (l : Launch) (r : GR) (A : Nat → Prop) (σ : GS) (x1 : Int32) (x2 : Int32) (x3 : Int32) (P : GS → Int32 → Prop) (hf : f_J8_indexOfChar_s3 r σ x1 x2 x3 P) : gMet dX l yJ8_indexOfChar cJ8_indexOfChar 6 (some .int) 0 0 0 0 r A σ [.ref (r.2.2.1 (200 + 3)), .int x1, .int x2, .int x3] (zI P) := by
  refine g_enter (lv := [(0, .ref (r.2.2.1 (200 + 3))), (1, .int x1), (2, .int x2), (3, .int x3)]) (by decide) (Nat.le_of_ble_eq_true rfl) rfl ?_
  intro p e s m below meth c ls K hr hM hl hi
  obtain ⟨hx, hb, hml, hown, hts, hlk, hKK, hA⟩ := id K
  unfold f_J8_indexOfChar_s3 at hf
  refine lv_iload_n hx hb dJ8_indexOfChar_0 rfl (lv_at hl 1 rfl) ?_
  refine lv_i2b hx hb dJ8_indexOfChar_1 rfl ?_
  refine lv_istore (lv' := [(4, .int x1.toInt8.toInt32), (0, .ref (r.2.2.1 (200 + 3))), (1, .int x1), (2, .int x2), (3, .int x3)]) hx hb dJ8_indexOfChar_2 hl (by decide) rfl (fun ls hl => ?_)
  refine lv_iload_n hx hb dJ8_indexOfChar_4 rfl (lv_at hl 3 rfl) ?_
  refine lv_istore (lv' := [(5, .int x2), (4, .int x1.toInt8.toInt32), (0, .ref (r.2.2.1 (200 + 3))), (1, .int x1), (2, .int x2), (3, .int x3)]) hx hb dJ8_indexOfChar_5 hl (by decide) rfl (fun ls hl => ?_)
  obtain ⟨n_, hf⟩ := hf
  exact w_J8_indexOfChar_s3_7 K hr n_ _ _ _ _ hf _ _ _ hM (lv_sub hl [2, 5, 1, 0] rfl)
theorem c_J8_indexOf_s3 (l : Launch) (r : GR) (A : Nat → Prop) (σ : GS) (x1 : Int32) (x2 : Int32) (x3 : Int32) (P : GS → Int32 → Prop) (hf : f_J8_indexOf_s3 r σ x1 x2 x3 P) : gMet dX l yJ8_indexOf cJ8_indexOf 4 (some .int) 1 25 0 0 r A σ [.ref (r.2.2.1 (200 + 3)), .int x1, .int x2, .int x3] (zI P) := by
  refine g_enter (lv := [(0, .ref (r.2.2.1 (200 + 3))), (1, .int x1), (2, .int x2), (3, .int x3)]) (by decide) (Nat.le_of_ble_eq_true rfl) rfl ?_
  intro p e s m below meth c ls K hr hM hl hi
  obtain ⟨hx, hb, hml, hown, hts, hlk, hKK, hA⟩ := id K
  unfold f_J8_indexOf_s3 at hf
  refine lv_iload_n hx hb dJ8_indexOf_0 rfl (lv_at hl 1 rfl) ?_
  refine g_runi (rS [.int x1] [] K hM hl (c_J8_canEncode l r A _ _ _ hf) q638 q639 q98 q640 hdJ8_canEncode ⟨Nat.le_of_ble_eq_true rfl, Nat.le_of_ble_eq_true rfl⟩ ⟨Nat.le_refl _, Nat.le_refl _⟩ rfl (Nat.le_of_ble_eq_true rfl) dJ8_indexOf_1) hM (fun σ1 v2 H locs hf hM => ?_)
  refine lv_if_ne (tgt := 9) hx hb dJ8_indexOf_4 (by decide) (fun b3 => ?_) (fun b3 => ?_)
  · replace hf := hf.2 b3
    refine lv_iload_n hx hb dJ8_indexOf_9 rfl (lv_at hl 2 rfl) ?_
    refine lv_iconst (v := 0) hx hb dJ8_indexOf_10 rfl ?_
    refine va_mmax hx hb (hml.trans hl.1.symm) hown (hts _ q641) (hts _ q642) (hts _ q99) (hts _ q643) (Nat.le_of_ble_eq_true rfl) (Nat.le_of_ble_eq_true rfl) (Nat.zero_le _) (Nat.zero_le _) dJ8_indexOf_11 ?_
    refine lv_topi (fun z4 hz4 => ?_)
    have hf := hf z4 hz4
    refine lv_istore_n (lv' := [(2, .int z4), (0, .ref (r.2.2.1 (200 + 3))), (1, .int x1), (3, .int x3)]) hx hb dJ8_indexOf_14 rfl hl (by decide) rfl (fun ls hl => ?_)
    refine lv_iload_n hx hb dJ8_indexOf_15 rfl (lv_at hl 3 rfl) ?_
    refine lv_aload_n hx hb dJ8_indexOf_16 rfl (lv_at hl 1 rfl) ?_
    refine s_len K hM 3 rfl rfl dJ8_indexOf_17 ?_
    refine va_mmin hx hb (hml.trans hl.1.symm) hown (hts _ q644) (hts _ q645) (hts _ q99) (hts _ q646) (Nat.le_of_ble_eq_true rfl) (Nat.le_of_ble_eq_true rfl) (Nat.zero_le _) (Nat.zero_le _) dJ8_indexOf_18 ?_
    refine lv_topi (fun z5 hz5 => ?_)
    have hf := hf z5 hz5
    refine lv_istore_n (lv' := [(3, .int z5), (2, .int z4), (0, .ref (r.2.2.1 (200 + 3))), (1, .int x1)]) hx hb dJ8_indexOf_21 rfl hl (by decide) rfl (fun ls hl => ?_)
    refine lv_iload_n hx hb dJ8_indexOf_22 rfl (lv_at hl 1 rfl) ?_
    refine lv_iload_n hx hb dJ8_indexOf_23 rfl (lv_at hl 0 rfl) ?_
    refine lv_icmp_lt (tgt := 29) hx hb dJ8_indexOf_24 (by decide) (fun b6 => ?_) (fun b6 => ?_)
    · replace hf := hf.1 b6
      refine lv_aload_n hx hb dJ8_indexOf_29 rfl (lv_at hl 2 rfl) ?_
      refine lv_iload_n hx hb dJ8_indexOf_30 rfl (lv_at hl 3 rfl) ?_
      refine lv_iload_n hx hb dJ8_indexOf_31 rfl (lv_at hl 1 rfl) ?_
      refine lv_iload_n hx hb dJ8_indexOf_32 rfl (lv_at hl 0 rfl) ?_
      refine g_runi (rS [.ref (r.2.2.1 (200 + 3)), .int x1, .int z4, .int z5] [] K hM hl (c_J8_indexOfChar_s3 l r A _ _ _ _ _ hf) q647 q648 q98 q649 hdJ8_indexOfChar ⟨Nat.le_of_ble_eq_true rfl, Nat.le_of_ble_eq_true rfl⟩ ⟨Nat.le_refl _, Nat.le_refl _⟩ rfl (Nat.le_of_ble_eq_true rfl) dJ8_indexOf_33) hM (fun σ7 v8 H locs hf hM => ?_)
      exact g_reti K hr hM ⟨Nat.le_refl _, Nat.le_refl _⟩ hf dJ8_indexOf_36
    · replace hf := hf.2 b6
      refine lv_iconst (v := -1) hx hb dJ8_indexOf_27 rfl ?_
      exact g_reti K hr hM ⟨Nat.le_refl _, Nat.le_refl _⟩ hf dJ8_indexOf_28
  · replace hf := hf.1 b3
    refine lv_iconst (v := -1) hx hb dJ8_indexOf_7 rfl ?_
    exact g_reti K hr hM ⟨Nat.le_refl _, Nat.le_refl _⟩ hf dJ8_indexOf_8
theorem c_J4_indexOf_2_s3 (l : Launch) (r : GR) (A : Nat → Prop) (σ : GS) (x1 : Int32) (x2 : Int32) (P : GS → Int32 → Prop) (hf : f_J4_indexOf_2_s3 r σ x1 x2 P) : gMet dX l yJ4_indexOf_2 cJ4_indexOf_2 3 (some .int) 2 48 0 0 r A σ [.ref (r.2.2.1 (100 + 3)), .int x1, .int x2] (zI P) := by
  refine g_enter (lv := [(0, .ref (r.2.2.1 (100 + 3))), (1, .int x1), (2, .int x2)]) (by decide) (Nat.le_of_ble_eq_true rfl) rfl ?_
  intro p e s m below meth c ls K hr hM hl hi
  obtain ⟨hx, hb, hml, hown, hts, hlk, hKK, hA⟩ := id K
  unfold f_J4_indexOf_2_s3 at hf
  refine lv_aload_n hx hb dJ4_indexOf_2_0 rfl (lv_at hl 0 rfl) ?_
  refine g_runi (rStr 3 [] [] K hM hl rfl (c_J4_isLatin1_s3 l r A _ _ hf) q621 q622 q623 q90 q624 hdJ4_isLatin1 ⟨Nat.le_of_ble_eq_true rfl, Nat.le_of_ble_eq_true rfl⟩ ⟨Nat.le_refl _, Nat.le_refl _⟩ rfl (Nat.le_of_ble_eq_true rfl) dJ4_indexOf_2_1) hM (fun σ1 v2 H locs hf hM => ?_)
  refine lv_if_eq (tgt := 23) hx hb dJ4_indexOf_2_4 (by decide) (fun b3 => ?_) (fun b3 => ?_)
  · replace hf := hf.1 b3
    refine lv_aload_n hx hb dJ4_indexOf_2_23 rfl (lv_at hl 0 rfl) ?_
    refine s_value K hM 3 rfl q2037 dJ4_indexOf_2_24 ?_
    refine lv_iload_n hx hb dJ4_indexOf_2_27 rfl (lv_at hl 1 rfl) ?_
    refine lv_iload_n hx hb dJ4_indexOf_2_28 rfl (lv_at hl 2 rfl) ?_
    refine lv_aload_n hx hb dJ4_indexOf_2_29 rfl (lv_at hl 0 rfl) ?_
    refine g_runi (rStr 3 [] [.int x2, .int x1, .ref (r.2.2.1 (200 + 3))] K hM hl rfl (c_J4_length_s3 l r A _ _ hf) q627 q628 q629 q90 q630 hdJ4_length ⟨Nat.le_of_ble_eq_true rfl, Nat.le_of_ble_eq_true rfl⟩ ⟨Nat.le_refl _, Nat.le_refl _⟩ rfl (Nat.le_of_ble_eq_true rfl) dJ4_indexOf_2_30) hM (fun σ4 v5 H locs hf hM => ?_)
    exact hf.elim
  · replace hf := hf.2 b3
    refine lv_aload_n hx hb dJ4_indexOf_2_7 rfl (lv_at hl 0 rfl) ?_
    refine s_value K hM 3 rfl q2037 dJ4_indexOf_2_8 ?_
    refine lv_iload_n hx hb dJ4_indexOf_2_11 rfl (lv_at hl 1 rfl) ?_
    refine lv_iload_n hx hb dJ4_indexOf_2_12 rfl (lv_at hl 2 rfl) ?_
    refine lv_aload_n hx hb dJ4_indexOf_2_13 rfl (lv_at hl 0 rfl) ?_
    refine g_runi (rStr 3 [] [.int x2, .int x1, .ref (r.2.2.1 (200 + 3))] K hM hl rfl (c_J4_length_s3 l r A _ _ hf) q627 q628 q629 q90 q630 hdJ4_length ⟨Nat.le_of_ble_eq_true rfl, Nat.le_of_ble_eq_true rfl⟩ ⟨Nat.le_refl _, Nat.le_refl _⟩ rfl (Nat.le_of_ble_eq_true rfl) dJ4_indexOf_2_14) hM (fun σ6 v7 H locs hf hM => ?_)
    refine g_runi (rS [.ref (r.2.2.1 (200 + 3)), .int x1, .int x2, .int v7] [] K hM hl (c_J8_indexOf_s3 l r A _ _ _ _ _ hf) q635 q636 q98 q637 hdJ8_indexOf ⟨Nat.le_of_ble_eq_true rfl, Nat.le_of_ble_eq_true rfl⟩ ⟨Nat.le_refl _, Nat.le_refl _⟩ rfl (Nat.le_of_ble_eq_true rfl) dJ4_indexOf_2_17) hM (fun σ8 v9 H locs hf hM => ?_)
    refine lv_goto (tgt := 36) hx hb dJ4_indexOf_2_20 (by decide) ?_
    exact g_reti K hr hM ⟨Nat.le_refl _, Nat.le_refl _⟩ hf dJ4_indexOf_2_36
theorem c_J4_indexOf_s3 (l : Launch) (r : GR) (A : Nat → Prop) (σ : GS) (x1 : Int32) (P : GS → Int32 → Prop) (hf : f_J4_indexOf_s3 r σ x1 P) : gMet dX l yJ4_indexOf cJ4_indexOf 2 (some .int) 3 70 0 0 r A σ [.ref (r.2.2.1 (100 + 3)), .int x1] (zI P) := by
  refine g_enter (lv := [(0, .ref (r.2.2.1 (100 + 3))), (1, .int x1)]) (by decide) (Nat.le_of_ble_eq_true rfl) rfl ?_
  intro p e s m below meth c ls K hr hM hl hi
  obtain ⟨hx, hb, hml, hown, hts, hlk, hKK, hA⟩ := id K
  unfold f_J4_indexOf_s3 at hf
  refine lv_aload_n hx hb dJ4_indexOf_0 rfl (lv_at hl 0 rfl) ?_
  refine lv_iload_n hx hb dJ4_indexOf_1 rfl (lv_at hl 1 rfl) ?_
  refine lv_iconst (v := 0) hx hb dJ4_indexOf_2 rfl ?_
  refine g_runi (rStr 3 [.int x1, .int (0 : Int32)] [] K hM hl rfl (c_J4_indexOf_2_s3 l r A _ _ _ _ hf) q617 q618 q619 q90 q620 hdJ4_indexOf_2 ⟨Nat.le_of_ble_eq_true rfl, Nat.le_of_ble_eq_true rfl⟩ ⟨Nat.le_refl _, Nat.le_refl _⟩ rfl (Nat.le_of_ble_eq_true rfl) dJ4_indexOf_3) hM (fun σ1 v2 H locs hf hM => ?_)
  exact g_reti K hr hM ⟨Nat.le_refl _, Nat.le_refl _⟩ hf dJ4_indexOf_6
theorem c_X6_isOne_s3 (l : Launch) (r : GR) (A : Nat → Prop) (σ : GS) (x0 : Nat) (P : GS → Int32 → Prop) (hf : f_X6_isOne_s3 r σ x0 P) : gMet dX l yX6_isOne cX6_isOne 2 (some .boolean) 4 91 0 0 r A σ [.ref x0, .ref (r.2.2.1 (100 + 3))] (zI P) := by
  refine g_enter (lv := [(0, .ref x0), (1, .ref (r.2.2.1 (100 + 3)))]) (by decide) (Nat.le_of_ble_eq_true rfl) rfl ?_
  intro p e s m below meth c ls K hr hM hl hi
  obtain ⟨hx, hb, hml, hown, hts, hlk, hKK, hA⟩ := id K
  unfold f_X6_isOne_s3 at hf
  refine lv_aload_n hx hb dX6_isOne_0 rfl (lv_at hl 0 rfl) ?_
  obtain ⟨f3, h4, hf⟩ := hf
  refine g_runi (rP [] [] K kY6 hM hl h4 (c_X6_here l r A _ _ _ hf) q604 q606 qs14 q96 q607 hdX6_here ⟨Nat.le_of_ble_eq_true rfl, Nat.le_of_ble_eq_true rfl⟩ ⟨Nat.le_refl _, Nat.le_refl _⟩ rfl (Nat.le_of_ble_eq_true rfl) dX6_isOne_1) hM (fun σ1 v2 H locs hf hM => ?_)
  refine lv_if_lt (tgt := 22) hx hb dX6_isOne_4 (by decide) (fun b5 => ?_) (fun b5 => ?_)
  · replace hf := hf.1 b5
    refine lv_iconst (v := 0) hx hb dX6_isOne_22 rfl ?_
    exact g_retz K hr hM ⟨Nat.le_refl _, Nat.le_refl _⟩ gZ_0 hf dX6_isOne_23
  · replace hf := hf.2 b5
    refine lv_aload_n hx hb dX6_isOne_7 rfl (lv_at hl 1 rfl) ?_
    refine lv_aload_n hx hb dX6_isOne_8 rfl (lv_at hl 0 rfl) ?_
    obtain ⟨f8, h9, hf⟩ := hf
    refine g_runi (rP [] [.ref (r.2.2.1 (100 + 3))] K kY6 hM hl h9 (c_X6_here l r A _ _ _ hf) q604 q606 qs14 q96 q607 hdX6_here ⟨Nat.le_of_ble_eq_true rfl, Nat.le_of_ble_eq_true rfl⟩ ⟨Nat.le_refl _, Nat.le_refl _⟩ rfl (Nat.le_of_ble_eq_true rfl) dX6_isOne_9) hM (fun σ6 v7 H locs hf hM => ?_)
    refine g_runi (rStr 3 [.int v7] [] K hM hl rfl (c_J4_indexOf_s3 l r A _ _ _ hf) q613 q614 q615 q90 q616 hdJ4_indexOf ⟨Nat.le_of_ble_eq_true rfl, Nat.le_of_ble_eq_true rfl⟩ ⟨Nat.le_refl _, Nat.le_refl _⟩ rfl (Nat.le_of_ble_eq_true rfl) dX6_isOne_12) hM (fun σ10 v11 H locs hf hM => ?_)
    refine lv_if_lt (tgt := 22) hx hb dX6_isOne_15 (by decide) (fun b12 => ?_) (fun b12 => ?_)
    · replace hf := hf.1 b12
      refine lv_iconst (v := 0) hx hb dX6_isOne_22 rfl ?_
      exact g_retz K hr hM ⟨Nat.le_refl _, Nat.le_refl _⟩ gZ_0 hf dX6_isOne_23
    · replace hf := hf.2 b12
      refine lv_iconst (v := 1) hx hb dX6_isOne_18 rfl ?_
      refine lv_goto (tgt := 23) hx hb dX6_isOne_19 (by decide) ?_
      exact g_retz K hr hM ⟨Nat.le_refl _, Nat.le_refl _⟩ gZ_1 hf dX6_isOne_23
theorem c_X6_opens (l : Launch) (r : GR) (A : Nat → Prop) (σ : GS) (x0 : Nat) (P : GS → Int32 → Prop) (hf : f_X6_opens r σ x0 P) : gMet dX l yX6_opens cX6_opens 1 (some .boolean) 0 0 0 0 r A σ [.ref x0] (zI P) := by
  refine g_enter (lv := [(0, .ref x0)]) (by decide) (Nat.le_of_ble_eq_true rfl) rfl ?_
  intro p e s m below meth c ls K hr hM hl hi
  obtain ⟨hx, hb, hml, hown, hts, hlk, hKK, hA⟩ := id K
  unfold f_X6_opens at hf
  refine lv_aload_n hx hb dX6_opens_0 rfl (lv_at hl 0 rfl) ?_
  obtain ⟨v2, h1, hf⟩ := hf
  refine p_get K kY6 hM 2 rfl q542 rfl dX6_opens_1 h1 ?_
  refine lv_bipush (v := 6) hx hb dX6_opens_4 rfl ?_
  refine lv_icmp_ne (tgt := 11) hx hb dX6_opens_6 (by decide) (fun b3 => ?_) (fun b3 => ?_)
  · replace hf := hf.2 b3
    refine lv_aload_n hx hb dX6_opens_11 rfl (lv_at hl 0 rfl) ?_
    refine lv_dup hx hb dX6_opens_12 rfl ?_
    obtain ⟨v5, h4, hf⟩ := hf
    refine p_get K kY6 hM 2 rfl q542 rfl dX6_opens_13 h4 ?_
    refine lv_iconst (v := 1) hx hb dX6_opens_16 rfl ?_
    refine lv_iadd hx hb dX6_opens_17 ?_
    refine p_put K kY6 nmX6 hM 2 rfl q542 rfl dX6_opens_18 rfl rfl rfl hf (fun H locs σ6 hf hM => ?_)
    refine lv_aload_n hx hb dX6_opens_21 rfl (lv_at hl 0 rfl) ?_
    refine lv_dup hx hb dX6_opens_22 rfl ?_
    obtain ⟨v8, h7, hf⟩ := hf
    refine p_get K kY6 hM 0 rfl q539 rfl dX6_opens_23 h7 ?_
    refine lv_iconst (v := 1) hx hb dX6_opens_26 rfl ?_
    refine lv_iadd hx hb dX6_opens_27 ?_
    refine p_put K kY6 nmX6 hM 0 rfl q539 rfl dX6_opens_28 rfl rfl rfl hf (fun H locs σ9 hf hM => ?_)
    refine lv_iconst (v := 1) hx hb dX6_opens_31 rfl ?_
    exact g_retz K hr hM ⟨Nat.le_refl _, Nat.le_refl _⟩ gZ_1 hf dX6_opens_32
  · replace hf := hf.1 b3
    refine lv_iconst (v := 0) hx hb dX6_opens_9 rfl ?_
    exact g_retz K hr hM ⟨Nat.le_refl _, Nat.le_refl _⟩ gZ_0 hf dX6_opens_10
theorem c_X6_wrong (l : Launch) (r : GR) (A : Nat → Prop) (σ : GS) (x0 : Nat) (P : GS → Option Nat → Prop) (hf : f_X6_wrong r σ x0 P) : gMet dX l yX6_wrong cX6_wrong 1 (some (.object "PointsForAll$Node")) 0 0 0 0 r A σ [.ref x0] (zQ P) := by
  refine g_enter (lv := [(0, .ref x0)]) (by decide) (Nat.le_of_ble_eq_true rfl) rfl ?_
  intro p e s m below meth c ls K hr hM hl hi
  obtain ⟨hx, hb, hml, hown, hts, hlk, hKK, hA⟩ := id K
  unfold f_X6_wrong at hf
  refine lv_aload_n hx hb dX6_wrong_0 rfl (lv_at hl 0 rfl) ?_
  obtain ⟨v2, h1, hf⟩ := hf
  refine p_get K kY6 hM 1 rfl q540 rfl dX6_wrong_1 h1 ?_
  refine lv_if_ge (tgt := 15) hx hb dX6_wrong_4 (by decide) (fun b3 => ?_) (fun b3 => ?_)
  · replace hf := hf.1 b3
    refine lv_null hx hb dX6_wrong_15 ?_
    exact g_retq (v := none) K hr (Or.inl ⟨_, rfl⟩) hM ⟨Nat.le_refl _, Nat.le_refl _⟩ hf dX6_wrong_16
  · replace hf := hf.2 b3
    refine lv_aload_n hx hb dX6_wrong_7 rfl (lv_at hl 0 rfl) ?_
    refine lv_aload_n hx hb dX6_wrong_8 rfl (lv_at hl 0 rfl) ?_
    obtain ⟨v5, h4, hf⟩ := hf
    refine p_get K kY6 hM 0 rfl q539 rfl dX6_wrong_9 h4 ?_
    refine p_put K kY6 nmX6 hM 1 rfl q540 rfl dX6_wrong_12 rfl rfl rfl hf (fun H locs σ6 hf hM => ?_)
    refine lv_null hx hb dX6_wrong_15 ?_
    exact g_retq (v := none) K hr (Or.inl ⟨_, rfl⟩) hM ⟨Nat.le_refl _, Nat.le_refl _⟩ hf dX6_wrong_16
theorem c_X9_init (l : Launch) (r : GR) (A : Nat → Prop) (σ : GS) (x0 : Nat) (x1 : Int32) (P : GS → Prop) (hf : f_X9_init r σ x0 x1 P) : gMet dX l yX9_init cX9_init 2 none 2 44 0 0 r A σ [.ref x0, .int x1] (zV P) := by
  refine g_enter (lv := [(0, .ref x0), (1, .int x1)]) (by decide) (Nat.le_of_ble_eq_true rfl) rfl ?_
  intro p e s m below meth c ls K hr hM hl hi
  obtain ⟨hx, hb, hml, hown, hts, hlk, hKK, hA⟩ := id K
  unfold f_X9_init at hf
  refine lv_aload_n hx hb dX9_init_0 rfl (lv_at hl 0 rfl) ?_
  refine g_runv (rIN [] [] K hM hl (c_X8_init l r A _ _ _ hf) q704 q705 q103 q706 hdX8_init ⟨Nat.le_of_ble_eq_true rfl, Nat.le_of_ble_eq_true rfl⟩ ⟨Nat.le_refl _, Nat.le_refl _⟩ rfl (Nat.le_of_ble_eq_true rfl) dX9_init_1) hM (fun σ1 H locs hf hM => ?_)
  refine lv_aload_n hx hb dX9_init_4 rfl (lv_at hl 0 rfl) ?_
  refine lv_iload_n hx hb dX9_init_5 rfl (lv_at hl 1 rfl) ?_
  refine p_putF K kY8 nmX9 hM 0 rfl q708 rfl dX9_init_6 rfl (hi rfl) rfl rfl rfl hf (fun H locs σ3 hf hM => ?_)
  exact g_retv K hr hM ⟨Nat.le_refl _, Nat.le_refl _⟩ hf dX9_init_9
theorem c_J4_isLatin1_s2 (l : Launch) (r : GR) (A : Nat → Prop) (σ : GS) (P : GS → Int32 → Prop) (hf : f_J4_isLatin1_s2 r σ P) : gMet dX l yJ4_isLatin1 cJ4_isLatin1 1 (some .boolean) 0 0 0 0 r A σ [.ref (r.2.2.1 (100 + 2))] (zI P) := by
  refine g_enter (lv := [(0, .ref (r.2.2.1 (100 + 2)))]) (by decide) (Nat.le_of_ble_eq_true rfl) rfl ?_
  intro p e s m below meth c ls K hr hM hl hi
  obtain ⟨hx, hb, hml, hown, hts, hlk, hKK, hA⟩ := id K
  unfold f_J4_isLatin1_s2 at hf
  refine s_compact K hM q625 dJ4_isLatin1_0 ?_
  refine lv_if_eq (tgt := 17) hx hb dJ4_isLatin1_3 (by decide) (fun b1 => ?_) (fun b1 => ?_)
  · replace hf := hf.1 b1
    refine lv_iconst (v := 0) hx hb dJ4_isLatin1_17 rfl ?_
    exact g_retz K hr hM ⟨Nat.le_refl _, Nat.le_refl _⟩ gZ_0 hf dJ4_isLatin1_18
  · replace hf := hf.2 b1
    refine lv_aload_n hx hb dJ4_isLatin1_6 rfl (lv_at hl 0 rfl) ?_
    refine s_coder K hM 2 rfl q2036 dJ4_isLatin1_7 ?_
    refine lv_if_ne (tgt := 17) hx hb dJ4_isLatin1_10 (by decide) (fun b2 => ?_) (fun b2 => ?_)
    · replace hf := hf.2 b2
      refine lv_iconst (v := 0) hx hb dJ4_isLatin1_17 rfl ?_
      exact g_retz K hr hM ⟨Nat.le_refl _, Nat.le_refl _⟩ gZ_0 hf dJ4_isLatin1_18
    · replace hf := hf.1 b2
      refine lv_iconst (v := 1) hx hb dJ4_isLatin1_13 rfl ?_
      refine lv_goto (tgt := 18) hx hb dJ4_isLatin1_14 (by decide) ?_
      exact g_retz K hr hM ⟨Nat.le_refl _, Nat.le_refl _⟩ gZ_1 hf dJ4_isLatin1_18
theorem c_J4_coder_s2 (l : Launch) (r : GR) (A : Nat → Prop) (σ : GS) (P : GS → Int32 → Prop) (hf : f_J4_coder_s2 r σ P) : gMet dX l yJ4_coder cJ4_coder 1 (some .byte) 0 0 0 0 r A σ [.ref (r.2.2.1 (100 + 2))] (zI P) := by
  refine g_enter (lv := [(0, .ref (r.2.2.1 (100 + 2)))]) (by decide) (Nat.le_of_ble_eq_true rfl) rfl ?_
  intro p e s m below meth c ls K hr hM hl hi
  obtain ⟨hx, hb, hml, hown, hts, hlk, hKK, hA⟩ := id K
  unfold f_J4_coder_s2 at hf
  refine s_compact K hM q625 dJ4_coder_0 ?_
  refine lv_if_eq (tgt := 13) hx hb dJ4_coder_3 (by decide) (fun b1 => ?_) (fun b1 => ?_)
  · replace hf := hf.1 b1
    refine lv_iconst (v := 1) hx hb dJ4_coder_13 rfl ?_
    exact g_retb K hr hM ⟨Nat.le_refl _, Nat.le_refl _⟩ rfl hf dJ4_coder_14
  · replace hf := hf.2 b1
    refine lv_aload_n hx hb dJ4_coder_6 rfl (lv_at hl 0 rfl) ?_
    refine s_coder K hM 2 rfl q2036 dJ4_coder_7 ?_
    refine lv_goto (tgt := 14) hx hb dJ4_coder_10 (by decide) ?_
    exact g_retb K hr hM ⟨Nat.le_refl _, Nat.le_refl _⟩ rfl hf dJ4_coder_14
theorem c_J4_length_s2 (l : Launch) (r : GR) (A : Nat → Prop) (σ : GS) (P : GS → Int32 → Prop) (hf : f_J4_length_s2 r σ P) : gMet dX l yJ4_length cJ4_length 1 (some .int) 1 20 0 0 r A σ [.ref (r.2.2.1 (100 + 2))] (zI P) := by
  refine g_enter (lv := [(0, .ref (r.2.2.1 (100 + 2)))]) (by decide) (Nat.le_of_ble_eq_true rfl) rfl ?_
  intro p e s m below meth c ls K hr hM hl hi
  obtain ⟨hx, hb, hml, hown, hts, hlk, hKK, hA⟩ := id K
  unfold f_J4_length_s2 at hf
  refine lv_aload_n hx hb dJ4_length_0 rfl (lv_at hl 0 rfl) ?_
  refine s_value K hM 2 rfl q2037 dJ4_length_1 ?_
  refine s_len K hM 2 rfl rfl dJ4_length_4 ?_
  refine lv_aload_n hx hb dJ4_length_5 rfl (lv_at hl 0 rfl) ?_
  refine g_runi (rStr 2 [] [.int (Int32.ofNat 3)] K hM hl rfl (c_J4_coder_s2 l r A _ _ hf) q631 q632 q633 q90 q634 hdJ4_coder ⟨Nat.le_of_ble_eq_true rfl, Nat.le_of_ble_eq_true rfl⟩ ⟨Nat.le_refl _, Nat.le_refl _⟩ rfl (Nat.le_of_ble_eq_true rfl) dJ4_length_6) hM (fun σ1 v2 H locs hf hM => ?_)
  refine lv_ishr hx hb dJ4_length_9 ?_
  exact g_reti K hr hM ⟨Nat.le_refl _, Nat.le_refl _⟩ hf dJ4_length_10
theorem w_J8_indexOfChar_s2_7 {p : Program} {l : Launch} {e : Env} {s : State} {m : MethodId} {args : Array Value} {below : List Frame} {meth : Method} {c : Code} {r : GR} {A : Nat → Prop} {P : GS → Int32 → Prop} (K : gC p s m args meth c cJ8_indexOfChar 6 RJ8 r A) (hr : meth.sig.returnType = (some .int)) : ∀ (n : Nat) (σ : GS) (x3 : Int32) (x4 : Int32) (x5 : Int32), f_J8_indexOfChar_s2_7 r P n σ x3 x4 x5 → gW dX p l e (gRm 0 0 0 0) s m args below meth c r A (zI P) 0 0 6 7 [(0, .ref (r.2.2.1 (200 + 2))), (3, .int x3), (4, .int x4), (5, .int x5)] [] 0 0 σ := by
  obtain ⟨hx, hb, hml, hown, hts, hlk, hKK, hA⟩ := id K
  intro n
  induction n with
  | zero =>
    intro σ x3 x4 x5 hf
    exact absurd hf (fun h => h)
  | succ n ih =>
    intro σ x3 x4 x5 hf H locs ls hM hl
    rw [f_J8_indexOfChar_s2_7] at hf
    refine lv_iload hx hb dJ8_indexOfChar_7 (lv_at hl 3 rfl) ?_
    refine lv_iload_n hx hb dJ8_indexOfChar_9 rfl (lv_at hl 1 rfl) ?_
    refine lv_icmp_ge (tgt := 31) hx hb dJ8_indexOfChar_10 (by decide) (fun b1 => ?_) (fun b1 => ?_)
    · replace hf := hf.1 b1
      refine lv_iconst (v := -1) hx hb dJ8_indexOfChar_31 rfl ?_
      exact g_reti K hr hM ⟨Nat.le_refl _, Nat.le_refl _⟩ hf dJ8_indexOfChar_32
    · replace hf := hf.2 b1
      refine lv_aload_n hx hb dJ8_indexOfChar_13 rfl (lv_at hl 0 rfl) ?_
      refine lv_iload hx hb dJ8_indexOfChar_14 (lv_at hl 3 rfl) ?_
      obtain ⟨g2, hf⟩ := hf
      refine s_bald K hM 2 rfl rfl g2 dJ8_indexOfChar_16 ?_
      refine lv_iload hx hb dJ8_indexOfChar_17 (lv_at hl 2 rfl) ?_
      refine lv_icmp_ne (tgt := 25) hx hb dJ8_indexOfChar_19 (by decide) (fun b3 => ?_) (fun b3 => ?_)
      · replace hf := hf.2 b3
        refine lv_iinc (v := x5 + 1) (lv' := [(5, .int (x5 + 1)), (0, .ref (r.2.2.1 (200 + 2))), (3, .int x3), (4, .int x4)]) hx hb dJ8_indexOfChar_25 hl (k := 3) rfl rfl (by decide) rfl (fun ls hl => ?_)
        refine lv_goto (tgt := 7) hx hb dJ8_indexOfChar_28 (by decide) ?_
        exact ih _ _ _ _ hf _ _ _ hM (lv_sub hl [1, 2, 3, 0] rfl)
      · replace hf := hf.1 b3
        refine lv_iload hx hb dJ8_indexOfChar_22 (lv_at hl 3 rfl) ?_
        exact g_reti K hr hM ⟨Nat.le_refl _, Nat.le_refl _⟩ hf dJ8_indexOfChar_24
theorem c_J8_indexOfChar_s2 (l : Launch) (r : GR) (A : Nat → Prop) (σ : GS) (x1 : Int32) (x2 : Int32) (x3 : Int32) (P : GS → Int32 → Prop) (hf : f_J8_indexOfChar_s2 r σ x1 x2 x3 P) : gMet dX l yJ8_indexOfChar cJ8_indexOfChar 6 (some .int) 0 0 0 0 r A σ [.ref (r.2.2.1 (200 + 2)), .int x1, .int x2, .int x3] (zI P) := by
  refine g_enter (lv := [(0, .ref (r.2.2.1 (200 + 2))), (1, .int x1), (2, .int x2), (3, .int x3)]) (by decide) (Nat.le_of_ble_eq_true rfl) rfl ?_
  intro p e s m below meth c ls K hr hM hl hi
  obtain ⟨hx, hb, hml, hown, hts, hlk, hKK, hA⟩ := id K
  unfold f_J8_indexOfChar_s2 at hf
  refine lv_iload_n hx hb dJ8_indexOfChar_0 rfl (lv_at hl 1 rfl) ?_
  refine lv_i2b hx hb dJ8_indexOfChar_1 rfl ?_
  refine lv_istore (lv' := [(4, .int x1.toInt8.toInt32), (0, .ref (r.2.2.1 (200 + 2))), (1, .int x1), (2, .int x2), (3, .int x3)]) hx hb dJ8_indexOfChar_2 hl (by decide) rfl (fun ls hl => ?_)
  refine lv_iload_n hx hb dJ8_indexOfChar_4 rfl (lv_at hl 3 rfl) ?_
  refine lv_istore (lv' := [(5, .int x2), (4, .int x1.toInt8.toInt32), (0, .ref (r.2.2.1 (200 + 2))), (1, .int x1), (2, .int x2), (3, .int x3)]) hx hb dJ8_indexOfChar_5 hl (by decide) rfl (fun ls hl => ?_)
  obtain ⟨n_, hf⟩ := hf
  exact w_J8_indexOfChar_s2_7 K hr n_ _ _ _ _ hf _ _ _ hM (lv_sub hl [2, 5, 1, 0] rfl)
theorem c_J8_indexOf_s2 (l : Launch) (r : GR) (A : Nat → Prop) (σ : GS) (x1 : Int32) (x2 : Int32) (x3 : Int32) (P : GS → Int32 → Prop) (hf : f_J8_indexOf_s2 r σ x1 x2 x3 P) : gMet dX l yJ8_indexOf cJ8_indexOf 4 (some .int) 1 25 0 0 r A σ [.ref (r.2.2.1 (200 + 2)), .int x1, .int x2, .int x3] (zI P) := by
  refine g_enter (lv := [(0, .ref (r.2.2.1 (200 + 2))), (1, .int x1), (2, .int x2), (3, .int x3)]) (by decide) (Nat.le_of_ble_eq_true rfl) rfl ?_
  intro p e s m below meth c ls K hr hM hl hi
  obtain ⟨hx, hb, hml, hown, hts, hlk, hKK, hA⟩ := id K
  unfold f_J8_indexOf_s2 at hf
  refine lv_iload_n hx hb dJ8_indexOf_0 rfl (lv_at hl 1 rfl) ?_
  refine g_runi (rS [.int x1] [] K hM hl (c_J8_canEncode l r A _ _ _ hf) q638 q639 q98 q640 hdJ8_canEncode ⟨Nat.le_of_ble_eq_true rfl, Nat.le_of_ble_eq_true rfl⟩ ⟨Nat.le_refl _, Nat.le_refl _⟩ rfl (Nat.le_of_ble_eq_true rfl) dJ8_indexOf_1) hM (fun σ1 v2 H locs hf hM => ?_)
  refine lv_if_ne (tgt := 9) hx hb dJ8_indexOf_4 (by decide) (fun b3 => ?_) (fun b3 => ?_)
  · replace hf := hf.2 b3
    refine lv_iload_n hx hb dJ8_indexOf_9 rfl (lv_at hl 2 rfl) ?_
    refine lv_iconst (v := 0) hx hb dJ8_indexOf_10 rfl ?_
    refine va_mmax hx hb (hml.trans hl.1.symm) hown (hts _ q641) (hts _ q642) (hts _ q99) (hts _ q643) (Nat.le_of_ble_eq_true rfl) (Nat.le_of_ble_eq_true rfl) (Nat.zero_le _) (Nat.zero_le _) dJ8_indexOf_11 ?_
    refine lv_topi (fun z4 hz4 => ?_)
    have hf := hf z4 hz4
    refine lv_istore_n (lv' := [(2, .int z4), (0, .ref (r.2.2.1 (200 + 2))), (1, .int x1), (3, .int x3)]) hx hb dJ8_indexOf_14 rfl hl (by decide) rfl (fun ls hl => ?_)
    refine lv_iload_n hx hb dJ8_indexOf_15 rfl (lv_at hl 3 rfl) ?_
    refine lv_aload_n hx hb dJ8_indexOf_16 rfl (lv_at hl 1 rfl) ?_
    refine s_len K hM 2 rfl rfl dJ8_indexOf_17 ?_
    refine va_mmin hx hb (hml.trans hl.1.symm) hown (hts _ q644) (hts _ q645) (hts _ q99) (hts _ q646) (Nat.le_of_ble_eq_true rfl) (Nat.le_of_ble_eq_true rfl) (Nat.zero_le _) (Nat.zero_le _) dJ8_indexOf_18 ?_
    refine lv_topi (fun z5 hz5 => ?_)
    have hf := hf z5 hz5
    refine lv_istore_n (lv' := [(3, .int z5), (2, .int z4), (0, .ref (r.2.2.1 (200 + 2))), (1, .int x1)]) hx hb dJ8_indexOf_21 rfl hl (by decide) rfl (fun ls hl => ?_)
    refine lv_iload_n hx hb dJ8_indexOf_22 rfl (lv_at hl 1 rfl) ?_
    refine lv_iload_n hx hb dJ8_indexOf_23 rfl (lv_at hl 0 rfl) ?_
    refine lv_icmp_lt (tgt := 29) hx hb dJ8_indexOf_24 (by decide) (fun b6 => ?_) (fun b6 => ?_)
    · replace hf := hf.1 b6
      refine lv_aload_n hx hb dJ8_indexOf_29 rfl (lv_at hl 2 rfl) ?_
      refine lv_iload_n hx hb dJ8_indexOf_30 rfl (lv_at hl 3 rfl) ?_
      refine lv_iload_n hx hb dJ8_indexOf_31 rfl (lv_at hl 1 rfl) ?_
      refine lv_iload_n hx hb dJ8_indexOf_32 rfl (lv_at hl 0 rfl) ?_
      refine g_runi (rS [.ref (r.2.2.1 (200 + 2)), .int x1, .int z4, .int z5] [] K hM hl (c_J8_indexOfChar_s2 l r A _ _ _ _ _ hf) q647 q648 q98 q649 hdJ8_indexOfChar ⟨Nat.le_of_ble_eq_true rfl, Nat.le_of_ble_eq_true rfl⟩ ⟨Nat.le_refl _, Nat.le_refl _⟩ rfl (Nat.le_of_ble_eq_true rfl) dJ8_indexOf_33) hM (fun σ7 v8 H locs hf hM => ?_)
      exact g_reti K hr hM ⟨Nat.le_refl _, Nat.le_refl _⟩ hf dJ8_indexOf_36
    · replace hf := hf.2 b6
      refine lv_iconst (v := -1) hx hb dJ8_indexOf_27 rfl ?_
      exact g_reti K hr hM ⟨Nat.le_refl _, Nat.le_refl _⟩ hf dJ8_indexOf_28
  · replace hf := hf.1 b3
    refine lv_iconst (v := -1) hx hb dJ8_indexOf_7 rfl ?_
    exact g_reti K hr hM ⟨Nat.le_refl _, Nat.le_refl _⟩ hf dJ8_indexOf_8
theorem c_J4_indexOf_2_s2 (l : Launch) (r : GR) (A : Nat → Prop) (σ : GS) (x1 : Int32) (x2 : Int32) (P : GS → Int32 → Prop) (hf : f_J4_indexOf_2_s2 r σ x1 x2 P) : gMet dX l yJ4_indexOf_2 cJ4_indexOf_2 3 (some .int) 2 48 0 0 r A σ [.ref (r.2.2.1 (100 + 2)), .int x1, .int x2] (zI P) := by
  refine g_enter (lv := [(0, .ref (r.2.2.1 (100 + 2))), (1, .int x1), (2, .int x2)]) (by decide) (Nat.le_of_ble_eq_true rfl) rfl ?_
  intro p e s m below meth c ls K hr hM hl hi
  obtain ⟨hx, hb, hml, hown, hts, hlk, hKK, hA⟩ := id K
  unfold f_J4_indexOf_2_s2 at hf
  refine lv_aload_n hx hb dJ4_indexOf_2_0 rfl (lv_at hl 0 rfl) ?_
  refine g_runi (rStr 2 [] [] K hM hl rfl (c_J4_isLatin1_s2 l r A _ _ hf) q621 q622 q623 q90 q624 hdJ4_isLatin1 ⟨Nat.le_of_ble_eq_true rfl, Nat.le_of_ble_eq_true rfl⟩ ⟨Nat.le_refl _, Nat.le_refl _⟩ rfl (Nat.le_of_ble_eq_true rfl) dJ4_indexOf_2_1) hM (fun σ1 v2 H locs hf hM => ?_)
  refine lv_if_eq (tgt := 23) hx hb dJ4_indexOf_2_4 (by decide) (fun b3 => ?_) (fun b3 => ?_)
  · replace hf := hf.1 b3
    refine lv_aload_n hx hb dJ4_indexOf_2_23 rfl (lv_at hl 0 rfl) ?_
    refine s_value K hM 2 rfl q2037 dJ4_indexOf_2_24 ?_
    refine lv_iload_n hx hb dJ4_indexOf_2_27 rfl (lv_at hl 1 rfl) ?_
    refine lv_iload_n hx hb dJ4_indexOf_2_28 rfl (lv_at hl 2 rfl) ?_
    refine lv_aload_n hx hb dJ4_indexOf_2_29 rfl (lv_at hl 0 rfl) ?_
    refine g_runi (rStr 2 [] [.int x2, .int x1, .ref (r.2.2.1 (200 + 2))] K hM hl rfl (c_J4_length_s2 l r A _ _ hf) q627 q628 q629 q90 q630 hdJ4_length ⟨Nat.le_of_ble_eq_true rfl, Nat.le_of_ble_eq_true rfl⟩ ⟨Nat.le_refl _, Nat.le_refl _⟩ rfl (Nat.le_of_ble_eq_true rfl) dJ4_indexOf_2_30) hM (fun σ4 v5 H locs hf hM => ?_)
    exact hf.elim
  · replace hf := hf.2 b3
    refine lv_aload_n hx hb dJ4_indexOf_2_7 rfl (lv_at hl 0 rfl) ?_
    refine s_value K hM 2 rfl q2037 dJ4_indexOf_2_8 ?_
    refine lv_iload_n hx hb dJ4_indexOf_2_11 rfl (lv_at hl 1 rfl) ?_
    refine lv_iload_n hx hb dJ4_indexOf_2_12 rfl (lv_at hl 2 rfl) ?_
    refine lv_aload_n hx hb dJ4_indexOf_2_13 rfl (lv_at hl 0 rfl) ?_
    refine g_runi (rStr 2 [] [.int x2, .int x1, .ref (r.2.2.1 (200 + 2))] K hM hl rfl (c_J4_length_s2 l r A _ _ hf) q627 q628 q629 q90 q630 hdJ4_length ⟨Nat.le_of_ble_eq_true rfl, Nat.le_of_ble_eq_true rfl⟩ ⟨Nat.le_refl _, Nat.le_refl _⟩ rfl (Nat.le_of_ble_eq_true rfl) dJ4_indexOf_2_14) hM (fun σ6 v7 H locs hf hM => ?_)
    refine g_runi (rS [.ref (r.2.2.1 (200 + 2)), .int x1, .int x2, .int v7] [] K hM hl (c_J8_indexOf_s2 l r A _ _ _ _ _ hf) q635 q636 q98 q637 hdJ8_indexOf ⟨Nat.le_of_ble_eq_true rfl, Nat.le_of_ble_eq_true rfl⟩ ⟨Nat.le_refl _, Nat.le_refl _⟩ rfl (Nat.le_of_ble_eq_true rfl) dJ4_indexOf_2_17) hM (fun σ8 v9 H locs hf hM => ?_)
    refine lv_goto (tgt := 36) hx hb dJ4_indexOf_2_20 (by decide) ?_
    exact g_reti K hr hM ⟨Nat.le_refl _, Nat.le_refl _⟩ hf dJ4_indexOf_2_36

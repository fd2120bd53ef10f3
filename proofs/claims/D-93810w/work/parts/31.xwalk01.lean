set_option maxRecDepth 100000
set_option maxHeartbeats 4000000
theorem c_J4_indexOf_s2 (l : Launch) (r : GR) (A : Nat → Prop) (σ : GS) (x1 : Int32) (P : GS → Int32 → Prop) (hf : f_J4_indexOf_s2 r σ x1 P) : gMet dX l yJ4_indexOf cJ4_indexOf 2 (some .int) 3 70 0 0 r A σ [.ref (r.2.2.1 (100 + 2)), .int x1] (zI P) := by
  refine g_enter (lv := [(0, .ref (r.2.2.1 (100 + 2))), (1, .int x1)]) (by decide) (Nat.le_of_ble_eq_true rfl) rfl ?_
  intro p e s m below meth c ls K hr hM hl hi
  obtain ⟨hx, hb, hml, hown, hts, hlk, hKK, hA⟩ := id K
  unfold f_J4_indexOf_s2 at hf
  refine lv_aload_n hx hb dJ4_indexOf_0 rfl (lv_at hl 0 rfl) ?_
  refine lv_iload_n hx hb dJ4_indexOf_1 rfl (lv_at hl 1 rfl) ?_
  refine lv_iconst (v := 0) hx hb dJ4_indexOf_2 rfl ?_
  refine g_runi (rStr 2 [.int x1, .int (0 : Int32)] [] K hM hl rfl (c_J4_indexOf_2_s2 l r A _ _ _ _ hf) q617 q618 q619 q90 q620 hdJ4_indexOf_2 ⟨Nat.le_of_ble_eq_true rfl, Nat.le_of_ble_eq_true rfl⟩ ⟨Nat.le_refl _, Nat.le_refl _⟩ rfl (Nat.le_of_ble_eq_true rfl) dJ4_indexOf_3) hM (fun σ1 v2 H locs hf hM => ?_)
  exact g_reti K hr hM ⟨Nat.le_refl _, Nat.le_refl _⟩ hf dJ4_indexOf_6
theorem c_X6_isOne_s2 (l : Launch) (r : GR) (A : Nat → Prop) (σ : GS) (x0 : Nat) (P : GS → Int32 → Prop) (hf : f_X6_isOne_s2 r σ x0 P) : gMet dX l yX6_isOne cX6_isOne 2 (some .boolean) 4 91 0 0 r A σ [.ref x0, .ref (r.2.2.1 (100 + 2))] (zI P) := by
  refine g_enter (lv := [(0, .ref x0), (1, .ref (r.2.2.1 (100 + 2)))]) (by decide) (Nat.le_of_ble_eq_true rfl) rfl ?_
  intro p e s m below meth c ls K hr hM hl hi
  obtain ⟨hx, hb, hml, hown, hts, hlk, hKK, hA⟩ := id K
  unfold f_X6_isOne_s2 at hf
  refine lv_aload_n hx hb dX6_isOne_0 rfl (lv_at hl 0 rfl) ?_
  obtain ⟨f3, h4, hf⟩ := hf
  refine g_runi (rP [] [] K kY6 hM hl h4 (c_X6_here l r A _ _ _ hf) q604 q606 qs14 q96 q607 hdX6_here ⟨Nat.le_of_ble_eq_true rfl, Nat.le_of_ble_eq_true rfl⟩ ⟨Nat.le_refl _, Nat.le_refl _⟩ rfl (Nat.le_of_ble_eq_true rfl) dX6_isOne_1) hM (fun σ1 v2 H locs hf hM => ?_)
  refine lv_if_lt (tgt := 22) hx hb dX6_isOne_4 (by decide) (fun b5 => ?_) (fun b5 => ?_)
  · replace hf := hf.1 b5
    refine lv_iconst (v := 0) hx hb dX6_isOne_22 rfl ?_
    exact g_retz K hr hM ⟨Nat.le_refl _, Nat.le_refl _⟩ gZ_0 hf dX6_isOne_23
  · replace hf := hf.2 b5
    refine lv_aload_n hx hb dX6_isOne_7 rfl (lv_at hl 1 rfl) ?_
    refine lv_aload_n hx hb dX6_isOne_8 rfl (lv_at hl 0 rfl) ?_
    obtain ⟨f8, h9, hf⟩ := hf
    refine g_runi (rP [] [.ref (r.2.2.1 (100 + 2))] K kY6 hM hl h9 (c_X6_here l r A _ _ _ hf) q604 q606 qs14 q96 q607 hdX6_here ⟨Nat.le_of_ble_eq_true rfl, Nat.le_of_ble_eq_true rfl⟩ ⟨Nat.le_refl _, Nat.le_refl _⟩ rfl (Nat.le_of_ble_eq_true rfl) dX6_isOne_9) hM (fun σ6 v7 H locs hf hM => ?_)
    refine g_runi (rStr 2 [.int v7] [] K hM hl rfl (c_J4_indexOf_s2 l r A _ _ _ hf) q613 q614 q615 q90 q616 hdJ4_indexOf ⟨Nat.le_of_ble_eq_true rfl, Nat.le_of_ble_eq_true rfl⟩ ⟨Nat.le_refl _, Nat.le_refl _⟩ rfl (Nat.le_of_ble_eq_true rfl) dX6_isOne_12) hM (fun σ10 v11 H locs hf hM => ?_)
    refine lv_if_lt (tgt := 22) hx hb dX6_isOne_15 (by decide) (fun b12 => ?_) (fun b12 => ?_)
    · replace hf := hf.1 b12
      refine lv_iconst (v := 0) hx hb dX6_isOne_22 rfl ?_
      exact g_retz K hr hM ⟨Nat.le_refl _, Nat.le_refl _⟩ gZ_0 hf dX6_isOne_23
    · replace hf := hf.2 b12
      refine lv_iconst (v := 1) hx hb dX6_isOne_18 rfl ?_
      refine lv_goto (tgt := 23) hx hb dX6_isOne_19 (by decide) ?_
      exact g_retz K hr hM ⟨Nat.le_refl _, Nat.le_refl _⟩ gZ_1 hf dX6_isOne_23
theorem c_X13_init (l : Launch) (r : GR) (A : Nat → Prop) (σ : GS) (x0 : Nat) (x1 : Int32) (x2 : Option Nat) (x3 : Option Nat) (P : GS → Prop) (hf : f_X13_init r σ x0 x1 x2 x3 P) : gMet dX l yX13_init cX13_init 4 none 2 44 0 0 r A σ [.ref x0, .int x1, va_rf x2, va_rf x3] (zV P) := by
  refine g_enter (lv := [(0, .ref x0), (1, .int x1), (2, va_rf x2), (3, va_rf x3)]) (by decide) (by cases x2 <;> cases x3 <;> exact Nat.le_of_ble_eq_true rfl) (by cases x2 <;> cases x3 <;> rfl) ?_
  intro p e s m below meth c ls K hr hM hl hi
  obtain ⟨hx, hb, hml, hown, hts, hlk, hKK, hA⟩ := id K
  unfold f_X13_init at hf
  refine lv_aload_n hx hb dX13_init_0 rfl (lv_at hl 0 rfl) ?_
  refine g_runv (rIN [] [] K hM hl (c_X8_init l r A _ _ _ hf) q761 q705 q103 q706 hdX8_init ⟨Nat.le_of_ble_eq_true rfl, Nat.le_of_ble_eq_true rfl⟩ ⟨Nat.le_refl _, Nat.le_refl _⟩ rfl (Nat.le_of_ble_eq_true rfl) dX13_init_1) hM (fun σ1 H locs hf hM => ?_)
  refine lv_aload_n hx hb dX13_init_4 rfl (lv_at hl 0 rfl) ?_
  refine lv_iload_n hx hb dX13_init_5 rfl (lv_at hl 1 rfl) ?_
  refine p_putF K kY12 nmX13 hM 0 rfl q762 rfl dX13_init_6 rfl (hi rfl) rfl rfl rfl hf (fun H locs σ3 hf hM => ?_)
  refine lv_aload_n hx hb dX13_init_9 rfl (lv_at hl 0 rfl) ?_
  refine g_aload_nq hx hb dX13_init_10 rfl (lv_at hl 2 rfl) ?_
  refine p_putF K kY12 nmX13 hM 1 rfl q763 rfl dX13_init_11 rfl (hi rfl) rfl (by cases x2 <;> rfl) (va_rf_fit _ _) hf (fun H locs σ4 hf hM => ?_)
  refine lv_aload_n hx hb dX13_init_14 rfl (lv_at hl 0 rfl) ?_
  refine g_aload_nq hx hb dX13_init_15 rfl (lv_at hl 3 rfl) ?_
  refine p_putF K kY12 nmX13 hM 2 rfl q764 rfl dX13_init_16 rfl (hi rfl) rfl (by cases x3 <;> rfl) (va_rf_fit _ _) hf (fun H locs σ5 hf hM => ?_)
  exact g_retv K hr hM ⟨Nat.le_refl _, Nat.le_refl _⟩ hf dX13_init_19
theorem c_X6_joined (l : Launch) (r : GR) (A : Nat → Prop) (bc bs : Nat) (σ : GS) (x0 : Nat) (x1 : Int32) (x2 : Option Nat) (x3 : Option Nat) (P : GS → Option Nat → Prop) (hf : f_X6_joined r bc bs σ x0 x1 x2 x3 P) : gMet dX l yX6_joined cX6_joined 4 (some (.object "PointsForAll$Node")) 3 67 bc bs r A σ [.ref x0, .int x1, va_rf x2, va_rf x3] (zQ P) := by
  refine g_enter (lv := [(0, .ref x0), (1, .int x1), (2, va_rf x2), (3, va_rf x3)]) (by decide) (by cases x2 <;> cases x3 <;> exact Nat.le_of_ble_eq_true rfl) (by cases x2 <;> cases x3 <;> rfl) ?_
  intro p e s m below meth c ls K hr hM hl hi
  obtain ⟨hx, hb, hml, hown, hts, hlk, hKK, hA⟩ := id K
  unfold f_X6_joined at hf
  generalize hB_ : bc = B
  generalize hS_ : bs = S
  have hc : 0 + bc ≤ B ∧ 0 + bs ≤ S := ⟨bud_0 hB_, bud_0 hS_⟩
  refine lv_aload_n hx hb dX6_joined_0 rfl (lv_at hl 0 rfl) ?_
  obtain ⟨v2, h1, hf⟩ := hf
  refine p_get K kY6 hM 1 rfl q540 rfl dX6_joined_1 h1 ?_
  refine lv_if_lt (tgt := 11) hx hb dX6_joined_4 (by decide) (fun b3 => ?_) (fun b3 => ?_)
  · replace hf := hf.1 b3
    obtain ⟨b6, s7, g8, g9, hf⟩ := hf
    refine p_new K kY12 hM q756 q757 q108 hf0X13 (bud_le hc.1 g8) (bud_le hc.2 g9) dX6_joined_11 (fun H a4 σ5 ea4 hσ5 hM => ?_)
    have hf := hf a4 ea4 σ5 hσ5
    replace hc := And.intro (bud hc.1 g8) (bud hc.2 g9)
    refine lv_dup hx hb dX6_joined_14 rfl ?_
    refine lv_iload_n hx hb dX6_joined_15 rfl (lv_at hl 1 rfl) ?_
    refine g_aload_nq hx hb dX6_joined_16 rfl (lv_at hl 2 rfl) ?_
    refine g_aload_nq hx hb dX6_joined_17 rfl (lv_at hl 3 rfl) ?_
    refine g_runv (rI [.int x1, va_rf x2, va_rf x3] [.ref a4] K hM hl (c_X13_init l r A _ _ _ _ _ _ hf) q758 q759 q108 q760 hdX13_init ⟨Nat.le_of_ble_eq_true rfl, Nat.le_of_ble_eq_true rfl⟩ ⟨bud_ret hc.1, bud_ret hc.2⟩ rfl (Nat.le_of_ble_eq_true rfl) dX6_joined_18) hM (fun σ10 H locs hf hM => ?_)
    exact g_retq (v := (some a4)) K hr (Or.inl ⟨_, rfl⟩) hM ⟨bud_ret hc.1, bud_ret hc.2⟩ hf dX6_joined_21
  · replace hf := hf.2 b3
    refine lv_null hx hb dX6_joined_7 ?_
    refine lv_goto (tgt := 21) hx hb dX6_joined_8 (by decide) ?_
    exact g_retq (v := none) K hr (Or.inl ⟨_, rfl⟩) hM ⟨bud_ret hc.1, bud_ret hc.2⟩ hf dX6_joined_21
theorem c_J4_isLatin1_s1 (l : Launch) (r : GR) (A : Nat → Prop) (σ : GS) (P : GS → Int32 → Prop) (hf : f_J4_isLatin1_s1 r σ P) : gMet dX l yJ4_isLatin1 cJ4_isLatin1 1 (some .boolean) 0 0 0 0 r A σ [.ref (r.2.2.1 (100 + 1))] (zI P) := by
  refine g_enter (lv := [(0, .ref (r.2.2.1 (100 + 1)))]) (by decide) (Nat.le_of_ble_eq_true rfl) rfl ?_
  intro p e s m below meth c ls K hr hM hl hi
  obtain ⟨hx, hb, hml, hown, hts, hlk, hKK, hA⟩ := id K
  unfold f_J4_isLatin1_s1 at hf
  refine s_compact K hM q625 dJ4_isLatin1_0 ?_
  refine lv_if_eq (tgt := 17) hx hb dJ4_isLatin1_3 (by decide) (fun b1 => ?_) (fun b1 => ?_)
  · replace hf := hf.1 b1
    refine lv_iconst (v := 0) hx hb dJ4_isLatin1_17 rfl ?_
    exact g_retz K hr hM ⟨Nat.le_refl _, Nat.le_refl _⟩ gZ_0 hf dJ4_isLatin1_18
  · replace hf := hf.2 b1
    refine lv_aload_n hx hb dJ4_isLatin1_6 rfl (lv_at hl 0 rfl) ?_
    refine s_coder K hM 1 rfl q2036 dJ4_isLatin1_7 ?_
    refine lv_if_ne (tgt := 17) hx hb dJ4_isLatin1_10 (by decide) (fun b2 => ?_) (fun b2 => ?_)
    · replace hf := hf.2 b2
      refine lv_iconst (v := 0) hx hb dJ4_isLatin1_17 rfl ?_
      exact g_retz K hr hM ⟨Nat.le_refl _, Nat.le_refl _⟩ gZ_0 hf dJ4_isLatin1_18
    · replace hf := hf.1 b2
      refine lv_iconst (v := 1) hx hb dJ4_isLatin1_13 rfl ?_
      refine lv_goto (tgt := 18) hx hb dJ4_isLatin1_14 (by decide) ?_
      exact g_retz K hr hM ⟨Nat.le_refl _, Nat.le_refl _⟩ gZ_1 hf dJ4_isLatin1_18
theorem c_J4_coder_s1 (l : Launch) (r : GR) (A : Nat → Prop) (σ : GS) (P : GS → Int32 → Prop) (hf : f_J4_coder_s1 r σ P) : gMet dX l yJ4_coder cJ4_coder 1 (some .byte) 0 0 0 0 r A σ [.ref (r.2.2.1 (100 + 1))] (zI P) := by
  refine g_enter (lv := [(0, .ref (r.2.2.1 (100 + 1)))]) (by decide) (Nat.le_of_ble_eq_true rfl) rfl ?_
  intro p e s m below meth c ls K hr hM hl hi
  obtain ⟨hx, hb, hml, hown, hts, hlk, hKK, hA⟩ := id K
  unfold f_J4_coder_s1 at hf
  refine s_compact K hM q625 dJ4_coder_0 ?_
  refine lv_if_eq (tgt := 13) hx hb dJ4_coder_3 (by decide) (fun b1 => ?_) (fun b1 => ?_)
  · replace hf := hf.1 b1
    refine lv_iconst (v := 1) hx hb dJ4_coder_13 rfl ?_
    exact g_retb K hr hM ⟨Nat.le_refl _, Nat.le_refl _⟩ rfl hf dJ4_coder_14
  · replace hf := hf.2 b1
    refine lv_aload_n hx hb dJ4_coder_6 rfl (lv_at hl 0 rfl) ?_
    refine s_coder K hM 1 rfl q2036 dJ4_coder_7 ?_
    refine lv_goto (tgt := 14) hx hb dJ4_coder_10 (by decide) ?_
    exact g_retb K hr hM ⟨Nat.le_refl _, Nat.le_refl _⟩ rfl hf dJ4_coder_14
theorem c_J4_length_s1 (l : Launch) (r : GR) (A : Nat → Prop) (σ : GS) (P : GS → Int32 → Prop) (hf : f_J4_length_s1 r σ P) : gMet dX l yJ4_length cJ4_length 1 (some .int) 1 20 0 0 r A σ [.ref (r.2.2.1 (100 + 1))] (zI P) := by
  refine g_enter (lv := [(0, .ref (r.2.2.1 (100 + 1)))]) (by decide) (Nat.le_of_ble_eq_true rfl) rfl ?_
  intro p e s m below meth c ls K hr hM hl hi
  obtain ⟨hx, hb, hml, hown, hts, hlk, hKK, hA⟩ := id K
  unfold f_J4_length_s1 at hf
  refine lv_aload_n hx hb dJ4_length_0 rfl (lv_at hl 0 rfl) ?_
  refine s_value K hM 1 rfl q2037 dJ4_length_1 ?_
  refine s_len K hM 1 rfl rfl dJ4_length_4 ?_
  refine lv_aload_n hx hb dJ4_length_5 rfl (lv_at hl 0 rfl) ?_
  refine g_runi (rStr 1 [] [.int (Int32.ofNat 2)] K hM hl rfl (c_J4_coder_s1 l r A _ _ hf) q631 q632 q633 q90 q634 hdJ4_coder ⟨Nat.le_of_ble_eq_true rfl, Nat.le_of_ble_eq_true rfl⟩ ⟨Nat.le_refl _, Nat.le_refl _⟩ rfl (Nat.le_of_ble_eq_true rfl) dJ4_length_6) hM (fun σ1 v2 H locs hf hM => ?_)
  refine lv_ishr hx hb dJ4_length_9 ?_
  exact g_reti K hr hM ⟨Nat.le_refl _, Nat.le_refl _⟩ hf dJ4_length_10
theorem w_J8_indexOfChar_s1_7 {p : Program} {l : Launch} {e : Env} {s : State} {m : MethodId} {args : Array Value} {below : List Frame} {meth : Method} {c : Code} {r : GR} {A : Nat → Prop} {P : GS → Int32 → Prop} (K : gC p s m args meth c cJ8_indexOfChar 6 RJ8 r A) (hr : meth.sig.returnType = (some .int)) : ∀ (n : Nat) (σ : GS) (x3 : Int32) (x4 : Int32) (x5 : Int32), f_J8_indexOfChar_s1_7 r P n σ x3 x4 x5 → gW dX p l e (gRm 0 0 0 0) s m args below meth c r A (zI P) 0 0 6 7 [(0, .ref (r.2.2.1 (200 + 1))), (3, .int x3), (4, .int x4), (5, .int x5)] [] 0 0 σ := by
  obtain ⟨hx, hb, hml, hown, hts, hlk, hKK, hA⟩ := id K
  intro n
  induction n with
  | zero =>
    intro σ x3 x4 x5 hf
    exact absurd hf (fun h => h)
  | succ n ih =>
    intro σ x3 x4 x5 hf H locs ls hM hl
    rw [f_J8_indexOfChar_s1_7] at hf
    refine lv_iload hx hb dJ8_indexOfChar_7 (lv_at hl 3 rfl) ?_
    refine lv_iload_n hx hb dJ8_indexOfChar_9 rfl (lv_at hl 1 rfl) ?_
    refine lv_icmp_ge (tgt := 31) hx hb dJ8_indexOfChar_10 (by decide) (fun b1 => ?_) (fun b1 => ?_)
    · replace hf := hf.1 b1
      refine lv_iconst (v := -1) hx hb dJ8_indexOfChar_31 rfl ?_
      exact g_reti K hr hM ⟨Nat.le_refl _, Nat.le_refl _⟩ hf dJ8_indexOfChar_32
    · replace hf := hf.2 b1
      refine lv_aload_n hx hb dJ8_indexOfChar_13 rfl (lv_at hl 0 rfl) ?_
      refine lv_iload hx hb dJ8_indexOfChar_14 (lv_at hl 3 rfl) ?_
      obtain ⟨g2, hf⟩ := hf
      refine s_bald K hM 1 rfl rfl g2 dJ8_indexOfChar_16 ?_
      refine lv_iload hx hb dJ8_indexOfChar_17 (lv_at hl 2 rfl) ?_
      refine lv_icmp_ne (tgt := 25) hx hb dJ8_indexOfChar_19 (by decide) (fun b3 => ?_) (fun b3 => ?_)
      · replace hf := hf.2 b3
        refine lv_iinc (v := x5 + 1) (lv' := [(5, .int (x5 + 1)), (0, .ref (r.2.2.1 (200 + 1))), (3, .int x3), (4, .int x4)]) hx hb dJ8_indexOfChar_25 hl (k := 3) rfl rfl (by decide) rfl (fun ls hl => ?_)
        refine lv_goto (tgt := 7) hx hb dJ8_indexOfChar_28 (by decide) ?_
        exact ih _ _ _ _ hf _ _ _ hM (lv_sub hl [1, 2, 3, 0] rfl)
      · replace hf := hf.1 b3
        refine lv_iload hx hb dJ8_indexOfChar_22 (lv_at hl 3 rfl) ?_
        exact g_reti K hr hM ⟨Nat.le_refl _, Nat.le_refl _⟩ hf dJ8_indexOfChar_24
theorem c_J8_indexOfChar_s1 (l : Launch) (r : GR) (A : Nat → Prop) (σ : GS) (x1 : Int32) (x2 : Int32) (x3 : Int32) (P : GS → Int32 → Prop) (hf : f_J8_indexOfChar_s1 r σ x1 x2 x3 P) : gMet dX l yJ8_indexOfChar cJ8_indexOfChar 6 (some .int) 0 0 0 0 r A σ [.ref (r.2.2.1 (200 + 1)), .int x1, .int x2, .int x3] (zI P) := by
  refine g_enter (lv := [(0, .ref (r.2.2.1 (200 + 1))), (1, .int x1), (2, .int x2), (3, .int x3)]) (by decide) (Nat.le_of_ble_eq_true rfl) rfl ?_
  intro p e s m below meth c ls K hr hM hl hi
  obtain ⟨hx, hb, hml, hown, hts, hlk, hKK, hA⟩ := id K
  unfold f_J8_indexOfChar_s1 at hf
  refine lv_iload_n hx hb dJ8_indexOfChar_0 rfl (lv_at hl 1 rfl) ?_
  refine lv_i2b hx hb dJ8_indexOfChar_1 rfl ?_
  refine lv_istore (lv' := [(4, .int x1.toInt8.toInt32), (0, .ref (r.2.2.1 (200 + 1))), (1, .int x1), (2, .int x2), (3, .int x3)]) hx hb dJ8_indexOfChar_2 hl (by decide) rfl (fun ls hl => ?_)
  refine lv_iload_n hx hb dJ8_indexOfChar_4 rfl (lv_at hl 3 rfl) ?_
  refine lv_istore (lv' := [(5, .int x2), (4, .int x1.toInt8.toInt32), (0, .ref (r.2.2.1 (200 + 1))), (1, .int x1), (2, .int x2), (3, .int x3)]) hx hb dJ8_indexOfChar_5 hl (by decide) rfl (fun ls hl => ?_)
  obtain ⟨n_, hf⟩ := hf
  exact w_J8_indexOfChar_s1_7 K hr n_ _ _ _ _ hf _ _ _ hM (lv_sub hl [2, 5, 1, 0] rfl)
theorem c_J8_indexOf_s1 (l : Launch) (r : GR) (A : Nat → Prop) (σ : GS) (x1 : Int32) (x2 : Int32) (x3 : Int32) (P : GS → Int32 → Prop) (hf : f_J8_indexOf_s1 r σ x1 x2 x3 P) : gMet dX l yJ8_indexOf cJ8_indexOf 4 (some .int) 1 25 0 0 r A σ [.ref (r.2.2.1 (200 + 1)), .int x1, .int x2, .int x3] (zI P) := by
  refine g_enter (lv := [(0, .ref (r.2.2.1 (200 + 1))), (1, .int x1), (2, .int x2), (3, .int x3)]) (by decide) (Nat.le_of_ble_eq_true rfl) rfl ?_
  intro p e s m below meth c ls K hr hM hl hi
  obtain ⟨hx, hb, hml, hown, hts, hlk, hKK, hA⟩ := id K
  unfold f_J8_indexOf_s1 at hf
  refine lv_iload_n hx hb dJ8_indexOf_0 rfl (lv_at hl 1 rfl) ?_
  refine g_runi (rS [.int x1] [] K hM hl (c_J8_canEncode l r A _ _ _ hf) q638 q639 q98 q640 hdJ8_canEncode ⟨Nat.le_of_ble_eq_true rfl, Nat.le_of_ble_eq_true rfl⟩ ⟨Nat.le_refl _, Nat.le_refl _⟩ rfl (Nat.le_of_ble_eq_true rfl) dJ8_indexOf_1) hM (fun σ1 v2 H locs hf hM => ?_)
  refine lv_if_ne (tgt := 9) hx hb dJ8_indexOf_4 (by decide) (fun b3 => ?_) (fun b3 => ?_)
  · replace hf := hf.2 b3
    refine lv_iload_n hx hb dJ8_indexOf_9 rfl (lv_at hl 2 rfl) ?_
    refine lv_iconst (v := 0) hx hb dJ8_indexOf_10 rfl ?_
    refine va_mmax hx hb (hml.trans hl.1.symm) hown (hts _ q641) (hts _ q642) (hts _ q99) (hts _ q643) (Nat.le_of_ble_eq_true rfl) (Nat.le_of_ble_eq_true rfl) (Nat.zero_le _) (Nat.zero_le _) dJ8_indexOf_11 ?_
    refine lv_topi (fun z4 hz4 => ?_)
    have hf := hf z4 hz4
    refine lv_istore_n (lv' := [(2, .int z4), (0, .ref (r.2.2.1 (200 + 1))), (1, .int x1), (3, .int x3)]) hx hb dJ8_indexOf_14 rfl hl (by decide) rfl (fun ls hl => ?_)
    refine lv_iload_n hx hb dJ8_indexOf_15 rfl (lv_at hl 3 rfl) ?_
    refine lv_aload_n hx hb dJ8_indexOf_16 rfl (lv_at hl 1 rfl) ?_
    refine s_len K hM 1 rfl rfl dJ8_indexOf_17 ?_
    refine va_mmin hx hb (hml.trans hl.1.symm) hown (hts _ q644) (hts _ q645) (hts _ q99) (hts _ q646) (Nat.le_of_ble_eq_true rfl) (Nat.le_of_ble_eq_true rfl) (Nat.zero_le _) (Nat.zero_le _) dJ8_indexOf_18 ?_
    refine lv_topi (fun z5 hz5 => ?_)
    have hf := hf z5 hz5
    refine lv_istore_n (lv' := [(3, .int z5), (2, .int z4), (0, .ref (r.2.2.1 (200 + 1))), (1, .int x1)]) hx hb dJ8_indexOf_21 rfl hl (by decide) rfl (fun ls hl => ?_)
    refine lv_iload_n hx hb dJ8_indexOf_22 rfl (lv_at hl 1 rfl) ?_
    refine lv_iload_n hx hb dJ8_indexOf_23 rfl (lv_at hl 0 rfl) ?_
    refine lv_icmp_lt (tgt := 29) hx hb dJ8_indexOf_24 (by decide) (fun b6 => ?_) (fun b6 => ?_)
    · replace hf := hf.1 b6
      refine lv_aload_n hx hb dJ8_indexOf_29 rfl (lv_at hl 2 rfl) ?_
      refine lv_iload_n hx hb dJ8_indexOf_30 rfl (lv_at hl 3 rfl) ?_
      refine lv_iload_n hx hb dJ8_indexOf_31 rfl (lv_at hl 1 rfl) ?_
      refine lv_iload_n hx hb dJ8_indexOf_32 rfl (lv_at hl 0 rfl) ?_
      refine g_runi (rS [.ref (r.2.2.1 (200 + 1)), .int x1, .int z4, .int z5] [] K hM hl (c_J8_indexOfChar_s1 l r A _ _ _ _ _ hf) q647 q648 q98 q649 hdJ8_indexOfChar ⟨Nat.le_of_ble_eq_true rfl, Nat.le_of_ble_eq_true rfl⟩ ⟨Nat.le_refl _, Nat.le_refl _⟩ rfl (Nat.le_of_ble_eq_true rfl) dJ8_indexOf_33) hM (fun σ7 v8 H locs hf hM => ?_)
      exact g_reti K hr hM ⟨Nat.le_refl _, Nat.le_refl _⟩ hf dJ8_indexOf_36
    · replace hf := hf.2 b6
      refine lv_iconst (v := -1) hx hb dJ8_indexOf_27 rfl ?_
      exact g_reti K hr hM ⟨Nat.le_refl _, Nat.le_refl _⟩ hf dJ8_indexOf_28
  · replace hf := hf.1 b3
    refine lv_iconst (v := -1) hx hb dJ8_indexOf_7 rfl ?_
    exact g_reti K hr hM ⟨Nat.le_refl _, Nat.le_refl _⟩ hf dJ8_indexOf_8
theorem c_J4_indexOf_2_s1 (l : Launch) (r : GR) (A : Nat → Prop) (σ : GS) (x1 : Int32) (x2 : Int32) (P : GS → Int32 → Prop) (hf : f_J4_indexOf_2_s1 r σ x1 x2 P) : gMet dX l yJ4_indexOf_2 cJ4_indexOf_2 3 (some .int) 2 48 0 0 r A σ [.ref (r.2.2.1 (100 + 1)), .int x1, .int x2] (zI P) := by
  refine g_enter (lv := [(0, .ref (r.2.2.1 (100 + 1))), (1, .int x1), (2, .int x2)]) (by decide) (Nat.le_of_ble_eq_true rfl) rfl ?_
  intro p e s m below meth c ls K hr hM hl hi
  obtain ⟨hx, hb, hml, hown, hts, hlk, hKK, hA⟩ := id K
  unfold f_J4_indexOf_2_s1 at hf
  refine lv_aload_n hx hb dJ4_indexOf_2_0 rfl (lv_at hl 0 rfl) ?_
  refine g_runi (rStr 1 [] [] K hM hl rfl (c_J4_isLatin1_s1 l r A _ _ hf) q621 q622 q623 q90 q624 hdJ4_isLatin1 ⟨Nat.le_of_ble_eq_true rfl, Nat.le_of_ble_eq_true rfl⟩ ⟨Nat.le_refl _, Nat.le_refl _⟩ rfl (Nat.le_of_ble_eq_true rfl) dJ4_indexOf_2_1) hM (fun σ1 v2 H locs hf hM => ?_)
  refine lv_if_eq (tgt := 23) hx hb dJ4_indexOf_2_4 (by decide) (fun b3 => ?_) (fun b3 => ?_)
  · replace hf := hf.1 b3
    refine lv_aload_n hx hb dJ4_indexOf_2_23 rfl (lv_at hl 0 rfl) ?_
    refine s_value K hM 1 rfl q2037 dJ4_indexOf_2_24 ?_
    refine lv_iload_n hx hb dJ4_indexOf_2_27 rfl (lv_at hl 1 rfl) ?_
    refine lv_iload_n hx hb dJ4_indexOf_2_28 rfl (lv_at hl 2 rfl) ?_
    refine lv_aload_n hx hb dJ4_indexOf_2_29 rfl (lv_at hl 0 rfl) ?_
    refine g_runi (rStr 1 [] [.int x2, .int x1, .ref (r.2.2.1 (200 + 1))] K hM hl rfl (c_J4_length_s1 l r A _ _ hf) q627 q628 q629 q90 q630 hdJ4_length ⟨Nat.le_of_ble_eq_true rfl, Nat.le_of_ble_eq_true rfl⟩ ⟨Nat.le_refl _, Nat.le_refl _⟩ rfl (Nat.le_of_ble_eq_true rfl) dJ4_indexOf_2_30) hM (fun σ4 v5 H locs hf hM => ?_)
    exact hf.elim
  · replace hf := hf.2 b3
    refine lv_aload_n hx hb dJ4_indexOf_2_7 rfl (lv_at hl 0 rfl) ?_
    refine s_value K hM 1 rfl q2037 dJ4_indexOf_2_8 ?_
    refine lv_iload_n hx hb dJ4_indexOf_2_11 rfl (lv_at hl 1 rfl) ?_
    refine lv_iload_n hx hb dJ4_indexOf_2_12 rfl (lv_at hl 2 rfl) ?_
    refine lv_aload_n hx hb dJ4_indexOf_2_13 rfl (lv_at hl 0 rfl) ?_
    refine g_runi (rStr 1 [] [.int x2, .int x1, .ref (r.2.2.1 (200 + 1))] K hM hl rfl (c_J4_length_s1 l r A _ _ hf) q627 q628 q629 q90 q630 hdJ4_length ⟨Nat.le_of_ble_eq_true rfl, Nat.le_of_ble_eq_true rfl⟩ ⟨Nat.le_refl _, Nat.le_refl _⟩ rfl (Nat.le_of_ble_eq_true rfl) dJ4_indexOf_2_14) hM (fun σ6 v7 H locs hf hM => ?_)
    refine g_runi (rS [.ref (r.2.2.1 (200 + 1)), .int x1, .int x2, .int v7] [] K hM hl (c_J8_indexOf_s1 l r A _ _ _ _ _ hf) q635 q636 q98 q637 hdJ8_indexOf ⟨Nat.le_of_ble_eq_true rfl, Nat.le_of_ble_eq_true rfl⟩ ⟨Nat.le_refl _, Nat.le_refl _⟩ rfl (Nat.le_of_ble_eq_true rfl) dJ4_indexOf_2_17) hM (fun σ8 v9 H locs hf hM => ?_)
    refine lv_goto (tgt := 36) hx hb dJ4_indexOf_2_20 (by decide) ?_
    exact g_reti K hr hM ⟨Nat.le_refl _, Nat.le_refl _⟩ hf dJ4_indexOf_2_36
theorem c_J4_indexOf_s1 (l : Launch) (r : GR) (A : Nat → Prop) (σ : GS) (x1 : Int32) (P : GS → Int32 → Prop) (hf : f_J4_indexOf_s1 r σ x1 P) : gMet dX l yJ4_indexOf cJ4_indexOf 2 (some .int) 3 70 0 0 r A σ [.ref (r.2.2.1 (100 + 1)), .int x1] (zI P) := by
  refine g_enter (lv := [(0, .ref (r.2.2.1 (100 + 1))), (1, .int x1)]) (by decide) (Nat.le_of_ble_eq_true rfl) rfl ?_
  intro p e s m below meth c ls K hr hM hl hi
  obtain ⟨hx, hb, hml, hown, hts, hlk, hKK, hA⟩ := id K
  unfold f_J4_indexOf_s1 at hf
  refine lv_aload_n hx hb dJ4_indexOf_0 rfl (lv_at hl 0 rfl) ?_
  refine lv_iload_n hx hb dJ4_indexOf_1 rfl (lv_at hl 1 rfl) ?_
  refine lv_iconst (v := 0) hx hb dJ4_indexOf_2 rfl ?_
  refine g_runi (rStr 1 [.int x1, .int (0 : Int32)] [] K hM hl rfl (c_J4_indexOf_2_s1 l r A _ _ _ _ hf) q617 q618 q619 q90 q620 hdJ4_indexOf_2 ⟨Nat.le_of_ble_eq_true rfl, Nat.le_of_ble_eq_true rfl⟩ ⟨Nat.le_refl _, Nat.le_refl _⟩ rfl (Nat.le_of_ble_eq_true rfl) dJ4_indexOf_3) hM (fun σ1 v2 H locs hf hM => ?_)
  exact g_reti K hr hM ⟨Nat.le_refl _, Nat.le_refl _⟩ hf dJ4_indexOf_6
theorem c_X6_isOne_s1 (l : Launch) (r : GR) (A : Nat → Prop) (σ : GS) (x0 : Nat) (P : GS → Int32 → Prop) (hf : f_X6_isOne_s1 r σ x0 P) : gMet dX l yX6_isOne cX6_isOne 2 (some .boolean) 4 91 0 0 r A σ [.ref x0, .ref (r.2.2.1 (100 + 1))] (zI P) := by
  refine g_enter (lv := [(0, .ref x0), (1, .ref (r.2.2.1 (100 + 1)))]) (by decide) (Nat.le_of_ble_eq_true rfl) rfl ?_
  intro p e s m below meth c ls K hr hM hl hi
  obtain ⟨hx, hb, hml, hown, hts, hlk, hKK, hA⟩ := id K
  unfold f_X6_isOne_s1 at hf
  refine lv_aload_n hx hb dX6_isOne_0 rfl (lv_at hl 0 rfl) ?_
  obtain ⟨f3, h4, hf⟩ := hf
  refine g_runi (rP [] [] K kY6 hM hl h4 (c_X6_here l r A _ _ _ hf) q604 q606 qs14 q96 q607 hdX6_here ⟨Nat.le_of_ble_eq_true rfl, Nat.le_of_ble_eq_true rfl⟩ ⟨Nat.le_refl _, Nat.le_refl _⟩ rfl (Nat.le_of_ble_eq_true rfl) dX6_isOne_1) hM (fun σ1 v2 H locs hf hM => ?_)
  refine lv_if_lt (tgt := 22) hx hb dX6_isOne_4 (by decide) (fun b5 => ?_) (fun b5 => ?_)
  · replace hf := hf.1 b5
    refine lv_iconst (v := 0) hx hb dX6_isOne_22 rfl ?_
    exact g_retz K hr hM ⟨Nat.le_refl _, Nat.le_refl _⟩ gZ_0 hf dX6_isOne_23
  · replace hf := hf.2 b5
    refine lv_aload_n hx hb dX6_isOne_7 rfl (lv_at hl 1 rfl) ?_
    refine lv_aload_n hx hb dX6_isOne_8 rfl (lv_at hl 0 rfl) ?_
    obtain ⟨f8, h9, hf⟩ := hf
    refine g_runi (rP [] [.ref (r.2.2.1 (100 + 1))] K kY6 hM hl h9 (c_X6_here l r A _ _ _ hf) q604 q606 qs14 q96 q607 hdX6_here ⟨Nat.le_of_ble_eq_true rfl, Nat.le_of_ble_eq_true rfl⟩ ⟨Nat.le_refl _, Nat.le_refl _⟩ rfl (Nat.le_of_ble_eq_true rfl) dX6_isOne_9) hM (fun σ6 v7 H locs hf hM => ?_)
    refine g_runi (rStr 1 [.int v7] [] K hM hl rfl (c_J4_indexOf_s1 l r A _ _ _ hf) q613 q614 q615 q90 q616 hdJ4_indexOf ⟨Nat.le_of_ble_eq_true rfl, Nat.le_of_ble_eq_true rfl⟩ ⟨Nat.le_refl _, Nat.le_refl _⟩ rfl (Nat.le_of_ble_eq_true rfl) dX6_isOne_12) hM (fun σ10 v11 H locs hf hM => ?_)
    refine lv_if_lt (tgt := 22) hx hb dX6_isOne_15 (by decide) (fun b12 => ?_) (fun b12 => ?_)
    · replace hf := hf.1 b12
      refine lv_iconst (v := 0) hx hb dX6_isOne_22 rfl ?_
      exact g_retz K hr hM ⟨Nat.le_refl _, Nat.le_refl _⟩ gZ_0 hf dX6_isOne_23
    · replace hf := hf.2 b12
      refine lv_iconst (v := 1) hx hb dX6_isOne_18 rfl ?_
      refine lv_goto (tgt := 23) hx hb dX6_isOne_19 (by decide) ?_
      exact g_retz K hr hM ⟨Nat.le_refl _, Nat.le_refl _⟩ gZ_1 hf dX6_isOne_23
theorem c_J4_isLatin1_s0 (l : Launch) (r : GR) (A : Nat → Prop) (σ : GS) (P : GS → Int32 → Prop) (hf : f_J4_isLatin1_s0 r σ P) : gMet dX l yJ4_isLatin1 cJ4_isLatin1 1 (some .boolean) 0 0 0 0 r A σ [.ref (r.2.2.1 (100 + 0))] (zI P) := by
  refine g_enter (lv := [(0, .ref (r.2.2.1 (100 + 0)))]) (by decide) (Nat.le_of_ble_eq_true rfl) rfl ?_
  intro p e s m below meth c ls K hr hM hl hi
  obtain ⟨hx, hb, hml, hown, hts, hlk, hKK, hA⟩ := id K
  unfold f_J4_isLatin1_s0 at hf
  refine s_compact K hM q625 dJ4_isLatin1_0 ?_
  refine lv_if_eq (tgt := 17) hx hb dJ4_isLatin1_3 (by decide) (fun b1 => ?_) (fun b1 => ?_)
  · replace hf := hf.1 b1
    refine lv_iconst (v := 0) hx hb dJ4_isLatin1_17 rfl ?_
    exact g_retz K hr hM ⟨Nat.le_refl _, Nat.le_refl _⟩ gZ_0 hf dJ4_isLatin1_18
  · replace hf := hf.2 b1
    refine lv_aload_n hx hb dJ4_isLatin1_6 rfl (lv_at hl 0 rfl) ?_
    refine s_coder K hM 0 rfl q2036 dJ4_isLatin1_7 ?_
    refine lv_if_ne (tgt := 17) hx hb dJ4_isLatin1_10 (by decide) (fun b2 => ?_) (fun b2 => ?_)
    · replace hf := hf.2 b2
      refine lv_iconst (v := 0) hx hb dJ4_isLatin1_17 rfl ?_
      exact g_retz K hr hM ⟨Nat.le_refl _, Nat.le_refl _⟩ gZ_0 hf dJ4_isLatin1_18
    · replace hf := hf.1 b2
      refine lv_iconst (v := 1) hx hb dJ4_isLatin1_13 rfl ?_
      refine lv_goto (tgt := 18) hx hb dJ4_isLatin1_14 (by decide) ?_
      exact g_retz K hr hM ⟨Nat.le_refl _, Nat.le_refl _⟩ gZ_1 hf dJ4_isLatin1_18
theorem c_J4_coder_s0 (l : Launch) (r : GR) (A : Nat → Prop) (σ : GS) (P : GS → Int32 → Prop) (hf : f_J4_coder_s0 r σ P) : gMet dX l yJ4_coder cJ4_coder 1 (some .byte) 0 0 0 0 r A σ [.ref (r.2.2.1 (100 + 0))] (zI P) := by
  refine g_enter (lv := [(0, .ref (r.2.2.1 (100 + 0)))]) (by decide) (Nat.le_of_ble_eq_true rfl) rfl ?_
  intro p e s m below meth c ls K hr hM hl hi
  obtain ⟨hx, hb, hml, hown, hts, hlk, hKK, hA⟩ := id K
  unfold f_J4_coder_s0 at hf
  refine s_compact K hM q625 dJ4_coder_0 ?_
  refine lv_if_eq (tgt := 13) hx hb dJ4_coder_3 (by decide) (fun b1 => ?_) (fun b1 => ?_)
  · replace hf := hf.1 b1
    refine lv_iconst (v := 1) hx hb dJ4_coder_13 rfl ?_
    exact g_retb K hr hM ⟨Nat.le_refl _, Nat.le_refl _⟩ rfl hf dJ4_coder_14
  · replace hf := hf.2 b1
    refine lv_aload_n hx hb dJ4_coder_6 rfl (lv_at hl 0 rfl) ?_
    refine s_coder K hM 0 rfl q2036 dJ4_coder_7 ?_
    refine lv_goto (tgt := 14) hx hb dJ4_coder_10 (by decide) ?_
    exact g_retb K hr hM ⟨Nat.le_refl _, Nat.le_refl _⟩ rfl hf dJ4_coder_14
theorem c_J4_length_s0 (l : Launch) (r : GR) (A : Nat → Prop) (σ : GS) (P : GS → Int32 → Prop) (hf : f_J4_length_s0 r σ P) : gMet dX l yJ4_length cJ4_length 1 (some .int) 1 20 0 0 r A σ [.ref (r.2.2.1 (100 + 0))] (zI P) := by
  refine g_enter (lv := [(0, .ref (r.2.2.1 (100 + 0)))]) (by decide) (Nat.le_of_ble_eq_true rfl) rfl ?_
  intro p e s m below meth c ls K hr hM hl hi
  obtain ⟨hx, hb, hml, hown, hts, hlk, hKK, hA⟩ := id K
  unfold f_J4_length_s0 at hf
  refine lv_aload_n hx hb dJ4_length_0 rfl (lv_at hl 0 rfl) ?_
  refine s_value K hM 0 rfl q2037 dJ4_length_1 ?_
  refine s_len K hM 0 rfl rfl dJ4_length_4 ?_
  refine lv_aload_n hx hb dJ4_length_5 rfl (lv_at hl 0 rfl) ?_
  refine g_runi (rStr 0 [] [.int (Int32.ofNat 3)] K hM hl rfl (c_J4_coder_s0 l r A _ _ hf) q631 q632 q633 q90 q634 hdJ4_coder ⟨Nat.le_of_ble_eq_true rfl, Nat.le_of_ble_eq_true rfl⟩ ⟨Nat.le_refl _, Nat.le_refl _⟩ rfl (Nat.le_of_ble_eq_true rfl) dJ4_length_6) hM (fun σ1 v2 H locs hf hM => ?_)
  refine lv_ishr hx hb dJ4_length_9 ?_
  exact g_reti K hr hM ⟨Nat.le_refl _, Nat.le_refl _⟩ hf dJ4_length_10
theorem w_J8_indexOfChar_s0_7 {p : Program} {l : Launch} {e : Env} {s : State} {m : MethodId} {args : Array Value} {below : List Frame} {meth : Method} {c : Code} {r : GR} {A : Nat → Prop} {P : GS → Int32 → Prop} (K : gC p s m args meth c cJ8_indexOfChar 6 RJ8 r A) (hr : meth.sig.returnType = (some .int)) : ∀ (n : Nat) (σ : GS) (x3 : Int32) (x4 : Int32) (x5 : Int32), f_J8_indexOfChar_s0_7 r P n σ x3 x4 x5 → gW dX p l e (gRm 0 0 0 0) s m args below meth c r A (zI P) 0 0 6 7 [(0, .ref (r.2.2.1 (200 + 0))), (3, .int x3), (4, .int x4), (5, .int x5)] [] 0 0 σ := by
  obtain ⟨hx, hb, hml, hown, hts, hlk, hKK, hA⟩ := id K
  intro n
  induction n with
  | zero =>
    intro σ x3 x4 x5 hf
    exact absurd hf (fun h => h)
  | succ n ih =>
    intro σ x3 x4 x5 hf H locs ls hM hl
    rw [f_J8_indexOfChar_s0_7] at hf
    refine lv_iload hx hb dJ8_indexOfChar_7 (lv_at hl 3 rfl) ?_
    refine lv_iload_n hx hb dJ8_indexOfChar_9 rfl (lv_at hl 1 rfl) ?_
    refine lv_icmp_ge (tgt := 31) hx hb dJ8_indexOfChar_10 (by decide) (fun b1 => ?_) (fun b1 => ?_)
    · replace hf := hf.1 b1
      refine lv_iconst (v := -1) hx hb dJ8_indexOfChar_31 rfl ?_
      exact g_reti K hr hM ⟨Nat.le_refl _, Nat.le_refl _⟩ hf dJ8_indexOfChar_32
    · replace hf := hf.2 b1
      refine lv_aload_n hx hb dJ8_indexOfChar_13 rfl (lv_at hl 0 rfl) ?_
      refine lv_iload hx hb dJ8_indexOfChar_14 (lv_at hl 3 rfl) ?_
      obtain ⟨g2, hf⟩ := hf
      refine s_bald K hM 0 rfl rfl g2 dJ8_indexOfChar_16 ?_
      refine lv_iload hx hb dJ8_indexOfChar_17 (lv_at hl 2 rfl) ?_
      refine lv_icmp_ne (tgt := 25) hx hb dJ8_indexOfChar_19 (by decide) (fun b3 => ?_) (fun b3 => ?_)
      · replace hf := hf.2 b3
        refine lv_iinc (v := x5 + 1) (lv' := [(5, .int (x5 + 1)), (0, .ref (r.2.2.1 (200 + 0))), (3, .int x3), (4, .int x4)]) hx hb dJ8_indexOfChar_25 hl (k := 3) rfl rfl (by decide) rfl (fun ls hl => ?_)
        refine lv_goto (tgt := 7) hx hb dJ8_indexOfChar_28 (by decide) ?_
        exact ih _ _ _ _ hf _ _ _ hM (lv_sub hl [1, 2, 3, 0] rfl)
      · replace hf := hf.1 b3
        refine lv_iload hx hb dJ8_indexOfChar_22 (lv_at hl 3 rfl) ?_
        exact g_reti K hr hM ⟨Nat.le_refl _, Nat.le_refl _⟩ hf dJ8_indexOfChar_24
theorem c_J8_indexOfChar_s0 (l : Launch) (r : GR) (A : Nat → Prop) (σ : GS) (x1 : Int32) (x2 : Int32) (x3 : Int32) (P : GS → Int32 → Prop) (hf : f_J8_indexOfChar_s0 r σ x1 x2 x3 P) : gMet dX l yJ8_indexOfChar cJ8_indexOfChar 6 (some .int) 0 0 0 0 r A σ [.ref (r.2.2.1 (200 + 0)), .int x1, .int x2, .int x3] (zI P) := by
  refine g_enter (lv := [(0, .ref (r.2.2.1 (200 + 0))), (1, .int x1), (2, .int x2), (3, .int x3)]) (by decide) (Nat.le_of_ble_eq_true rfl) rfl ?_
  intro p e s m below meth c ls K hr hM hl hi
  obtain ⟨hx, hb, hml, hown, hts, hlk, hKK, hA⟩ := id K
  unfold f_J8_indexOfChar_s0 at hf
  refine lv_iload_n hx hb dJ8_indexOfChar_0 rfl (lv_at hl 1 rfl) ?_
  refine lv_i2b hx hb dJ8_indexOfChar_1 rfl ?_
  refine lv_istore (lv' := [(4, .int x1.toInt8.toInt32), (0, .ref (r.2.2.1 (200 + 0))), (1, .int x1), (2, .int x2), (3, .int x3)]) hx hb dJ8_indexOfChar_2 hl (by decide) rfl (fun ls hl => ?_)
  refine lv_iload_n hx hb dJ8_indexOfChar_4 rfl (lv_at hl 3 rfl) ?_
  refine lv_istore (lv' := [(5, .int x2), (4, .int x1.toInt8.toInt32), (0, .ref (r.2.2.1 (200 + 0))), (1, .int x1), (2, .int x2), (3, .int x3)]) hx hb dJ8_indexOfChar_5 hl (by decide) rfl (fun ls hl => ?_)
  obtain ⟨n_, hf⟩ := hf
  exact w_J8_indexOfChar_s0_7 K hr n_ _ _ _ _ hf _ _ _ hM (lv_sub hl [2, 5, 1, 0] rfl)
theorem c_J8_indexOf_s0 (l : Launch) (r : GR) (A : Nat → Prop) (σ : GS) (x1 : Int32) (x2 : Int32) (x3 : Int32) (P : GS → Int32 → Prop) (hf : f_J8_indexOf_s0 r σ x1 x2 x3 P) : gMet dX l yJ8_indexOf cJ8_indexOf 4 (some .int) 1 25 0 0 r A σ [.ref (r.2.2.1 (200 + 0)), .int x1, .int x2, .int x3] (zI P) := by
  refine g_enter (lv := [(0, .ref (r.2.2.1 (200 + 0))), (1, .int x1), (2, .int x2), (3, .int x3)]) (by decide) (Nat.le_of_ble_eq_true rfl) rfl ?_
  intro p e s m below meth c ls K hr hM hl hi
  obtain ⟨hx, hb, hml, hown, hts, hlk, hKK, hA⟩ := id K
  unfold f_J8_indexOf_s0 at hf
  refine lv_iload_n hx hb dJ8_indexOf_0 rfl (lv_at hl 1 rfl) ?_
  refine g_runi (rS [.int x1] [] K hM hl (c_J8_canEncode l r A _ _ _ hf) q638 q639 q98 q640 hdJ8_canEncode ⟨Nat.le_of_ble_eq_true rfl, Nat.le_of_ble_eq_true rfl⟩ ⟨Nat.le_refl _, Nat.le_refl _⟩ rfl (Nat.le_of_ble_eq_true rfl) dJ8_indexOf_1) hM (fun σ1 v2 H locs hf hM => ?_)
  refine lv_if_ne (tgt := 9) hx hb dJ8_indexOf_4 (by decide) (fun b3 => ?_) (fun b3 => ?_)
  · replace hf := hf.2 b3
    refine lv_iload_n hx hb dJ8_indexOf_9 rfl (lv_at hl 2 rfl) ?_
    refine lv_iconst (v := 0) hx hb dJ8_indexOf_10 rfl ?_
    refine va_mmax hx hb (hml.trans hl.1.symm) hown (hts _ q641) (hts _ q642) (hts _ q99) (hts _ q643) (Nat.le_of_ble_eq_true rfl) (Nat.le_of_ble_eq_true rfl) (Nat.zero_le _) (Nat.zero_le _) dJ8_indexOf_11 ?_
    refine lv_topi (fun z4 hz4 => ?_)
    have hf := hf z4 hz4
    refine lv_istore_n (lv' := [(2, .int z4), (0, .ref (r.2.2.1 (200 + 0))), (1, .int x1), (3, .int x3)]) hx hb dJ8_indexOf_14 rfl hl (by decide) rfl (fun ls hl => ?_)
    refine lv_iload_n hx hb dJ8_indexOf_15 rfl (lv_at hl 3 rfl) ?_
    refine lv_aload_n hx hb dJ8_indexOf_16 rfl (lv_at hl 1 rfl) ?_
    refine s_len K hM 0 rfl rfl dJ8_indexOf_17 ?_
    refine va_mmin hx hb (hml.trans hl.1.symm) hown (hts _ q644) (hts _ q645) (hts _ q99) (hts _ q646) (Nat.le_of_ble_eq_true rfl) (Nat.le_of_ble_eq_true rfl) (Nat.zero_le _) (Nat.zero_le _) dJ8_indexOf_18 ?_
    refine lv_topi (fun z5 hz5 => ?_)
    have hf := hf z5 hz5
    refine lv_istore_n (lv' := [(3, .int z5), (2, .int z4), (0, .ref (r.2.2.1 (200 + 0))), (1, .int x1)]) hx hb dJ8_indexOf_21 rfl hl (by decide) rfl (fun ls hl => ?_)
    refine lv_iload_n hx hb dJ8_indexOf_22 rfl (lv_at hl 1 rfl) ?_
    refine lv_iload_n hx hb dJ8_indexOf_23 rfl (lv_at hl 0 rfl) ?_
    refine lv_icmp_lt (tgt := 29) hx hb dJ8_indexOf_24 (by decide) (fun b6 => ?_) (fun b6 => ?_)
    · replace hf := hf.1 b6
      refine lv_aload_n hx hb dJ8_indexOf_29 rfl (lv_at hl 2 rfl) ?_
      refine lv_iload_n hx hb dJ8_indexOf_30 rfl (lv_at hl 3 rfl) ?_
      refine lv_iload_n hx hb dJ8_indexOf_31 rfl (lv_at hl 1 rfl) ?_
      refine lv_iload_n hx hb dJ8_indexOf_32 rfl (lv_at hl 0 rfl) ?_
      refine g_runi (rS [.ref (r.2.2.1 (200 + 0)), .int x1, .int z4, .int z5] [] K hM hl (c_J8_indexOfChar_s0 l r A _ _ _ _ _ hf) q647 q648 q98 q649 hdJ8_indexOfChar ⟨Nat.le_of_ble_eq_true rfl, Nat.le_of_ble_eq_true rfl⟩ ⟨Nat.le_refl _, Nat.le_refl _⟩ rfl (Nat.le_of_ble_eq_true rfl) dJ8_indexOf_33) hM (fun σ7 v8 H locs hf hM => ?_)
      exact g_reti K hr hM ⟨Nat.le_refl _, Nat.le_refl _⟩ hf dJ8_indexOf_36
    · replace hf := hf.2 b6
      refine lv_iconst (v := -1) hx hb dJ8_indexOf_27 rfl ?_
      exact g_reti K hr hM ⟨Nat.le_refl _, Nat.le_refl _⟩ hf dJ8_indexOf_28
  · replace hf := hf.1 b3
    refine lv_iconst (v := -1) hx hb dJ8_indexOf_7 rfl ?_
    exact g_reti K hr hM ⟨Nat.le_refl _, Nat.le_refl _⟩ hf dJ8_indexOf_8
theorem c_J4_indexOf_2_s0 (l : Launch) (r : GR) (A : Nat → Prop) (σ : GS) (x1 : Int32) (x2 : Int32) (P : GS → Int32 → Prop) (hf : f_J4_indexOf_2_s0 r σ x1 x2 P) : gMet dX l yJ4_indexOf_2 cJ4_indexOf_2 3 (some .int) 2 48 0 0 r A σ [.ref (r.2.2.1 (100 + 0)), .int x1, .int x2] (zI P) := by
  refine g_enter (lv := [(0, .ref (r.2.2.1 (100 + 0))), (1, .int x1), (2, .int x2)]) (by decide) (Nat.le_of_ble_eq_true rfl) rfl ?_
  intro p e s m below meth c ls K hr hM hl hi
  obtain ⟨hx, hb, hml, hown, hts, hlk, hKK, hA⟩ := id K
  unfold f_J4_indexOf_2_s0 at hf
  refine lv_aload_n hx hb dJ4_indexOf_2_0 rfl (lv_at hl 0 rfl) ?_
  refine g_runi (rStr 0 [] [] K hM hl rfl (c_J4_isLatin1_s0 l r A _ _ hf) q621 q622 q623 q90 q624 hdJ4_isLatin1 ⟨Nat.le_of_ble_eq_true rfl, Nat.le_of_ble_eq_true rfl⟩ ⟨Nat.le_refl _, Nat.le_refl _⟩ rfl (Nat.le_of_ble_eq_true rfl) dJ4_indexOf_2_1) hM (fun σ1 v2 H locs hf hM => ?_)
  refine lv_if_eq (tgt := 23) hx hb dJ4_indexOf_2_4 (by decide) (fun b3 => ?_) (fun b3 => ?_)
  · replace hf := hf.1 b3
    refine lv_aload_n hx hb dJ4_indexOf_2_23 rfl (lv_at hl 0 rfl) ?_
    refine s_value K hM 0 rfl q2037 dJ4_indexOf_2_24 ?_
    refine lv_iload_n hx hb dJ4_indexOf_2_27 rfl (lv_at hl 1 rfl) ?_
    refine lv_iload_n hx hb dJ4_indexOf_2_28 rfl (lv_at hl 2 rfl) ?_
    refine lv_aload_n hx hb dJ4_indexOf_2_29 rfl (lv_at hl 0 rfl) ?_
    refine g_runi (rStr 0 [] [.int x2, .int x1, .ref (r.2.2.1 (200 + 0))] K hM hl rfl (c_J4_length_s0 l r A _ _ hf) q627 q628 q629 q90 q630 hdJ4_length ⟨Nat.le_of_ble_eq_true rfl, Nat.le_of_ble_eq_true rfl⟩ ⟨Nat.le_refl _, Nat.le_refl _⟩ rfl (Nat.le_of_ble_eq_true rfl) dJ4_indexOf_2_30) hM (fun σ4 v5 H locs hf hM => ?_)
    exact hf.elim
  · replace hf := hf.2 b3
    refine lv_aload_n hx hb dJ4_indexOf_2_7 rfl (lv_at hl 0 rfl) ?_
    refine s_value K hM 0 rfl q2037 dJ4_indexOf_2_8 ?_
    refine lv_iload_n hx hb dJ4_indexOf_2_11 rfl (lv_at hl 1 rfl) ?_
    refine lv_iload_n hx hb dJ4_indexOf_2_12 rfl (lv_at hl 2 rfl) ?_
    refine lv_aload_n hx hb dJ4_indexOf_2_13 rfl (lv_at hl 0 rfl) ?_
    refine g_runi (rStr 0 [] [.int x2, .int x1, .ref (r.2.2.1 (200 + 0))] K hM hl rfl (c_J4_length_s0 l r A _ _ hf) q627 q628 q629 q90 q630 hdJ4_length ⟨Nat.le_of_ble_eq_true rfl, Nat.le_of_ble_eq_true rfl⟩ ⟨Nat.le_refl _, Nat.le_refl _⟩ rfl (Nat.le_of_ble_eq_true rfl) dJ4_indexOf_2_14) hM (fun σ6 v7 H locs hf hM => ?_)
    refine g_runi (rS [.ref (r.2.2.1 (200 + 0)), .int x1, .int x2, .int v7] [] K hM hl (c_J8_indexOf_s0 l r A _ _ _ _ _ hf) q635 q636 q98 q637 hdJ8_indexOf ⟨Nat.le_of_ble_eq_true rfl, Nat.le_of_ble_eq_true rfl⟩ ⟨Nat.le_refl _, Nat.le_refl _⟩ rfl (Nat.le_of_ble_eq_true rfl) dJ4_indexOf_2_17) hM (fun σ8 v9 H locs hf hM => ?_)
    refine lv_goto (tgt := 36) hx hb dJ4_indexOf_2_20 (by decide) ?_
    exact g_reti K hr hM ⟨Nat.le_refl _, Nat.le_refl _⟩ hf dJ4_indexOf_2_36
theorem c_J4_indexOf_s0 (l : Launch) (r : GR) (A : Nat → Prop) (σ : GS) (x1 : Int32) (P : GS → Int32 → Prop) (hf : f_J4_indexOf_s0 r σ x1 P) : gMet dX l yJ4_indexOf cJ4_indexOf 2 (some .int) 3 70 0 0 r A σ [.ref (r.2.2.1 (100 + 0)), .int x1] (zI P) := by
  refine g_enter (lv := [(0, .ref (r.2.2.1 (100 + 0))), (1, .int x1)]) (by decide) (Nat.le_of_ble_eq_true rfl) rfl ?_
  intro p e s m below meth c ls K hr hM hl hi
  obtain ⟨hx, hb, hml, hown, hts, hlk, hKK, hA⟩ := id K
  unfold f_J4_indexOf_s0 at hf
  refine lv_aload_n hx hb dJ4_indexOf_0 rfl (lv_at hl 0 rfl) ?_
  refine lv_iload_n hx hb dJ4_indexOf_1 rfl (lv_at hl 1 rfl) ?_
  refine lv_iconst (v := 0) hx hb dJ4_indexOf_2 rfl ?_
  refine g_runi (rStr 0 [.int x1, .int (0 : Int32)] [] K hM hl rfl (c_J4_indexOf_2_s0 l r A _ _ _ _ hf) q617 q618 q619 q90 q620 hdJ4_indexOf_2 ⟨Nat.le_of_ble_eq_true rfl, Nat.le_of_ble_eq_true rfl⟩ ⟨Nat.le_refl _, Nat.le_refl _⟩ rfl (Nat.le_of_ble_eq_true rfl) dJ4_indexOf_3) hM (fun σ1 v2 H locs hf hM => ?_)
  exact g_reti K hr hM ⟨Nat.le_refl _, Nat.le_refl _⟩ hf dJ4_indexOf_6
theorem c_X6_isOne_s0 (l : Launch) (r : GR) (A : Nat → Prop) (σ : GS) (x0 : Nat) (P : GS → Int32 → Prop) (hf : f_X6_isOne_s0 r σ x0 P) : gMet dX l yX6_isOne cX6_isOne 2 (some .boolean) 4 91 0 0 r A σ [.ref x0, .ref (r.2.2.1 (100 + 0))] (zI P) := by
  refine g_enter (lv := [(0, .ref x0), (1, .ref (r.2.2.1 (100 + 0)))]) (by decide) (Nat.le_of_ble_eq_true rfl) rfl ?_
  intro p e s m below meth c ls K hr hM hl hi
  obtain ⟨hx, hb, hml, hown, hts, hlk, hKK, hA⟩ := id K
  unfold f_X6_isOne_s0 at hf
  refine lv_aload_n hx hb dX6_isOne_0 rfl (lv_at hl 0 rfl) ?_
  obtain ⟨f3, h4, hf⟩ := hf
  refine g_runi (rP [] [] K kY6 hM hl h4 (c_X6_here l r A _ _ _ hf) q604 q606 qs14 q96 q607 hdX6_here ⟨Nat.le_of_ble_eq_true rfl, Nat.le_of_ble_eq_true rfl⟩ ⟨Nat.le_refl _, Nat.le_refl _⟩ rfl (Nat.le_of_ble_eq_true rfl) dX6_isOne_1) hM (fun σ1 v2 H locs hf hM => ?_)
  refine lv_if_lt (tgt := 22) hx hb dX6_isOne_4 (by decide) (fun b5 => ?_) (fun b5 => ?_)
  · replace hf := hf.1 b5
    refine lv_iconst (v := 0) hx hb dX6_isOne_22 rfl ?_
    exact g_retz K hr hM ⟨Nat.le_refl _, Nat.le_refl _⟩ gZ_0 hf dX6_isOne_23
  · replace hf := hf.2 b5
    refine lv_aload_n hx hb dX6_isOne_7 rfl (lv_at hl 1 rfl) ?_
    refine lv_aload_n hx hb dX6_isOne_8 rfl (lv_at hl 0 rfl) ?_
    obtain ⟨f8, h9, hf⟩ := hf
    refine g_runi (rP [] [.ref (r.2.2.1 (100 + 0))] K kY6 hM hl h9 (c_X6_here l r A _ _ _ hf) q604 q606 qs14 q96 q607 hdX6_here ⟨Nat.le_of_ble_eq_true rfl, Nat.le_of_ble_eq_true rfl⟩ ⟨Nat.le_refl _, Nat.le_refl _⟩ rfl (Nat.le_of_ble_eq_true rfl) dX6_isOne_9) hM (fun σ6 v7 H locs hf hM => ?_)
    refine g_runi (rStr 0 [.int v7] [] K hM hl rfl (c_J4_indexOf_s0 l r A _ _ _ hf) q613 q614 q615 q90 q616 hdJ4_indexOf ⟨Nat.le_of_ble_eq_true rfl, Nat.le_of_ble_eq_true rfl⟩ ⟨Nat.le_refl _, Nat.le_refl _⟩ rfl (Nat.le_of_ble_eq_true rfl) dX6_isOne_12) hM (fun σ10 v11 H locs hf hM => ?_)
    refine lv_if_lt (tgt := 22) hx hb dX6_isOne_15 (by decide) (fun b12 => ?_) (fun b12 => ?_)
    · replace hf := hf.1 b12
      refine lv_iconst (v := 0) hx hb dX6_isOne_22 rfl ?_
      exact g_retz K hr hM ⟨Nat.le_refl _, Nat.le_refl _⟩ gZ_0 hf dX6_isOne_23
    · replace hf := hf.2 b12
      refine lv_iconst (v := 1) hx hb dX6_isOne_18 rfl ?_
      refine lv_goto (tgt := 23) hx hb dX6_isOne_19 (by decide) ?_
      exact g_retz K hr hM ⟨Nat.le_refl _, Nat.le_refl _⟩ gZ_1 hf dX6_isOne_23
theorem wo_X6_operand_245 {p : Program} {l : Launch} {e : Env} {s : State} {m : MethodId} {args : Array Value} {below : List Frame} {meth : Method} {c : Code} {r : GR} {A : Nat → Prop} {B S : Nat} {fr lo : Nat} {c_X6_either : Nat → Nat → GS → Nat → (GS → Option Nat → Prop) → Prop} {c_X6_operand : Nat → Nat → GS → Nat → (GS → Option Nat → Prop) → Prop} {P : GS → Option Nat → Prop} (K : gC p s m args meth c cX6_operand 4 RX6 r A) (hr : meth.sig.returnType = (some (.object "PointsForAll$Node"))) (hB : 5 ≤ fr ∧ 112 ≤ lo) {f_X6_either_ l_X6_either_ : Nat} (H_X6_either : ∀ (bc bs : Nat) (σ : GS) (x0 : Nat) (P : GS → Option Nat → Prop), c_X6_either bc bs σ x0 P → gMet dX l yX6_either cX6_either 2 (some (.object "PointsForAll$Node")) f_X6_either_ l_X6_either_ bc bs r A σ [.ref x0] (zQ P)) (hR_X6_either : f_X6_either_ + 1 ≤ fr ∧ 8 + (2 + 11) + l_X6_either_ ≤ lo) {f_X6_operand_ l_X6_operand_ : Nat} (H_X6_operand : ∀ (bc bs : Nat) (σ : GS) (x0 : Nat) (P : GS → Option Nat → Prop), c_X6_operand bc bs σ x0 P → gMet dX l yX6_operand cX6_operand 4 (some (.object "PointsForAll$Node")) f_X6_operand_ l_X6_operand_ bc bs r A σ [.ref x0] (zQ P)) (hR_X6_operand : f_X6_operand_ + 1 ≤ fr ∧ 8 + (4 + 11) + l_X6_operand_ ≤ lo) : ∀ (bc bs cells slots : Nat) (σ : GS) (x0 : Nat), cells + bc ≤ B ∧ slots + bs ≤ S → o_X6_operand_245 r c_X6_either c_X6_operand P bc bs σ x0 → gW dX p l e (gRm fr lo B S) s m args below meth c r A (zQ P) B S 4 245 [(0, .ref x0)] [] cells slots σ := by
  obtain ⟨hx, hb, hml, hown, hts, hlk, hKK, hA⟩ := id K
  intro bc bs cells slots σ x0 hc hf H locs ls hM hl
  unfold o_X6_operand_245 at hf
  refine lv_aload_n hx hb dX6_operand_245 rfl (lv_at hl 0 rfl) ?_
  obtain ⟨f3, h4, hf⟩ := hf
  refine g_runq (rP [] [] K kY6 hM hl h4 (c_X6_wrong l r A _ _ _ hf) q716 q718 qs17 q96 q719 hdX6_wrong ⟨Nat.le_trans (Nat.le_of_ble_eq_true rfl) hB.1, Nat.le_trans (Nat.le_of_ble_eq_true rfl) hB.2⟩ ⟨bud_ret hc.1, bud_ret hc.2⟩ rfl (Nat.le_of_ble_eq_true rfl) dX6_operand_246) hM (fun σ1 v2 H locs hf hM => ?_)
  refine lv_goto (tgt := 260) hx hb dX6_operand_249 (by decide) ?_
  exact g_retq (v := v2) K hr (Or.inl ⟨_, rfl⟩) hM ⟨bud_ret hc.1, bud_ret hc.2⟩ hf dX6_operand_260
theorem wo_X6_operand_227 {p : Program} {l : Launch} {e : Env} {s : State} {m : MethodId} {args : Array Value} {below : List Frame} {meth : Method} {c : Code} {r : GR} {A : Nat → Prop} {B S : Nat} {fr lo : Nat} {c_X6_either : Nat → Nat → GS → Nat → (GS → Option Nat → Prop) → Prop} {c_X6_operand : Nat → Nat → GS → Nat → (GS → Option Nat → Prop) → Prop} {P : GS → Option Nat → Prop} (K : gC p s m args meth c cX6_operand 4 RX6 r A) (hr : meth.sig.returnType = (some (.object "PointsForAll$Node"))) (hB : 5 ≤ fr ∧ 112 ≤ lo) {f_X6_either_ l_X6_either_ : Nat} (H_X6_either : ∀ (bc bs : Nat) (σ : GS) (x0 : Nat) (P : GS → Option Nat → Prop), c_X6_either bc bs σ x0 P → gMet dX l yX6_either cX6_either 2 (some (.object "PointsForAll$Node")) f_X6_either_ l_X6_either_ bc bs r A σ [.ref x0] (zQ P)) (hR_X6_either : f_X6_either_ + 1 ≤ fr ∧ 8 + (2 + 11) + l_X6_either_ ≤ lo) {f_X6_operand_ l_X6_operand_ : Nat} (H_X6_operand : ∀ (bc bs : Nat) (σ : GS) (x0 : Nat) (P : GS → Option Nat → Prop), c_X6_operand bc bs σ x0 P → gMet dX l yX6_operand cX6_operand 4 (some (.object "PointsForAll$Node")) f_X6_operand_ l_X6_operand_ bc bs r A σ [.ref x0] (zQ P)) (hR_X6_operand : f_X6_operand_ + 1 ≤ fr ∧ 8 + (4 + 11) + l_X6_operand_ ≤ lo) : ∀ (bc bs cells slots : Nat) (σ : GS) (x0 : Nat) (x2 : Int32) (x3 : Int32), cells + bc ≤ B ∧ slots + bs ≤ S → o_X6_operand_227 r c_X6_either c_X6_operand P bc bs σ x0 x2 x3 → gW dX p l e (gRm fr lo B S) s m args below meth c r A (zQ P) B S 4 227 [(0, .ref x0), (2, .int x2), (3, .int x3)] [] cells slots σ := by
  obtain ⟨hx, hb, hml, hown, hts, hlk, hKK, hA⟩ := id K
  intro bc bs cells slots σ x0 x2 x3 hc hf H locs ls hM hl
  unfold o_X6_operand_227 at hf
  refine lv_iload_n hx hb dX6_operand_227 rfl (lv_at hl 1 rfl) ?_
  refine lv_if_eq (tgt := 245) hx hb dX6_operand_228 (by decide) (fun b1 => ?_) (fun b1 => ?_)
  · replace hf := hf.1 b1
    exact wo_X6_operand_245 K hr hB H_X6_either hR_X6_either H_X6_operand hR_X6_operand _ _ _ _ _ _ hc hf _ _ _ hM (lv_sub hl [0] rfl)
  · replace hf := hf.2 b1
    refine lv_aload_n hx hb dX6_operand_231 rfl (lv_at hl 0 rfl) ?_
    obtain ⟨f4, h5, hf⟩ := hf
    refine g_runi (rP [] [] K kY6 hM hl h5 (c_X6_here l r A _ _ _ hf) q604 q606 qs14 q96 q607 hdX6_here ⟨Nat.le_trans (Nat.le_of_ble_eq_true rfl) hB.1, Nat.le_trans (Nat.le_of_ble_eq_true rfl) hB.2⟩ ⟨bud_ret hc.1, bud_ret hc.2⟩ rfl (Nat.le_of_ble_eq_true rfl) dX6_operand_232) hM (fun σ2 v3 H locs hf hM => ?_)
    refine lv_bipush (v := 48) hx hb dX6_operand_235 rfl ?_
    refine lv_bipush (v := 57) hx hb dX6_operand_237 rfl ?_
    refine g_runi (rSN [.int v3, .int (48 : Int32), .int (57 : Int32)] [] K hM hl (c_X0_in l r A _ _ _ _ _ hf) q740 q262 q82 q263 hdX0_in ⟨Nat.le_trans (Nat.le_of_ble_eq_true rfl) hB.1, Nat.le_trans (Nat.le_of_ble_eq_true rfl) hB.2⟩ ⟨bud_ret hc.1, bud_ret hc.2⟩ rfl (Nat.le_of_ble_eq_true rfl) dX6_operand_239) hM (fun σ6 v7 H locs hf hM => ?_)
    refine lv_if_eq (tgt := 252) hx hb dX6_operand_242 (by decide) (fun b8 => ?_) (fun b8 => ?_)
    · replace hf := hf.1 b8
      obtain ⟨b11, s12, g13, g14, hf⟩ := hf
      refine p_new K kY11 hM q741 q742 q107 hf0X12 (bud_le hc.1 g13) (bud_le hc.2 g14) dX6_operand_252 (fun H a9 σ10 ea9 hσ10 hM => ?_)
      have hf := hf a9 ea9 σ10 hσ10
      replace hc := And.intro (bud hc.1 g13) (bud hc.2 g14)
      refine lv_dup hx hb dX6_operand_255 rfl ?_
      refine lv_iload_n hx hb dX6_operand_256 rfl (lv_at hl 2 rfl) ?_
      refine g_runv (rI [.int x3] [.ref a9] K hM hl (c_X12_init l r A _ _ _ _ hf) q743 q744 q107 q745 hdX12_init ⟨Nat.le_trans (Nat.le_of_ble_eq_true rfl) hB.1, Nat.le_trans (Nat.le_of_ble_eq_true rfl) hB.2⟩ ⟨bud_ret hc.1, bud_ret hc.2⟩ rfl (Nat.le_of_ble_eq_true rfl) dX6_operand_257) hM (fun σ15 H locs hf hM => ?_)
      exact g_retq (v := (some a9)) K hr (Or.inl ⟨_, rfl⟩) hM ⟨bud_ret hc.1, bud_ret hc.2⟩ hf dX6_operand_260
    · replace hf := hf.2 b8
      exact wo_X6_operand_245 K hr hB H_X6_either hR_X6_either H_X6_operand hR_X6_operand _ _ _ _ _ _ hc hf _ _ _ hM (lv_sub hl [0] rfl)
theorem wo_X6_operand_179 {p : Program} {l : Launch} {e : Env} {s : State} {m : MethodId} {args : Array Value} {below : List Frame} {meth : Method} {c : Code} {r : GR} {A : Nat → Prop} {B S : Nat} {fr lo : Nat} {c_X6_either : Nat → Nat → GS → Nat → (GS → Option Nat → Prop) → Prop} {c_X6_operand : Nat → Nat → GS → Nat → (GS → Option Nat → Prop) → Prop} {P : GS → Option Nat → Prop} (K : gC p s m args meth c cX6_operand 4 RX6 r A) (hr : meth.sig.returnType = (some (.object "PointsForAll$Node"))) (hB : 5 ≤ fr ∧ 112 ≤ lo) {f_X6_either_ l_X6_either_ : Nat} (H_X6_either : ∀ (bc bs : Nat) (σ : GS) (x0 : Nat) (P : GS → Option Nat → Prop), c_X6_either bc bs σ x0 P → gMet dX l yX6_either cX6_either 2 (some (.object "PointsForAll$Node")) f_X6_either_ l_X6_either_ bc bs r A σ [.ref x0] (zQ P)) (hR_X6_either : f_X6_either_ + 1 ≤ fr ∧ 8 + (2 + 11) + l_X6_either_ ≤ lo) {f_X6_operand_ l_X6_operand_ : Nat} (H_X6_operand : ∀ (bc bs : Nat) (σ : GS) (x0 : Nat) (P : GS → Option Nat → Prop), c_X6_operand bc bs σ x0 P → gMet dX l yX6_operand cX6_operand 4 (some (.object "PointsForAll$Node")) f_X6_operand_ l_X6_operand_ bc bs r A σ [.ref x0] (zQ P)) (hR_X6_operand : f_X6_operand_ + 1 ≤ fr ∧ 8 + (4 + 11) + l_X6_operand_ ≤ lo) : ∀ (n : Nat) (bc bs cells slots : Nat) (σ : GS) (x0 : Nat) (x2 : Int32) (x3 : Int32), cells + bc ≤ B ∧ slots + bs ≤ S → o_X6_operand_179 r c_X6_either c_X6_operand P n bc bs σ x0 x2 x3 → gW dX p l e (gRm fr lo B S) s m args below meth c r A (zQ P) B S 4 179 [(0, .ref x0), (2, .int x2), (3, .int x3)] [] cells slots σ := by
  obtain ⟨hx, hb, hml, hown, hts, hlk, hKK, hA⟩ := id K
  intro n
  induction n with
  | zero =>
    intro bc bs cells slots σ x0 x2 x3 hc hf
    exact absurd hf (fun h => h)
  | succ n ih =>
    intro bc bs cells slots σ x0 x2 x3 hc hf H locs ls hM hl
    rw [o_X6_operand_179] at hf
    refine lv_iload_n hx hb dX6_operand_179 rfl (lv_at hl 1 rfl) ?_
    refine lv_iconst (v := 4) hx hb dX6_operand_180 rfl ?_
    refine lv_icmp_ge (tgt := 227) hx hb dX6_operand_181 (by decide) (fun b1 => ?_) (fun b1 => ?_)
    · replace hf := hf.1 b1
      exact wo_X6_operand_227 K hr hB H_X6_either hR_X6_either H_X6_operand hR_X6_operand _ _ _ _ _ _ _ _ hc hf _ _ _ hM (lv_sub hl [0, 1, 2] rfl)
    · replace hf := hf.2 b1
      refine lv_aload_n hx hb dX6_operand_184 rfl (lv_at hl 0 rfl) ?_
      obtain ⟨f4, h5, hf⟩ := hf
      refine g_runi (rP [] [] K kY6 hM hl h5 (c_X6_here l r A _ _ _ hf) q604 q606 qs14 q96 q607 hdX6_here ⟨Nat.le_trans (Nat.le_of_ble_eq_true rfl) hB.1, Nat.le_trans (Nat.le_of_ble_eq_true rfl) hB.2⟩ ⟨bud_ret hc.1, bud_ret hc.2⟩ rfl (Nat.le_of_ble_eq_true rfl) dX6_operand_185) hM (fun σ2 v3 H locs hf hM => ?_)
      refine lv_bipush (v := 48) hx hb dX6_operand_188 rfl ?_
      refine lv_bipush (v := 57) hx hb dX6_operand_190 rfl ?_
      refine g_runi (rSN [.int v3, .int (48 : Int32), .int (57 : Int32)] [] K hM hl (c_X0_in l r A _ _ _ _ _ hf) q740 q262 q82 q263 hdX0_in ⟨Nat.le_trans (Nat.le_of_ble_eq_true rfl) hB.1, Nat.le_trans (Nat.le_of_ble_eq_true rfl) hB.2⟩ ⟨bud_ret hc.1, bud_ret hc.2⟩ rfl (Nat.le_of_ble_eq_true rfl) dX6_operand_192) hM (fun σ6 v7 H locs hf hM => ?_)
      refine lv_if_eq (tgt := 227) hx hb dX6_operand_195 (by decide) (fun b8 => ?_) (fun b8 => ?_)
      · replace hf := hf.1 b8
        exact wo_X6_operand_227 K hr hB H_X6_either hR_X6_either H_X6_operand hR_X6_operand _ _ _ _ _ _ _ _ hc hf _ _ _ hM (lv_sub hl [0, 1, 2] rfl)
      · replace hf := hf.2 b8
        refine lv_bipush (v := 10) hx hb dX6_operand_198 rfl ?_
        refine lv_iload_n hx hb dX6_operand_200 rfl (lv_at hl 2 rfl) ?_
        refine lv_imul hx hb dX6_operand_201 ?_
        refine lv_aload_n hx hb dX6_operand_202 rfl (lv_at hl 0 rfl) ?_
        obtain ⟨f11, h12, hf⟩ := hf
        refine g_runi (rP [] [.int ((10 : Int32) * x3)] K kY6 hM hl h12 (c_X6_here l r A _ _ _ hf) q604 q606 qs14 q96 q607 hdX6_here ⟨Nat.le_trans (Nat.le_of_ble_eq_true rfl) hB.1, Nat.le_trans (Nat.le_of_ble_eq_true rfl) hB.2⟩ ⟨bud_ret hc.1, bud_ret hc.2⟩ rfl (Nat.le_of_ble_eq_true rfl) dX6_operand_203) hM (fun σ9 v10 H locs hf hM => ?_)
        refine lv_iadd hx hb dX6_operand_206 ?_
        refine lv_bipush (v := 48) hx hb dX6_operand_207 rfl ?_
        refine lv_isub hx hb dX6_operand_209 ?_
        refine lv_topi (fun z13 hz13 => ?_)
        have hf := hf z13 hz13
        refine lv_istore_n (lv' := [(3, .int z13), (0, .ref x0), (2, .int x2)]) hx hb dX6_operand_210 rfl hl (by decide) rfl (fun ls hl => ?_)
        refine lv_iinc (v := x2 + 1) (lv' := [(2, .int (x2 + 1)), (3, .int z13), (0, .ref x0)]) hx hb dX6_operand_211 hl (k := 2) rfl rfl (by decide) rfl (fun ls hl => ?_)
        refine lv_aload_n hx hb dX6_operand_214 rfl (lv_at hl 2 rfl) ?_
        refine lv_dup hx hb dX6_operand_215 rfl ?_
        obtain ⟨v15, h14, hf⟩ := hf
        refine p_get K kY6 hM 0 rfl q539 rfl dX6_operand_216 h14 ?_
        refine lv_iconst (v := 1) hx hb dX6_operand_219 rfl ?_
        refine lv_iadd hx hb dX6_operand_220 ?_
        refine p_put K kY6 nmX6 hM 0 rfl q539 rfl dX6_operand_221 rfl rfl rfl hf (fun H locs σ16 hf hM => ?_)
        refine lv_goto (tgt := 179) hx hb dX6_operand_224 (by decide) ?_
        exact ih _ _ _ _ _ _ _ _ hc hf _ _ _ hM (lv_sub hl [2, 0, 1] rfl)
theorem wo_X6_operand_45 {p : Program} {l : Launch} {e : Env} {s : State} {m : MethodId} {args : Array Value} {below : List Frame} {meth : Method} {c : Code} {r : GR} {A : Nat → Prop} {B S : Nat} {fr lo : Nat} {c_X6_either : Nat → Nat → GS → Nat → (GS → Option Nat → Prop) → Prop} {c_X6_operand : Nat → Nat → GS → Nat → (GS → Option Nat → Prop) → Prop} {P : GS → Option Nat → Prop} (K : gC p s m args meth c cX6_operand 4 RX6 r A) (hr : meth.sig.returnType = (some (.object "PointsForAll$Node"))) (hB : 5 ≤ fr ∧ 112 ≤ lo) {f_X6_either_ l_X6_either_ : Nat} (H_X6_either : ∀ (bc bs : Nat) (σ : GS) (x0 : Nat) (P : GS → Option Nat → Prop), c_X6_either bc bs σ x0 P → gMet dX l yX6_either cX6_either 2 (some (.object "PointsForAll$Node")) f_X6_either_ l_X6_either_ bc bs r A σ [.ref x0] (zQ P)) (hR_X6_either : f_X6_either_ + 1 ≤ fr ∧ 8 + (2 + 11) + l_X6_either_ ≤ lo) {f_X6_operand_ l_X6_operand_ : Nat} (H_X6_operand : ∀ (bc bs : Nat) (σ : GS) (x0 : Nat) (P : GS → Option Nat → Prop), c_X6_operand bc bs σ x0 P → gMet dX l yX6_operand cX6_operand 4 (some (.object "PointsForAll$Node")) f_X6_operand_ l_X6_operand_ bc bs r A σ [.ref x0] (zQ P)) (hR_X6_operand : f_X6_operand_ + 1 ≤ fr ∧ 8 + (4 + 11) + l_X6_operand_ ≤ lo) : ∀ (bc bs cells slots : Nat) (σ : GS) (x0 : Nat) (x1 : Int32), cells + bc ≤ B ∧ slots + bs ≤ S → o_X6_operand_45 r c_X6_either c_X6_operand P bc bs σ x0 x1 → gW dX p l e (gRm fr lo B S) s m args below meth c r A (zQ P) B S 4 45 [(0, .ref x0), (1, .int x1)] [] cells slots σ := by
  obtain ⟨hx, hb, hml, hown, hts, hlk, hKK, hA⟩ := id K
  intro bc bs cells slots σ x0 x1 hc hf H locs ls hM hl
  unfold o_X6_operand_45 at hf
  refine lv_aload_n hx hb dX6_operand_45 rfl (lv_at hl 0 rfl) ?_
  obtain ⟨f3, h4, hf⟩ := hf
  refine g_runi (rP [] [] K kY6 hM hl h4 (c_X6_opens l r A _ _ _ hf) q712 q714 qs16 q96 q715 hdX6_opens ⟨Nat.le_trans (Nat.le_of_ble_eq_true rfl) hB.1, Nat.le_trans (Nat.le_of_ble_eq_true rfl) hB.2⟩ ⟨bud_ret hc.1, bud_ret hc.2⟩ rfl (Nat.le_of_ble_eq_true rfl) dX6_operand_46) hM (fun σ1 v2 H locs hf hM => ?_)
  refine lv_if_ne (tgt := 57) hx hb dX6_operand_49 (by decide) (fun b5 => ?_) (fun b5 => ?_)
  · replace hf := hf.2 b5
    refine lv_aload_n hx hb dX6_operand_57 rfl (lv_at hl 0 rfl) ?_
    obtain ⟨c8, s9, hf⟩ := hf
    obtain ⟨b10, s11, g12, g13, hf⟩ := hf
    obtain ⟨f14, h15, hf⟩ := hf
    refine g_runq (rP [] [] K kY6 hM hl h15 (H_X6_operand _ _ _ _ _ hf) q600 q602 qs13 q96 q603 hdX6_operand hR_X6_operand ⟨bud_le hc.1 g12, bud_le hc.2 g13⟩ rfl (Nat.le_of_ble_eq_true rfl) dX6_operand_58) hM (fun σ6 v7 H locs hf hM => ?_)
    replace hc := And.intro (bud hc.1 g12) (bud hc.2 g13)
    refine g_astore_nq (lv' := [(2, va_rf v7), (0, .ref x0), (1, .int x1)]) hx hb dX6_operand_61 rfl hl (by decide) rfl (fun ls hl => ?_)
    refine lv_aload_n hx hb dX6_operand_62 rfl (lv_at hl 1 rfl) ?_
    refine lv_dup hx hb dX6_operand_63 rfl ?_
    obtain ⟨v17, h16, hf⟩ := hf
    refine p_get K kY6 hM 2 rfl q542 rfl dX6_operand_64 h16 ?_
    refine lv_iconst (v := 1) hx hb dX6_operand_67 rfl ?_
    refine lv_isub hx hb dX6_operand_68 ?_
    refine p_put K kY6 nmX6 hM 2 rfl q542 rfl dX6_operand_69 rfl rfl rfl hf (fun H locs σ18 hf hM => ?_)
    refine lv_aload_n hx hb dX6_operand_72 rfl (lv_at hl 1 rfl) ?_
    obtain ⟨v20, h19, hf⟩ := hf
    refine p_get K kY6 hM 1 rfl q540 rfl dX6_operand_73 h19 ?_
    refine lv_if_lt (tgt := 81) hx hb dX6_operand_76 (by decide) (fun b21 => ?_) (fun b21 => ?_)
    · replace hf := hf.1 b21
      refine lv_iload_n hx hb dX6_operand_81 rfl (lv_at hl 2 rfl) ?_
      refine lv_bipush (v := 33) hx hb dX6_operand_82 rfl ?_
      refine lv_icmp_ne (tgt := 98) hx hb dX6_operand_84 (by decide) (fun b22 => ?_) (fun b22 => ?_)
      · replace hf := hf.2 b22
        obtain ⟨b25, s26, g27, g28, hf⟩ := hf
        refine p_new K kY10 hM q730 q731 q106 hf0X11 (bud_le hc.1 g27) (bud_le hc.2 g28) dX6_operand_98 (fun H a23 σ24 ea23 hσ24 hM => ?_)
        have hf := hf a23 ea23 σ24 hσ24
        replace hc := And.intro (bud hc.1 g27) (bud hc.2 g28)
        refine lv_dup hx hb dX6_operand_101 rfl ?_
        refine g_aload_nq hx hb dX6_operand_102 rfl (lv_at hl 0 rfl) ?_
        refine g_runv (rI [va_rf v7] [.ref a23] K hM hl (c_X11_init l r A _ _ _ _ hf) q732 q733 q106 q734 hdX11_init ⟨Nat.le_trans (Nat.le_of_ble_eq_true rfl) hB.1, Nat.le_trans (Nat.le_of_ble_eq_true rfl) hB.2⟩ ⟨bud_ret hc.1, bud_ret hc.2⟩ rfl (Nat.le_of_ble_eq_true rfl) dX6_operand_103) hM (fun σ29 H locs hf hM => ?_)
        exact g_retq (v := (some a23)) K hr (Or.inl ⟨_, rfl⟩) hM ⟨bud_ret hc.1, bud_ret hc.2⟩ hf dX6_operand_106
      · replace hf := hf.1 b22
        obtain ⟨b33, s34, g35, g36, hf⟩ := hf
        refine p_new K kY9 hM q720 q721 q105 hf0X10 (bud_le hc.1 g35) (bud_le hc.2 g36) dX6_operand_87 (fun H a31 σ32 ea31 hσ32 hM => ?_)
        have hf := hf a31 ea31 σ32 hσ32
        replace hc := And.intro (bud hc.1 g35) (bud hc.2 g36)
        refine lv_dup hx hb dX6_operand_90 rfl ?_
        refine g_aload_nq hx hb dX6_operand_91 rfl (lv_at hl 0 rfl) ?_
        refine g_runv (rI [va_rf v7] [.ref a31] K hM hl (c_X10_init l r A _ _ _ _ hf) q722 q723 q105 q724 hdX10_init ⟨Nat.le_trans (Nat.le_of_ble_eq_true rfl) hB.1, Nat.le_trans (Nat.le_of_ble_eq_true rfl) hB.2⟩ ⟨bud_ret hc.1, bud_ret hc.2⟩ rfl (Nat.le_of_ble_eq_true rfl) dX6_operand_92) hM (fun σ37 H locs hf hM => ?_)
        refine lv_goto (tgt := 106) hx hb dX6_operand_95 (by decide) ?_
        exact g_retq (v := (some a31)) K hr (Or.inl ⟨_, rfl⟩) hM ⟨bud_ret hc.1, bud_ret hc.2⟩ hf dX6_operand_106
    · replace hf := hf.2 b21
      refine lv_null hx hb dX6_operand_79 ?_
      exact g_retq (v := none) K hr (Or.inl ⟨_, rfl⟩) hM ⟨bud_ret hc.1, bud_ret hc.2⟩ hf dX6_operand_80
  · replace hf := hf.1 b5
    refine lv_aload_n hx hb dX6_operand_52 rfl (lv_at hl 0 rfl) ?_
    obtain ⟨f41, h42, hf⟩ := hf
    refine g_runq (rP [] [] K kY6 hM hl h42 (c_X6_wrong l r A _ _ _ hf) q716 q718 qs17 q96 q719 hdX6_wrong ⟨Nat.le_trans (Nat.le_of_ble_eq_true rfl) hB.1, Nat.le_trans (Nat.le_of_ble_eq_true rfl) hB.2⟩ ⟨bud_ret hc.1, bud_ret hc.2⟩ rfl (Nat.le_of_ble_eq_true rfl) dX6_operand_53) hM (fun σ39 v40 H locs hf hM => ?_)
    exact g_retq (v := v40) K hr (Or.inl ⟨_, rfl⟩) hM ⟨bud_ret hc.1, bud_ret hc.2⟩ hf dX6_operand_56
theorem co_X6_operand (l : Launch) (r : GR) (A : Nat → Prop) {fr lo : Nat} {c_X6_either : Nat → Nat → GS → Nat → (GS → Option Nat → Prop) → Prop} {c_X6_operand : Nat → Nat → GS → Nat → (GS → Option Nat → Prop) → Prop} (hB : 5 ≤ fr ∧ 112 ≤ lo) {f_X6_either_ l_X6_either_ : Nat} (H_X6_either : ∀ (bc bs : Nat) (σ : GS) (x0 : Nat) (P : GS → Option Nat → Prop), c_X6_either bc bs σ x0 P → gMet dX l yX6_either cX6_either 2 (some (.object "PointsForAll$Node")) f_X6_either_ l_X6_either_ bc bs r A σ [.ref x0] (zQ P)) (hR_X6_either : f_X6_either_ + 1 ≤ fr ∧ 8 + (2 + 11) + l_X6_either_ ≤ lo) {f_X6_operand_ l_X6_operand_ : Nat} (H_X6_operand : ∀ (bc bs : Nat) (σ : GS) (x0 : Nat) (P : GS → Option Nat → Prop), c_X6_operand bc bs σ x0 P → gMet dX l yX6_operand cX6_operand 4 (some (.object "PointsForAll$Node")) f_X6_operand_ l_X6_operand_ bc bs r A σ [.ref x0] (zQ P)) (hR_X6_operand : f_X6_operand_ + 1 ≤ fr ∧ 8 + (4 + 11) + l_X6_operand_ ≤ lo) (bc bs : Nat) (σ : GS) (x0 : Nat) (P : GS → Option Nat → Prop) (hf : o_X6_operand r c_X6_either c_X6_operand bc bs σ x0 P) : gMet dX l yX6_operand cX6_operand 4 (some (.object "PointsForAll$Node")) fr lo bc bs r A σ [.ref x0] (zQ P) := by
  refine g_enter (lv := [(0, .ref x0)]) (by decide) (Nat.le_of_ble_eq_true rfl) rfl ?_
  intro p e s m below meth c ls K hr hM hl hi
  obtain ⟨hx, hb, hml, hown, hts, hlk, hKK, hA⟩ := id K
  unfold o_X6_operand at hf
  generalize hB_ : bc = B
  generalize hS_ : bs = S
  have hc : 0 + bc ≤ B ∧ 0 + bs ≤ S := ⟨bud_0 hB_, bud_0 hS_⟩
  refine lv_aload_n hx hb dX6_operand_0 rfl (lv_at hl 0 rfl) ?_
  obtain ⟨f3, h4, hf⟩ := hf
  refine g_runi (rP [] [] K kY6 hM hl h4 (c_X6_here l r A _ _ _ hf) q604 q606 qs14 q96 q607 hdX6_here ⟨Nat.le_trans (Nat.le_of_ble_eq_true rfl) hB.1, Nat.le_trans (Nat.le_of_ble_eq_true rfl) hB.2⟩ ⟨bud_ret hc.1, bud_ret hc.2⟩ rfl (Nat.le_of_ble_eq_true rfl) dX6_operand_1) hM (fun σ1 v2 H locs hf hM => ?_)
  refine lv_istore_n (lv' := [(1, .int v2), (0, .ref x0)]) hx hb dX6_operand_4 rfl hl (by decide) rfl (fun ls hl => ?_)
  refine lv_aload_n hx hb dX6_operand_5 rfl (lv_at hl 1 rfl) ?_
  refine va_ldcS hx hb hown hA.2.2.2.2.2.2.1 dX6_operand_6 ?_
  obtain ⟨f7, h8, hf⟩ := hf
  refine g_runi (rP [.ref (r.2.2.1 (100 + 3))] [] K kY6 hM hl h8 (c_X6_isOne_s3 l r A _ _ _ hf) q609 q611 qs15 q96 q612 hdX6_isOne ⟨Nat.le_trans (Nat.le_of_ble_eq_true rfl) hB.1, Nat.le_trans (Nat.le_of_ble_eq_true rfl) hB.2⟩ ⟨bud_ret hc.1, bud_ret hc.2⟩ rfl (Nat.le_of_ble_eq_true rfl) dX6_operand_8) hM (fun σ5 v6 H locs hf hM => ?_)
  refine lv_if_eq (tgt := 33) hx hb dX6_operand_11 (by decide) (fun b9 => ?_) (fun b9 => ?_)
  · replace hf := hf.1 b9
    refine lv_iload_n hx hb dX6_operand_33 rfl (lv_at hl 0 rfl) ?_
    refine lv_bipush (v := 33) hx hb dX6_operand_34 rfl ?_
    refine lv_icmp_eq (tgt := 45) hx hb dX6_operand_36 (by decide) (fun b10 => ?_) (fun b10 => ?_)
    · replace hf := hf.1 b10
      exact wo_X6_operand_45 K hr hB H_X6_either hR_X6_either H_X6_operand hR_X6_operand _ _ _ _ _ _ _ hc hf _ _ _ hM (lv_sub hl [1, 0] rfl)
    · replace hf := hf.2 b10
      refine lv_iload_n hx hb dX6_operand_39 rfl (lv_at hl 0 rfl) ?_
      refine lv_bipush (v := 45) hx hb dX6_operand_40 rfl ?_
      refine lv_icmp_ne (tgt := 107) hx hb dX6_operand_42 (by decide) (fun b11 => ?_) (fun b11 => ?_)
      · replace hf := hf.2 b11
        refine lv_iload_n hx hb dX6_operand_107 rfl (lv_at hl 0 rfl) ?_
        refine lv_bipush (v := 40) hx hb dX6_operand_108 rfl ?_
        refine lv_icmp_ne (tgt := 175) hx hb dX6_operand_110 (by decide) (fun b12 => ?_) (fun b12 => ?_)
        · replace hf := hf.2 b12
          refine lv_iconst (v := 0) hx hb dX6_operand_175 rfl ?_
          refine lv_istore_n (lv' := [(2, .int (0 : Int32)), (1, .int v2), (0, .ref x0)]) hx hb dX6_operand_176 rfl hl (by decide) rfl (fun ls hl => ?_)
          refine lv_iconst (v := 0) hx hb dX6_operand_177 rfl ?_
          refine lv_istore_n (lv' := [(3, .int (0 : Int32)), (2, .int (0 : Int32)), (1, .int v2), (0, .ref x0)]) hx hb dX6_operand_178 rfl hl (by decide) rfl (fun ls hl => ?_)
          obtain ⟨n_, hf⟩ := hf
          exact wo_X6_operand_179 K hr hB H_X6_either hR_X6_either H_X6_operand hR_X6_operand n_ _ _ _ _ _ _ _ _ hc hf _ _ _ hM (lv_sub hl [3, 1, 0] rfl)
        · replace hf := hf.1 b12
          refine lv_aload_n hx hb dX6_operand_113 rfl (lv_at hl 1 rfl) ?_
          obtain ⟨f15, h16, hf⟩ := hf
          refine g_runi (rP [] [] K kY6 hM hl h16 (c_X6_opens l r A _ _ _ hf) q712 q714 qs16 q96 q715 hdX6_opens ⟨Nat.le_trans (Nat.le_of_ble_eq_true rfl) hB.1, Nat.le_trans (Nat.le_of_ble_eq_true rfl) hB.2⟩ ⟨bud_ret hc.1, bud_ret hc.2⟩ rfl (Nat.le_of_ble_eq_true rfl) dX6_operand_114) hM (fun σ13 v14 H locs hf hM => ?_)
          refine lv_if_ne (tgt := 125) hx hb dX6_operand_117 (by decide) (fun b17 => ?_) (fun b17 => ?_)
          · replace hf := hf.2 b17
            refine lv_aload_n hx hb dX6_operand_125 rfl (lv_at hl 1 rfl) ?_
            obtain ⟨c20, s21, hf⟩ := hf
            obtain ⟨b22, s23, g24, g25, hf⟩ := hf
            obtain ⟨f26, h27, hf⟩ := hf
            refine g_runq (rP [] [] K kY6 hM hl h27 (H_X6_either _ _ _ _ _ hf) q580 q582 qs8 q96 q583 hdX6_either hR_X6_either ⟨bud_le hc.1 g24, bud_le hc.2 g25⟩ rfl (Nat.le_of_ble_eq_true rfl) dX6_operand_126) hM (fun σ18 v19 H locs hf hM => ?_)
            replace hc := And.intro (bud hc.1 g24) (bud hc.2 g25)
            refine g_astore_nq (lv' := [(2, va_rf v19), (1, .int v2), (0, .ref x0)]) hx hb dX6_operand_129 rfl hl (by decide) rfl (fun ls hl => ?_)
            refine lv_aload_n hx hb dX6_operand_130 rfl (lv_at hl 2 rfl) ?_
            obtain ⟨v29, h28, hf⟩ := hf
            refine p_get K kY6 hM 1 rfl q540 rfl dX6_operand_131 h28 ?_
            refine lv_if_lt (tgt := 139) hx hb dX6_operand_134 (by decide) (fun b30 => ?_) (fun b30 => ?_)
            · replace hf := hf.1 b30
              refine lv_aload_n hx hb dX6_operand_139 rfl (lv_at hl 2 rfl) ?_
              obtain ⟨f33, h34, hf⟩ := hf
              refine g_runi (rP [] [] K kY6 hM hl h34 (c_X6_here l r A _ _ _ hf) q604 q606 qs14 q96 q607 hdX6_here ⟨Nat.le_trans (Nat.le_of_ble_eq_true rfl) hB.1, Nat.le_trans (Nat.le_of_ble_eq_true rfl) hB.2⟩ ⟨bud_ret hc.1, bud_ret hc.2⟩ rfl (Nat.le_of_ble_eq_true rfl) dX6_operand_140) hM (fun σ31 v32 H locs hf hM => ?_)
              refine lv_bipush (v := 41) hx hb dX6_operand_143 rfl ?_
              refine lv_icmp_eq (tgt := 153) hx hb dX6_operand_145 (by decide) (fun b35 => ?_) (fun b35 => ?_)
              · replace hf := hf.1 b35
                refine lv_aload_n hx hb dX6_operand_153 rfl (lv_at hl 2 rfl) ?_
                refine lv_dup hx hb dX6_operand_154 rfl ?_
                obtain ⟨v37, h36, hf⟩ := hf
                refine p_get K kY6 hM 0 rfl q539 rfl dX6_operand_155 h36 ?_
                refine lv_iconst (v := 1) hx hb dX6_operand_158 rfl ?_
                refine lv_iadd hx hb dX6_operand_159 ?_
                refine p_put K kY6 nmX6 hM 0 rfl q539 rfl dX6_operand_160 rfl rfl rfl hf (fun H locs σ38 hf hM => ?_)
                refine lv_aload_n hx hb dX6_operand_163 rfl (lv_at hl 2 rfl) ?_
                refine lv_dup hx hb dX6_operand_164 rfl ?_
                obtain ⟨v40, h39, hf⟩ := hf
                refine p_get K kY6 hM 2 rfl q542 rfl dX6_operand_165 h39 ?_
                refine lv_iconst (v := 1) hx hb dX6_operand_168 rfl ?_
                refine lv_isub hx hb dX6_operand_169 ?_
                refine p_put K kY6 nmX6 hM 2 rfl q542 rfl dX6_operand_170 rfl rfl rfl hf (fun H locs σ41 hf hM => ?_)
                refine g_aload_nq hx hb dX6_operand_173 rfl (lv_at hl 0 rfl) ?_
                exact g_retq (v := v19) K hr (Or.inl ⟨_, rfl⟩) hM ⟨bud_ret hc.1, bud_ret hc.2⟩ hf dX6_operand_174
              · replace hf := hf.2 b35
                refine lv_aload_n hx hb dX6_operand_148 rfl (lv_at hl 2 rfl) ?_
                obtain ⟨f44, h45, hf⟩ := hf
                refine g_runq (rP [] [] K kY6 hM hl h45 (c_X6_wrong l r A _ _ _ hf) q716 q718 qs17 q96 q719 hdX6_wrong ⟨Nat.le_trans (Nat.le_of_ble_eq_true rfl) hB.1, Nat.le_trans (Nat.le_of_ble_eq_true rfl) hB.2⟩ ⟨bud_ret hc.1, bud_ret hc.2⟩ rfl (Nat.le_of_ble_eq_true rfl) dX6_operand_149) hM (fun σ42 v43 H locs hf hM => ?_)
                exact g_retq (v := v43) K hr (Or.inl ⟨_, rfl⟩) hM ⟨bud_ret hc.1, bud_ret hc.2⟩ hf dX6_operand_152
            · replace hf := hf.2 b30
              refine lv_null hx hb dX6_operand_137 ?_
              exact g_retq (v := none) K hr (Or.inl ⟨_, rfl⟩) hM ⟨bud_ret hc.1, bud_ret hc.2⟩ hf dX6_operand_138
          · replace hf := hf.1 b17
            refine lv_aload_n hx hb dX6_operand_120 rfl (lv_at hl 1 rfl) ?_
            obtain ⟨f48, h49, hf⟩ := hf
            refine g_runq (rP [] [] K kY6 hM hl h49 (c_X6_wrong l r A _ _ _ hf) q716 q718 qs17 q96 q719 hdX6_wrong ⟨Nat.le_trans (Nat.le_of_ble_eq_true rfl) hB.1, Nat.le_trans (Nat.le_of_ble_eq_true rfl) hB.2⟩ ⟨bud_ret hc.1, bud_ret hc.2⟩ rfl (Nat.le_of_ble_eq_true rfl) dX6_operand_121) hM (fun σ46 v47 H locs hf hM => ?_)
            exact g_retq (v := v47) K hr (Or.inl ⟨_, rfl⟩) hM ⟨bud_ret hc.1, bud_ret hc.2⟩ hf dX6_operand_124
      · replace hf := hf.1 b11
        exact wo_X6_operand_45 K hr hB H_X6_either hR_X6_either H_X6_operand hR_X6_operand _ _ _ _ _ _ _ hc hf _ _ _ hM (lv_sub hl [1, 0] rfl)
  · replace hf := hf.2 b9
    refine lv_aload_n hx hb dX6_operand_14 rfl (lv_at hl 1 rfl) ?_
    refine lv_dup hx hb dX6_operand_15 rfl ?_
    obtain ⟨v51, h50, hf⟩ := hf
    refine p_get K kY6 hM 0 rfl q539 rfl dX6_operand_16 h50 ?_
    refine lv_iconst (v := 1) hx hb dX6_operand_19 rfl ?_
    refine lv_iadd hx hb dX6_operand_20 ?_
    refine p_put K kY6 nmX6 hM 0 rfl q539 rfl dX6_operand_21 rfl rfl rfl hf (fun H locs σ52 hf hM => ?_)
    obtain ⟨b55, s56, g57, g58, hf⟩ := hf
    refine p_new K kY8 hM q699 q700 q104 hf0X9 (bud_le hc.1 g57) (bud_le hc.2 g58) dX6_operand_24 (fun H a53 σ54 ea53 hσ54 hM => ?_)
    have hf := hf a53 ea53 σ54 hσ54
    replace hc := And.intro (bud hc.1 g57) (bud hc.2 g58)
    refine lv_dup hx hb dX6_operand_27 rfl ?_
    refine lv_iload_n hx hb dX6_operand_28 rfl (lv_at hl 0 rfl) ?_
    refine g_runv (rI [.int v2] [.ref a53] K hM hl (c_X9_init l r A _ _ _ _ hf) q701 q702 q104 q703 hdX9_init ⟨Nat.le_trans (Nat.le_of_ble_eq_true rfl) hB.1, Nat.le_trans (Nat.le_of_ble_eq_true rfl) hB.2⟩ ⟨bud_ret hc.1, bud_ret hc.2⟩ rfl (Nat.le_of_ble_eq_true rfl) dX6_operand_29) hM (fun σ59 H locs hf hM => ?_)
    exact g_retq (v := (some a53)) K hr (Or.inl ⟨_, rfl⟩) hM ⟨bud_ret hc.1, bud_ret hc.2⟩ hf dX6_operand_32
theorem wo_X6_product_5 {p : Program} {l : Launch} {e : Env} {s : State} {m : MethodId} {args : Array Value} {below : List Frame} {meth : Method} {c : Code} {r : GR} {A : Nat → Prop} {B S : Nat} {fr lo : Nat} {c_X6_operand : Nat → Nat → GS → Nat → (GS → Option Nat → Prop) → Prop} {P : GS → Option Nat → Prop} (K : gC p s m args meth c cX6_product 3 RX6 r A) (hr : meth.sig.returnType = (some (.object "PointsForAll$Node"))) (hB : 5 ≤ fr ∧ 112 ≤ lo) {f_X6_operand_ l_X6_operand_ : Nat} (H_X6_operand : ∀ (bc bs : Nat) (σ : GS) (x0 : Nat) (P : GS → Option Nat → Prop), c_X6_operand bc bs σ x0 P → gMet dX l yX6_operand cX6_operand 4 (some (.object "PointsForAll$Node")) f_X6_operand_ l_X6_operand_ bc bs r A σ [.ref x0] (zQ P)) (hR_X6_operand : f_X6_operand_ + 1 ≤ fr ∧ 8 + (4 + 11) + l_X6_operand_ ≤ lo) : ∀ (n : Nat) (bc bs cells slots : Nat) (σ : GS) (x0 : Nat) (x1 : Option Nat), cells + bc ≤ B ∧ slots + bs ≤ S → o_X6_product_5 r c_X6_operand P n bc bs σ x0 x1 → gW dX p l e (gRm fr lo B S) s m args below meth c r A (zQ P) B S 3 5 [(0, .ref x0), (1, va_rf x1)] [] cells slots σ := by
  obtain ⟨hx, hb, hml, hown, hts, hlk, hKK, hA⟩ := id K
  intro n
  induction n with
  | zero =>
    intro bc bs cells slots σ x0 x1 hc hf
    exact absurd hf (fun h => h)
  | succ n ih =>
    intro bc bs cells slots σ x0 x1 hc hf H locs ls hM hl
    rw [o_X6_product_5] at hf
    refine lv_aload_n hx hb dX6_product_5 rfl (lv_at hl 0 rfl) ?_
    obtain ⟨v2, h1, hf⟩ := hf
    refine p_get K kY6 hM 1 rfl q540 rfl dX6_product_6 h1 ?_
    refine lv_if_ge (tgt := 50) hx hb dX6_product_9 (by decide) (fun b3 => ?_) (fun b3 => ?_)
    · replace hf := hf.1 b3
      refine g_aload_nq hx hb dX6_product_50 rfl (lv_at hl 1 rfl) ?_
      exact g_retq (v := x1) K hr (Or.inl ⟨_, rfl⟩) hM ⟨bud_ret hc.1, bud_ret hc.2⟩ hf dX6_product_51
    · replace hf := hf.2 b3
      refine lv_aload_n hx hb dX6_product_12 rfl (lv_at hl 0 rfl) ?_
      refine va_ldcS hx hb hown hA.2.2.2.2.2.1 dX6_product_13 ?_
      obtain ⟨f6, h7, hf⟩ := hf
      refine g_runi (rP [.ref (r.2.2.1 (100 + 2))] [] K kY6 hM hl h7 (c_X6_isOne_s2 l r A _ _ _ hf) q609 q611 qs15 q96 q612 hdX6_isOne ⟨Nat.le_trans (Nat.le_of_ble_eq_true rfl) hB.1, Nat.le_trans (Nat.le_of_ble_eq_true rfl) hB.2⟩ ⟨bud_ret hc.1, bud_ret hc.2⟩ rfl (Nat.le_of_ble_eq_true rfl) dX6_product_15) hM (fun σ4 v5 H locs hf hM => ?_)
      refine lv_if_eq (tgt := 50) hx hb dX6_product_18 (by decide) (fun b8 => ?_) (fun b8 => ?_)
      · replace hf := hf.1 b8
        refine g_aload_nq hx hb dX6_product_50 rfl (lv_at hl 1 rfl) ?_
        exact g_retq (v := x1) K hr (Or.inl ⟨_, rfl⟩) hM ⟨bud_ret hc.1, bud_ret hc.2⟩ hf dX6_product_51
      · replace hf := hf.2 b8
        refine lv_aload_n hx hb dX6_product_21 rfl (lv_at hl 0 rfl) ?_
        obtain ⟨f11, h12, hf⟩ := hf
        refine g_runi (rP [] [] K kY6 hM hl h12 (c_X6_here l r A _ _ _ hf) q604 q606 qs14 q96 q607 hdX6_here ⟨Nat.le_trans (Nat.le_of_ble_eq_true rfl) hB.1, Nat.le_trans (Nat.le_of_ble_eq_true rfl) hB.2⟩ ⟨bud_ret hc.1, bud_ret hc.2⟩ rfl (Nat.le_of_ble_eq_true rfl) dX6_product_22) hM (fun σ9 v10 H locs hf hM => ?_)
        refine lv_istore_n (lv' := [(2, .int v10), (0, .ref x0), (1, va_rf x1)]) hx hb dX6_product_25 rfl hl (by decide) (by cases x1 <;> rfl) (fun ls hl => ?_)
        refine lv_aload_n hx hb dX6_product_26 rfl (lv_at hl 1 rfl) ?_
        refine lv_dup hx hb dX6_product_27 rfl ?_
        obtain ⟨v14, h13, hf⟩ := hf
        refine p_get K kY6 hM 0 rfl q539 rfl dX6_product_28 h13 ?_
        refine lv_iconst (v := 1) hx hb dX6_product_31 rfl ?_
        refine lv_iadd hx hb dX6_product_32 ?_
        refine p_put K kY6 nmX6 hM 0 rfl q539 rfl dX6_product_33 rfl rfl rfl hf (fun H locs σ15 hf hM => ?_)
        refine lv_aload_n hx hb dX6_product_36 rfl (lv_at hl 1 rfl) ?_
        refine lv_iload_n hx hb dX6_product_37 rfl (lv_at hl 0 rfl) ?_
        refine g_aload_nq hx hb dX6_product_38 rfl (lv_at hl 2 rfl) ?_
        refine lv_aload_n hx hb dX6_product_39 rfl (lv_at hl 1 rfl) ?_
        obtain ⟨c18, s19, hf⟩ := hf
        obtain ⟨b20, s21, g22, g23, hf⟩ := hf
        obtain ⟨f24, h25, hf⟩ := hf
        refine g_runq (rP [] [va_rf x1, .int v10, .ref x0] K kY6 hM hl h25 (H_X6_operand _ _ _ _ _ hf) q600 q602 qs13 q96 q603 hdX6_operand hR_X6_operand ⟨bud_le hc.1 g22, bud_le hc.2 g23⟩ rfl (by cases x1 <;> exact Nat.le_of_ble_eq_true rfl) dX6_product_40) hM (fun σ16 v17 H locs hf hM => ?_)
        replace hc := And.intro (bud hc.1 g22) (bud hc.2 g23)
        obtain ⟨c28, s29, hf⟩ := hf
        obtain ⟨b30, s31, g32, g33, hf⟩ := hf
        obtain ⟨f34, h35, hf⟩ := hf
        refine g_runq (rP [.int v10, va_rf x1, va_rf v17] [] K kY6 hM hl h35 (c_X6_joined l r A _ _ _ _ _ _ _ _ hf) q752 q754 qs18 q96 q755 hdX6_joined ⟨Nat.le_trans (Nat.le_of_ble_eq_true rfl) hB.1, Nat.le_trans (Nat.le_of_ble_eq_true rfl) hB.2⟩ ⟨bud_le hc.1 g32, bud_le hc.2 g33⟩ rfl (Nat.le_of_ble_eq_true rfl) dX6_product_43) hM (fun σ26 v27 H locs hf hM => ?_)
        replace hc := And.intro (bud hc.1 g32) (bud hc.2 g33)
        refine g_astore_nq (lv' := [(1, va_rf v27), (2, .int v10), (0, .ref x0)]) hx hb dX6_product_46 rfl hl (by decide) rfl (fun ls hl => ?_)
        refine lv_goto (tgt := 5) hx hb dX6_product_47 (by decide) ?_
        exact ih _ _ _ _ _ _ _ hc hf _ _ _ hM (lv_sub hl [2, 0] rfl)
theorem co_X6_product (l : Launch) (r : GR) (A : Nat → Prop) {fr lo : Nat} {c_X6_operand : Nat → Nat → GS → Nat → (GS → Option Nat → Prop) → Prop} (hB : 5 ≤ fr ∧ 112 ≤ lo) {f_X6_operand_ l_X6_operand_ : Nat} (H_X6_operand : ∀ (bc bs : Nat) (σ : GS) (x0 : Nat) (P : GS → Option Nat → Prop), c_X6_operand bc bs σ x0 P → gMet dX l yX6_operand cX6_operand 4 (some (.object "PointsForAll$Node")) f_X6_operand_ l_X6_operand_ bc bs r A σ [.ref x0] (zQ P)) (hR_X6_operand : f_X6_operand_ + 1 ≤ fr ∧ 8 + (4 + 11) + l_X6_operand_ ≤ lo) (bc bs : Nat) (σ : GS) (x0 : Nat) (P : GS → Option Nat → Prop) (hf : o_X6_product r c_X6_operand bc bs σ x0 P) : gMet dX l yX6_product cX6_product 3 (some (.object "PointsForAll$Node")) fr lo bc bs r A σ [.ref x0] (zQ P) := by
  refine g_enter (lv := [(0, .ref x0)]) (by decide) (Nat.le_of_ble_eq_true rfl) rfl ?_
  intro p e s m below meth c ls K hr hM hl hi
  obtain ⟨hx, hb, hml, hown, hts, hlk, hKK, hA⟩ := id K
  unfold o_X6_product at hf
  generalize hB_ : bc = B
  generalize hS_ : bs = S
  have hc : 0 + bc ≤ B ∧ 0 + bs ≤ S := ⟨bud_0 hB_, bud_0 hS_⟩
  refine lv_aload_n hx hb dX6_product_0 rfl (lv_at hl 0 rfl) ?_
  obtain ⟨c3, s4, hf⟩ := hf
  obtain ⟨b5, s6, g7, g8, hf⟩ := hf
  obtain ⟨f9, h10, hf⟩ := hf
  refine g_runq (rP [] [] K kY6 hM hl h10 (H_X6_operand _ _ _ _ _ hf) q600 q602 qs13 q96 q603 hdX6_operand hR_X6_operand ⟨bud_le hc.1 g7, bud_le hc.2 g8⟩ rfl (Nat.le_of_ble_eq_true rfl) dX6_product_1) hM (fun σ1 v2 H locs hf hM => ?_)
  replace hc := And.intro (bud hc.1 g7) (bud hc.2 g8)
  refine g_astore_nq (lv' := [(1, va_rf v2), (0, .ref x0)]) hx hb dX6_product_4 rfl hl (by decide) rfl (fun ls hl => ?_)
  obtain ⟨n_, hf⟩ := hf
  exact wo_X6_product_5 K hr hB H_X6_operand hR_X6_operand n_ _ _ _ _ _ _ _ hc hf _ _ _ hM (lv_sub hl [1, 0] rfl)
theorem wo_X6_sum_5 {p : Program} {l : Launch} {e : Env} {s : State} {m : MethodId} {args : Array Value} {below : List Frame} {meth : Method} {c : Code} {r : GR} {A : Nat → Prop} {B S : Nat} {fr lo : Nat} {c_X6_product : Nat → Nat → GS → Nat → (GS → Option Nat → Prop) → Prop} {P : GS → Option Nat → Prop} (K : gC p s m args meth c cX6_sum 3 RX6 r A) (hr : meth.sig.returnType = (some (.object "PointsForAll$Node"))) (hB : 5 ≤ fr ∧ 112 ≤ lo) {f_X6_product_ l_X6_product_ : Nat} (H_X6_product : ∀ (bc bs : Nat) (σ : GS) (x0 : Nat) (P : GS → Option Nat → Prop), c_X6_product bc bs σ x0 P → gMet dX l yX6_product cX6_product 3 (some (.object "PointsForAll$Node")) f_X6_product_ l_X6_product_ bc bs r A σ [.ref x0] (zQ P)) (hR_X6_product : f_X6_product_ + 1 ≤ fr ∧ 8 + (3 + 11) + l_X6_product_ ≤ lo) : ∀ (n : Nat) (bc bs cells slots : Nat) (σ : GS) (x0 : Nat) (x1 : Option Nat), cells + bc ≤ B ∧ slots + bs ≤ S → o_X6_sum_5 r c_X6_product P n bc bs σ x0 x1 → gW dX p l e (gRm fr lo B S) s m args below meth c r A (zQ P) B S 3 5 [(0, .ref x0), (1, va_rf x1)] [] cells slots σ := by
  obtain ⟨hx, hb, hml, hown, hts, hlk, hKK, hA⟩ := id K
  intro n
  induction n with
  | zero =>
    intro bc bs cells slots σ x0 x1 hc hf
    exact absurd hf (fun h => h)
  | succ n ih =>
    intro bc bs cells slots σ x0 x1 hc hf H locs ls hM hl
    rw [o_X6_sum_5] at hf
    refine lv_aload_n hx hb dX6_sum_5 rfl (lv_at hl 0 rfl) ?_
    obtain ⟨v2, h1, hf⟩ := hf
    refine p_get K kY6 hM 1 rfl q540 rfl dX6_sum_6 h1 ?_
    refine lv_if_ge (tgt := 50) hx hb dX6_sum_9 (by decide) (fun b3 => ?_) (fun b3 => ?_)
    · replace hf := hf.1 b3
      refine g_aload_nq hx hb dX6_sum_50 rfl (lv_at hl 1 rfl) ?_
      exact g_retq (v := x1) K hr (Or.inl ⟨_, rfl⟩) hM ⟨bud_ret hc.1, bud_ret hc.2⟩ hf dX6_sum_51
    · replace hf := hf.2 b3
      refine lv_aload_n hx hb dX6_sum_12 rfl (lv_at hl 0 rfl) ?_
      refine va_ldcS hx hb hown hA.2.2.2.2.1 dX6_sum_13 ?_
      obtain ⟨f6, h7, hf⟩ := hf
      refine g_runi (rP [.ref (r.2.2.1 (100 + 1))] [] K kY6 hM hl h7 (c_X6_isOne_s1 l r A _ _ _ hf) q609 q611 qs15 q96 q612 hdX6_isOne ⟨Nat.le_trans (Nat.le_of_ble_eq_true rfl) hB.1, Nat.le_trans (Nat.le_of_ble_eq_true rfl) hB.2⟩ ⟨bud_ret hc.1, bud_ret hc.2⟩ rfl (Nat.le_of_ble_eq_true rfl) dX6_sum_15) hM (fun σ4 v5 H locs hf hM => ?_)
      refine lv_if_eq (tgt := 50) hx hb dX6_sum_18 (by decide) (fun b8 => ?_) (fun b8 => ?_)
      · replace hf := hf.1 b8
        refine g_aload_nq hx hb dX6_sum_50 rfl (lv_at hl 1 rfl) ?_
        exact g_retq (v := x1) K hr (Or.inl ⟨_, rfl⟩) hM ⟨bud_ret hc.1, bud_ret hc.2⟩ hf dX6_sum_51
      · replace hf := hf.2 b8
        refine lv_aload_n hx hb dX6_sum_21 rfl (lv_at hl 0 rfl) ?_
        obtain ⟨f11, h12, hf⟩ := hf
        refine g_runi (rP [] [] K kY6 hM hl h12 (c_X6_here l r A _ _ _ hf) q604 q606 qs14 q96 q607 hdX6_here ⟨Nat.le_trans (Nat.le_of_ble_eq_true rfl) hB.1, Nat.le_trans (Nat.le_of_ble_eq_true rfl) hB.2⟩ ⟨bud_ret hc.1, bud_ret hc.2⟩ rfl (Nat.le_of_ble_eq_true rfl) dX6_sum_22) hM (fun σ9 v10 H locs hf hM => ?_)
        refine lv_istore_n (lv' := [(2, .int v10), (0, .ref x0), (1, va_rf x1)]) hx hb dX6_sum_25 rfl hl (by decide) (by cases x1 <;> rfl) (fun ls hl => ?_)
        refine lv_aload_n hx hb dX6_sum_26 rfl (lv_at hl 1 rfl) ?_
        refine lv_dup hx hb dX6_sum_27 rfl ?_
        obtain ⟨v14, h13, hf⟩ := hf
        refine p_get K kY6 hM 0 rfl q539 rfl dX6_sum_28 h13 ?_
        refine lv_iconst (v := 1) hx hb dX6_sum_31 rfl ?_
        refine lv_iadd hx hb dX6_sum_32 ?_
        refine p_put K kY6 nmX6 hM 0 rfl q539 rfl dX6_sum_33 rfl rfl rfl hf (fun H locs σ15 hf hM => ?_)
        refine lv_aload_n hx hb dX6_sum_36 rfl (lv_at hl 1 rfl) ?_
        refine lv_iload_n hx hb dX6_sum_37 rfl (lv_at hl 0 rfl) ?_
        refine g_aload_nq hx hb dX6_sum_38 rfl (lv_at hl 2 rfl) ?_
        refine lv_aload_n hx hb dX6_sum_39 rfl (lv_at hl 1 rfl) ?_
        obtain ⟨c18, s19, hf⟩ := hf
        obtain ⟨b20, s21, g22, g23, hf⟩ := hf
        obtain ⟨f24, h25, hf⟩ := hf
        refine g_runq (rP [] [va_rf x1, .int v10, .ref x0] K kY6 hM hl h25 (H_X6_product _ _ _ _ _ hf) q596 q598 qs12 q96 q599 hdX6_product hR_X6_product ⟨bud_le hc.1 g22, bud_le hc.2 g23⟩ rfl (by cases x1 <;> exact Nat.le_of_ble_eq_true rfl) dX6_sum_40) hM (fun σ16 v17 H locs hf hM => ?_)
        replace hc := And.intro (bud hc.1 g22) (bud hc.2 g23)
        obtain ⟨c28, s29, hf⟩ := hf
        obtain ⟨b30, s31, g32, g33, hf⟩ := hf
        obtain ⟨f34, h35, hf⟩ := hf
        refine g_runq (rP [.int v10, va_rf x1, va_rf v17] [] K kY6 hM hl h35 (c_X6_joined l r A _ _ _ _ _ _ _ _ hf) q752 q754 qs18 q96 q755 hdX6_joined ⟨Nat.le_trans (Nat.le_of_ble_eq_true rfl) hB.1, Nat.le_trans (Nat.le_of_ble_eq_true rfl) hB.2⟩ ⟨bud_le hc.1 g32, bud_le hc.2 g33⟩ rfl (Nat.le_of_ble_eq_true rfl) dX6_sum_43) hM (fun σ26 v27 H locs hf hM => ?_)
        replace hc := And.intro (bud hc.1 g32) (bud hc.2 g33)
        refine g_astore_nq (lv' := [(1, va_rf v27), (2, .int v10), (0, .ref x0)]) hx hb dX6_sum_46 rfl hl (by decide) rfl (fun ls hl => ?_)
        refine lv_goto (tgt := 5) hx hb dX6_sum_47 (by decide) ?_
        exact ih _ _ _ _ _ _ _ hc hf _ _ _ hM (lv_sub hl [2, 0] rfl)
theorem co_X6_sum (l : Launch) (r : GR) (A : Nat → Prop) {fr lo : Nat} {c_X6_product : Nat → Nat → GS → Nat → (GS → Option Nat → Prop) → Prop} (hB : 5 ≤ fr ∧ 112 ≤ lo) {f_X6_product_ l_X6_product_ : Nat} (H_X6_product : ∀ (bc bs : Nat) (σ : GS) (x0 : Nat) (P : GS → Option Nat → Prop), c_X6_product bc bs σ x0 P → gMet dX l yX6_product cX6_product 3 (some (.object "PointsForAll$Node")) f_X6_product_ l_X6_product_ bc bs r A σ [.ref x0] (zQ P)) (hR_X6_product : f_X6_product_ + 1 ≤ fr ∧ 8 + (3 + 11) + l_X6_product_ ≤ lo) (bc bs : Nat) (σ : GS) (x0 : Nat) (P : GS → Option Nat → Prop) (hf : o_X6_sum r c_X6_product bc bs σ x0 P) : gMet dX l yX6_sum cX6_sum 3 (some (.object "PointsForAll$Node")) fr lo bc bs r A σ [.ref x0] (zQ P) := by
  refine g_enter (lv := [(0, .ref x0)]) (by decide) (Nat.le_of_ble_eq_true rfl) rfl ?_
  intro p e s m below meth c ls K hr hM hl hi
  obtain ⟨hx, hb, hml, hown, hts, hlk, hKK, hA⟩ := id K
  unfold o_X6_sum at hf
  generalize hB_ : bc = B
  generalize hS_ : bs = S
  have hc : 0 + bc ≤ B ∧ 0 + bs ≤ S := ⟨bud_0 hB_, bud_0 hS_⟩
  refine lv_aload_n hx hb dX6_sum_0 rfl (lv_at hl 0 rfl) ?_
  obtain ⟨c3, s4, hf⟩ := hf
  obtain ⟨b5, s6, g7, g8, hf⟩ := hf
  obtain ⟨f9, h10, hf⟩ := hf
  refine g_runq (rP [] [] K kY6 hM hl h10 (H_X6_product _ _ _ _ _ hf) q596 q598 qs12 q96 q599 hdX6_product hR_X6_product ⟨bud_le hc.1 g7, bud_le hc.2 g8⟩ rfl (Nat.le_of_ble_eq_true rfl) dX6_sum_1) hM (fun σ1 v2 H locs hf hM => ?_)
  replace hc := And.intro (bud hc.1 g7) (bud hc.2 g8)
  refine g_astore_nq (lv' := [(1, va_rf v2), (0, .ref x0)]) hx hb dX6_sum_4 rfl hl (by decide) rfl (fun ls hl => ?_)
  obtain ⟨n_, hf⟩ := hf
  exact wo_X6_sum_5 K hr hB H_X6_product hR_X6_product n_ _ _ _ _ _ _ _ hc hf _ _ _ hM (lv_sub hl [1, 0] rfl)
theorem co_X6_compared (l : Launch) (r : GR) (A : Nat → Prop) {fr lo : Nat} {c_X6_sum : Nat → Nat → GS → Nat → (GS → Option Nat → Prop) → Prop} (hB : 5 ≤ fr ∧ 112 ≤ lo) {f_X6_sum_ l_X6_sum_ : Nat} (H_X6_sum : ∀ (bc bs : Nat) (σ : GS) (x0 : Nat) (P : GS → Option Nat → Prop), c_X6_sum bc bs σ x0 P → gMet dX l yX6_sum cX6_sum 3 (some (.object "PointsForAll$Node")) f_X6_sum_ l_X6_sum_ bc bs r A σ [.ref x0] (zQ P)) (hR_X6_sum : f_X6_sum_ + 1 ≤ fr ∧ 8 + (3 + 11) + l_X6_sum_ ≤ lo) (bc bs : Nat) (σ : GS) (x0 : Nat) (P : GS → Option Nat → Prop) (hf : o_X6_compared r c_X6_sum bc bs σ x0 P) : gMet dX l yX6_compared cX6_compared 3 (some (.object "PointsForAll$Node")) fr lo bc bs r A σ [.ref x0] (zQ P) := by
  refine g_enter (lv := [(0, .ref x0)]) (by decide) (Nat.le_of_ble_eq_true rfl) rfl ?_
  intro p e s m below meth c ls K hr hM hl hi
  obtain ⟨hx, hb, hml, hown, hts, hlk, hKK, hA⟩ := id K
  unfold o_X6_compared at hf
  generalize hB_ : bc = B
  generalize hS_ : bs = S
  have hc : 0 + bc ≤ B ∧ 0 + bs ≤ S := ⟨bud_0 hB_, bud_0 hS_⟩
  refine lv_aload_n hx hb dX6_compared_0 rfl (lv_at hl 0 rfl) ?_
  obtain ⟨c3, s4, hf⟩ := hf
  obtain ⟨b5, s6, g7, g8, hf⟩ := hf
  obtain ⟨f9, h10, hf⟩ := hf
  refine g_runq (rP [] [] K kY6 hM hl h10 (H_X6_sum _ _ _ _ _ hf) q592 q594 qs11 q96 q595 hdX6_sum hR_X6_sum ⟨bud_le hc.1 g7, bud_le hc.2 g8⟩ rfl (Nat.le_of_ble_eq_true rfl) dX6_compared_1) hM (fun σ1 v2 H locs hf hM => ?_)
  replace hc := And.intro (bud hc.1 g7) (bud hc.2 g8)
  refine g_astore_nq (lv' := [(1, va_rf v2), (0, .ref x0)]) hx hb dX6_compared_4 rfl hl (by decide) rfl (fun ls hl => ?_)
  refine lv_aload_n hx hb dX6_compared_5 rfl (lv_at hl 1 rfl) ?_
  obtain ⟨v12, h11, hf⟩ := hf
  refine p_get K kY6 hM 1 rfl q540 rfl dX6_compared_6 h11 ?_
  refine lv_if_ge (tgt := 21) hx hb dX6_compared_9 (by decide) (fun b13 => ?_) (fun b13 => ?_)
  · replace hf := hf.1 b13
    refine g_aload_nq hx hb dX6_compared_21 rfl (lv_at hl 0 rfl) ?_
    exact g_retq (v := v2) K hr (Or.inl ⟨_, rfl⟩) hM ⟨bud_ret hc.1, bud_ret hc.2⟩ hf dX6_compared_22
  · replace hf := hf.2 b13
    refine lv_aload_n hx hb dX6_compared_12 rfl (lv_at hl 1 rfl) ?_
    refine va_ldcS hx hb hown hA.2.2.2.1 dX6_compared_13 ?_
    obtain ⟨f16, h17, hf⟩ := hf
    refine g_runi (rP [.ref (r.2.2.1 (100 + 0))] [] K kY6 hM hl h17 (c_X6_isOne_s0 l r A _ _ _ hf) q609 q611 qs15 q96 q612 hdX6_isOne ⟨Nat.le_trans (Nat.le_of_ble_eq_true rfl) hB.1, Nat.le_trans (Nat.le_of_ble_eq_true rfl) hB.2⟩ ⟨bud_ret hc.1, bud_ret hc.2⟩ rfl (Nat.le_of_ble_eq_true rfl) dX6_compared_15) hM (fun σ14 v15 H locs hf hM => ?_)
    refine lv_if_ne (tgt := 23) hx hb dX6_compared_18 (by decide) (fun b18 => ?_) (fun b18 => ?_)
    · replace hf := hf.2 b18
      refine lv_aload_n hx hb dX6_compared_23 rfl (lv_at hl 1 rfl) ?_
      obtain ⟨f21, h22, hf⟩ := hf
      refine g_runi (rP [] [] K kY6 hM hl h22 (c_X6_here l r A _ _ _ hf) q604 q606 qs14 q96 q607 hdX6_here ⟨Nat.le_trans (Nat.le_of_ble_eq_true rfl) hB.1, Nat.le_trans (Nat.le_of_ble_eq_true rfl) hB.2⟩ ⟨bud_ret hc.1, bud_ret hc.2⟩ rfl (Nat.le_of_ble_eq_true rfl) dX6_compared_24) hM (fun σ19 v20 H locs hf hM => ?_)
      refine lv_istore_n (lv' := [(2, .int v20), (1, va_rf v2), (0, .ref x0)]) hx hb dX6_compared_27 rfl hl (by decide) (by cases v2 <;> rfl) (fun ls hl => ?_)
      refine lv_aload_n hx hb dX6_compared_28 rfl (lv_at hl 2 rfl) ?_
      refine lv_dup hx hb dX6_compared_29 rfl ?_
      obtain ⟨v24, h23, hf⟩ := hf
      refine p_get K kY6 hM 0 rfl q539 rfl dX6_compared_30 h23 ?_
      refine lv_iconst (v := 1) hx hb dX6_compared_33 rfl ?_
      refine lv_iadd hx hb dX6_compared_34 ?_
      refine p_put K kY6 nmX6 hM 0 rfl q539 rfl dX6_compared_35 rfl rfl rfl hf (fun H locs σ25 hf hM => ?_)
      refine lv_aload_n hx hb dX6_compared_38 rfl (lv_at hl 2 rfl) ?_
      refine lv_iload_n hx hb dX6_compared_39 rfl (lv_at hl 0 rfl) ?_
      refine g_aload_nq hx hb dX6_compared_40 rfl (lv_at hl 1 rfl) ?_
      refine lv_aload_n hx hb dX6_compared_41 rfl (lv_at hl 2 rfl) ?_
      obtain ⟨c28, s29, hf⟩ := hf
      obtain ⟨b30, s31, g32, g33, hf⟩ := hf
      obtain ⟨f34, h35, hf⟩ := hf
      refine g_runq (rP [] [va_rf v2, .int v20, .ref x0] K kY6 hM hl h35 (H_X6_sum _ _ _ _ _ hf) q592 q594 qs11 q96 q595 hdX6_sum hR_X6_sum ⟨bud_le hc.1 g32, bud_le hc.2 g33⟩ rfl (by cases v2 <;> exact Nat.le_of_ble_eq_true rfl) dX6_compared_42) hM (fun σ26 v27 H locs hf hM => ?_)
      replace hc := And.intro (bud hc.1 g32) (bud hc.2 g33)
      obtain ⟨c38, s39, hf⟩ := hf
      obtain ⟨b40, s41, g42, g43, hf⟩ := hf
      obtain ⟨f44, h45, hf⟩ := hf
      refine g_runq (rP [.int v20, va_rf v2, va_rf v27] [] K kY6 hM hl h45 (c_X6_joined l r A _ _ _ _ _ _ _ _ hf) q752 q754 qs18 q96 q755 hdX6_joined ⟨Nat.le_trans (Nat.le_of_ble_eq_true rfl) hB.1, Nat.le_trans (Nat.le_of_ble_eq_true rfl) hB.2⟩ ⟨bud_le hc.1 g42, bud_le hc.2 g43⟩ rfl (Nat.le_of_ble_eq_true rfl) dX6_compared_45) hM (fun σ36 v37 H locs hf hM => ?_)
      replace hc := And.intro (bud hc.1 g42) (bud hc.2 g43)
      exact g_retq (v := v37) K hr (Or.inl ⟨_, rfl⟩) hM ⟨bud_ret hc.1, bud_ret hc.2⟩ hf dX6_compared_48
    · replace hf := hf.1 b18
      refine g_aload_nq hx hb dX6_compared_21 rfl (lv_at hl 0 rfl) ?_
      exact g_retq (v := v2) K hr (Or.inl ⟨_, rfl⟩) hM ⟨bud_ret hc.1, bud_ret hc.2⟩ hf dX6_compared_22
theorem wo_X6_all_5 {p : Program} {l : Launch} {e : Env} {s : State} {m : MethodId} {args : Array Value} {below : List Frame} {meth : Method} {c : Code} {r : GR} {A : Nat → Prop} {B S : Nat} {fr lo : Nat} {c_X6_compared : Nat → Nat → GS → Nat → (GS → Option Nat → Prop) → Prop} {P : GS → Option Nat → Prop} (K : gC p s m args meth c cX6_all 2 RX6 r A) (hr : meth.sig.returnType = (some (.object "PointsForAll$Node"))) (hB : 4 ≤ fr ∧ 90 ≤ lo) {f_X6_compared_ l_X6_compared_ : Nat} (H_X6_compared : ∀ (bc bs : Nat) (σ : GS) (x0 : Nat) (P : GS → Option Nat → Prop), c_X6_compared bc bs σ x0 P → gMet dX l yX6_compared cX6_compared 3 (some (.object "PointsForAll$Node")) f_X6_compared_ l_X6_compared_ bc bs r A σ [.ref x0] (zQ P)) (hR_X6_compared : f_X6_compared_ + 1 ≤ fr ∧ 8 + (3 + 11) + l_X6_compared_ ≤ lo) : ∀ (n : Nat) (bc bs cells slots : Nat) (σ : GS) (x0 : Nat) (x1 : Option Nat), cells + bc ≤ B ∧ slots + bs ≤ S → o_X6_all_5 r c_X6_compared P n bc bs σ x0 x1 → gW dX p l e (gRm fr lo B S) s m args below meth c r A (zQ P) B S 2 5 [(0, .ref x0), (1, va_rf x1)] [] cells slots σ := by
  obtain ⟨hx, hb, hml, hown, hts, hlk, hKK, hA⟩ := id K
  intro n
  induction n with
  | zero =>
    intro bc bs cells slots σ x0 x1 hc hf
    exact absurd hf (fun h => h)
  | succ n ih =>
    intro bc bs cells slots σ x0 x1 hc hf H locs ls hM hl
    rw [o_X6_all_5] at hf
    refine lv_aload_n hx hb dX6_all_5 rfl (lv_at hl 0 rfl) ?_
    obtain ⟨v2, h1, hf⟩ := hf
    refine p_get K kY6 hM 1 rfl q540 rfl dX6_all_6 h1 ?_
    refine lv_if_ge (tgt := 46) hx hb dX6_all_9 (by decide) (fun b3 => ?_) (fun b3 => ?_)
    · replace hf := hf.1 b3
      refine g_aload_nq hx hb dX6_all_46 rfl (lv_at hl 1 rfl) ?_
      exact g_retq (v := x1) K hr (Or.inl ⟨_, rfl⟩) hM ⟨bud_ret hc.1, bud_ret hc.2⟩ hf dX6_all_47
    · replace hf := hf.2 b3
      refine lv_aload_n hx hb dX6_all_12 rfl (lv_at hl 0 rfl) ?_
      obtain ⟨f6, h7, hf⟩ := hf
      refine g_runi (rP [] [] K kY6 hM hl h7 (c_X6_here l r A _ _ _ hf) q604 q606 qs14 q96 q607 hdX6_here ⟨Nat.le_trans (Nat.le_of_ble_eq_true rfl) hB.1, Nat.le_trans (Nat.le_of_ble_eq_true rfl) hB.2⟩ ⟨bud_ret hc.1, bud_ret hc.2⟩ rfl (Nat.le_of_ble_eq_true rfl) dX6_all_13) hM (fun σ4 v5 H locs hf hM => ?_)
      refine lv_bipush (v := 38) hx hb dX6_all_16 rfl ?_
      refine lv_icmp_ne (tgt := 46) hx hb dX6_all_18 (by decide) (fun b8 => ?_) (fun b8 => ?_)
      · replace hf := hf.2 b8
        refine g_aload_nq hx hb dX6_all_46 rfl (lv_at hl 1 rfl) ?_
        exact g_retq (v := x1) K hr (Or.inl ⟨_, rfl⟩) hM ⟨bud_ret hc.1, bud_ret hc.2⟩ hf dX6_all_47
      · replace hf := hf.1 b8
        refine lv_aload_n hx hb dX6_all_21 rfl (lv_at hl 0 rfl) ?_
        refine lv_dup hx hb dX6_all_22 rfl ?_
        obtain ⟨v10, h9, hf⟩ := hf
        refine p_get K kY6 hM 0 rfl q539 rfl dX6_all_23 h9 ?_
        refine lv_iconst (v := 1) hx hb dX6_all_26 rfl ?_
        refine lv_iadd hx hb dX6_all_27 ?_
        refine p_put K kY6 nmX6 hM 0 rfl q539 rfl dX6_all_28 rfl rfl rfl hf (fun H locs σ11 hf hM => ?_)
        refine lv_aload_n hx hb dX6_all_31 rfl (lv_at hl 0 rfl) ?_
        refine lv_bipush (v := 38) hx hb dX6_all_32 rfl ?_
        refine g_aload_nq hx hb dX6_all_34 rfl (lv_at hl 1 rfl) ?_
        refine lv_aload_n hx hb dX6_all_35 rfl (lv_at hl 0 rfl) ?_
        obtain ⟨c14, s15, hf⟩ := hf
        obtain ⟨b16, s17, g18, g19, hf⟩ := hf
        obtain ⟨f20, h21, hf⟩ := hf
        refine g_runq (rP [] [va_rf x1, .int (38 : Int32), .ref x0] K kY6 hM hl h21 (H_X6_compared _ _ _ _ _ hf) q588 q590 qs10 q96 q591 hdX6_compared hR_X6_compared ⟨bud_le hc.1 g18, bud_le hc.2 g19⟩ rfl (by cases x1 <;> exact Nat.le_of_ble_eq_true rfl) dX6_all_36) hM (fun σ12 v13 H locs hf hM => ?_)
        replace hc := And.intro (bud hc.1 g18) (bud hc.2 g19)
        obtain ⟨c24, s25, hf⟩ := hf
        obtain ⟨b26, s27, g28, g29, hf⟩ := hf
        obtain ⟨f30, h31, hf⟩ := hf
        refine g_runq (rP [.int (38 : Int32), va_rf x1, va_rf v13] [] K kY6 hM hl h31 (c_X6_joined l r A _ _ _ _ _ _ _ _ hf) q752 q754 qs18 q96 q755 hdX6_joined ⟨Nat.le_trans (Nat.le_of_ble_eq_true rfl) hB.1, Nat.le_trans (Nat.le_of_ble_eq_true rfl) hB.2⟩ ⟨bud_le hc.1 g28, bud_le hc.2 g29⟩ rfl (Nat.le_of_ble_eq_true rfl) dX6_all_39) hM (fun σ22 v23 H locs hf hM => ?_)
        replace hc := And.intro (bud hc.1 g28) (bud hc.2 g29)
        refine g_astore_nq (lv' := [(1, va_rf v23), (0, .ref x0)]) hx hb dX6_all_42 rfl hl (by decide) rfl (fun ls hl => ?_)
        refine lv_goto (tgt := 5) hx hb dX6_all_43 (by decide) ?_
        exact ih _ _ _ _ _ _ _ hc hf _ _ _ hM (lv_sub hl [1, 0] rfl)
theorem co_X6_all (l : Launch) (r : GR) (A : Nat → Prop) {fr lo : Nat} {c_X6_compared : Nat → Nat → GS → Nat → (GS → Option Nat → Prop) → Prop} (hB : 4 ≤ fr ∧ 90 ≤ lo) {f_X6_compared_ l_X6_compared_ : Nat} (H_X6_compared : ∀ (bc bs : Nat) (σ : GS) (x0 : Nat) (P : GS → Option Nat → Prop), c_X6_compared bc bs σ x0 P → gMet dX l yX6_compared cX6_compared 3 (some (.object "PointsForAll$Node")) f_X6_compared_ l_X6_compared_ bc bs r A σ [.ref x0] (zQ P)) (hR_X6_compared : f_X6_compared_ + 1 ≤ fr ∧ 8 + (3 + 11) + l_X6_compared_ ≤ lo) (bc bs : Nat) (σ : GS) (x0 : Nat) (P : GS → Option Nat → Prop) (hf : o_X6_all r c_X6_compared bc bs σ x0 P) : gMet dX l yX6_all cX6_all 2 (some (.object "PointsForAll$Node")) fr lo bc bs r A σ [.ref x0] (zQ P) := by
  refine g_enter (lv := [(0, .ref x0)]) (by decide) (Nat.le_of_ble_eq_true rfl) rfl ?_
  intro p e s m below meth c ls K hr hM hl hi
  obtain ⟨hx, hb, hml, hown, hts, hlk, hKK, hA⟩ := id K
  unfold o_X6_all at hf
  generalize hB_ : bc = B
  generalize hS_ : bs = S
  have hc : 0 + bc ≤ B ∧ 0 + bs ≤ S := ⟨bud_0 hB_, bud_0 hS_⟩
  refine lv_aload_n hx hb dX6_all_0 rfl (lv_at hl 0 rfl) ?_
  obtain ⟨c3, s4, hf⟩ := hf
  obtain ⟨b5, s6, g7, g8, hf⟩ := hf
  obtain ⟨f9, h10, hf⟩ := hf
  refine g_runq (rP [] [] K kY6 hM hl h10 (H_X6_compared _ _ _ _ _ hf) q588 q590 qs10 q96 q591 hdX6_compared hR_X6_compared ⟨bud_le hc.1 g7, bud_le hc.2 g8⟩ rfl (Nat.le_of_ble_eq_true rfl) dX6_all_1) hM (fun σ1 v2 H locs hf hM => ?_)
  replace hc := And.intro (bud hc.1 g7) (bud hc.2 g8)
  refine g_astore_nq (lv' := [(1, va_rf v2), (0, .ref x0)]) hx hb dX6_all_4 rfl hl (by decide) rfl (fun ls hl => ?_)
  obtain ⟨n_, hf⟩ := hf
  exact wo_X6_all_5 K hr hB H_X6_compared hR_X6_compared n_ _ _ _ _ _ _ _ hc hf _ _ _ hM (lv_sub hl [1, 0] rfl)
theorem wo_X6_either_5 {p : Program} {l : Launch} {e : Env} {s : State} {m : MethodId} {args : Array Value} {below : List Frame} {meth : Method} {c : Code} {r : GR} {A : Nat → Prop} {B S : Nat} {fr lo : Nat} {c_X6_all : Nat → Nat → GS → Nat → (GS → Option Nat → Prop) → Prop} {P : GS → Option Nat → Prop} (K : gC p s m args meth c cX6_either 2 RX6 r A) (hr : meth.sig.returnType = (some (.object "PointsForAll$Node"))) (hB : 4 ≤ fr ∧ 90 ≤ lo) {f_X6_all_ l_X6_all_ : Nat} (H_X6_all : ∀ (bc bs : Nat) (σ : GS) (x0 : Nat) (P : GS → Option Nat → Prop), c_X6_all bc bs σ x0 P → gMet dX l yX6_all cX6_all 2 (some (.object "PointsForAll$Node")) f_X6_all_ l_X6_all_ bc bs r A σ [.ref x0] (zQ P)) (hR_X6_all : f_X6_all_ + 1 ≤ fr ∧ 8 + (2 + 11) + l_X6_all_ ≤ lo) : ∀ (n : Nat) (bc bs cells slots : Nat) (σ : GS) (x0 : Nat) (x1 : Option Nat), cells + bc ≤ B ∧ slots + bs ≤ S → o_X6_either_5 r c_X6_all P n bc bs σ x0 x1 → gW dX p l e (gRm fr lo B S) s m args below meth c r A (zQ P) B S 2 5 [(0, .ref x0), (1, va_rf x1)] [] cells slots σ := by
  obtain ⟨hx, hb, hml, hown, hts, hlk, hKK, hA⟩ := id K
  intro n
  induction n with
  | zero =>
    intro bc bs cells slots σ x0 x1 hc hf
    exact absurd hf (fun h => h)
  | succ n ih =>
    intro bc bs cells slots σ x0 x1 hc hf H locs ls hM hl
    rw [o_X6_either_5] at hf
    refine lv_aload_n hx hb dX6_either_5 rfl (lv_at hl 0 rfl) ?_
    obtain ⟨v2, h1, hf⟩ := hf
    refine p_get K kY6 hM 1 rfl q540 rfl dX6_either_6 h1 ?_
    refine lv_if_ge (tgt := 46) hx hb dX6_either_9 (by decide) (fun b3 => ?_) (fun b3 => ?_)
    · replace hf := hf.1 b3
      refine g_aload_nq hx hb dX6_either_46 rfl (lv_at hl 1 rfl) ?_
      exact g_retq (v := x1) K hr (Or.inl ⟨_, rfl⟩) hM ⟨bud_ret hc.1, bud_ret hc.2⟩ hf dX6_either_47
    · replace hf := hf.2 b3
      refine lv_aload_n hx hb dX6_either_12 rfl (lv_at hl 0 rfl) ?_
      obtain ⟨f6, h7, hf⟩ := hf
      refine g_runi (rP [] [] K kY6 hM hl h7 (c_X6_here l r A _ _ _ hf) q604 q606 qs14 q96 q607 hdX6_here ⟨Nat.le_trans (Nat.le_of_ble_eq_true rfl) hB.1, Nat.le_trans (Nat.le_of_ble_eq_true rfl) hB.2⟩ ⟨bud_ret hc.1, bud_ret hc.2⟩ rfl (Nat.le_of_ble_eq_true rfl) dX6_either_13) hM (fun σ4 v5 H locs hf hM => ?_)
      refine lv_bipush (v := 124) hx hb dX6_either_16 rfl ?_
      refine lv_icmp_ne (tgt := 46) hx hb dX6_either_18 (by decide) (fun b8 => ?_) (fun b8 => ?_)
      · replace hf := hf.2 b8
        refine g_aload_nq hx hb dX6_either_46 rfl (lv_at hl 1 rfl) ?_
        exact g_retq (v := x1) K hr (Or.inl ⟨_, rfl⟩) hM ⟨bud_ret hc.1, bud_ret hc.2⟩ hf dX6_either_47
      · replace hf := hf.1 b8
        refine lv_aload_n hx hb dX6_either_21 rfl (lv_at hl 0 rfl) ?_
        refine lv_dup hx hb dX6_either_22 rfl ?_
        obtain ⟨v10, h9, hf⟩ := hf
        refine p_get K kY6 hM 0 rfl q539 rfl dX6_either_23 h9 ?_
        refine lv_iconst (v := 1) hx hb dX6_either_26 rfl ?_
        refine lv_iadd hx hb dX6_either_27 ?_
        refine p_put K kY6 nmX6 hM 0 rfl q539 rfl dX6_either_28 rfl rfl rfl hf (fun H locs σ11 hf hM => ?_)
        refine lv_aload_n hx hb dX6_either_31 rfl (lv_at hl 0 rfl) ?_
        refine lv_bipush (v := 124) hx hb dX6_either_32 rfl ?_
        refine g_aload_nq hx hb dX6_either_34 rfl (lv_at hl 1 rfl) ?_
        refine lv_aload_n hx hb dX6_either_35 rfl (lv_at hl 0 rfl) ?_
        obtain ⟨c14, s15, hf⟩ := hf
        obtain ⟨b16, s17, g18, g19, hf⟩ := hf
        obtain ⟨f20, h21, hf⟩ := hf
        refine g_runq (rP [] [va_rf x1, .int (124 : Int32), .ref x0] K kY6 hM hl h21 (H_X6_all _ _ _ _ _ hf) q584 q586 qs9 q96 q587 hdX6_all hR_X6_all ⟨bud_le hc.1 g18, bud_le hc.2 g19⟩ rfl (by cases x1 <;> exact Nat.le_of_ble_eq_true rfl) dX6_either_36) hM (fun σ12 v13 H locs hf hM => ?_)
        replace hc := And.intro (bud hc.1 g18) (bud hc.2 g19)
        obtain ⟨c24, s25, hf⟩ := hf
        obtain ⟨b26, s27, g28, g29, hf⟩ := hf
        obtain ⟨f30, h31, hf⟩ := hf
        refine g_runq (rP [.int (124 : Int32), va_rf x1, va_rf v13] [] K kY6 hM hl h31 (c_X6_joined l r A _ _ _ _ _ _ _ _ hf) q752 q754 qs18 q96 q755 hdX6_joined ⟨Nat.le_trans (Nat.le_of_ble_eq_true rfl) hB.1, Nat.le_trans (Nat.le_of_ble_eq_true rfl) hB.2⟩ ⟨bud_le hc.1 g28, bud_le hc.2 g29⟩ rfl (Nat.le_of_ble_eq_true rfl) dX6_either_39) hM (fun σ22 v23 H locs hf hM => ?_)
        replace hc := And.intro (bud hc.1 g28) (bud hc.2 g29)
        refine g_astore_nq (lv' := [(1, va_rf v23), (0, .ref x0)]) hx hb dX6_either_42 rfl hl (by decide) rfl (fun ls hl => ?_)
        refine lv_goto (tgt := 5) hx hb dX6_either_43 (by decide) ?_
        exact ih _ _ _ _ _ _ _ hc hf _ _ _ hM (lv_sub hl [1, 0] rfl)
theorem co_X6_either (l : Launch) (r : GR) (A : Nat → Prop) {fr lo : Nat} {c_X6_all : Nat → Nat → GS → Nat → (GS → Option Nat → Prop) → Prop} (hB : 4 ≤ fr ∧ 90 ≤ lo) {f_X6_all_ l_X6_all_ : Nat} (H_X6_all : ∀ (bc bs : Nat) (σ : GS) (x0 : Nat) (P : GS → Option Nat → Prop), c_X6_all bc bs σ x0 P → gMet dX l yX6_all cX6_all 2 (some (.object "PointsForAll$Node")) f_X6_all_ l_X6_all_ bc bs r A σ [.ref x0] (zQ P)) (hR_X6_all : f_X6_all_ + 1 ≤ fr ∧ 8 + (2 + 11) + l_X6_all_ ≤ lo) (bc bs : Nat) (σ : GS) (x0 : Nat) (P : GS → Option Nat → Prop) (hf : o_X6_either r c_X6_all bc bs σ x0 P) : gMet dX l yX6_either cX6_either 2 (some (.object "PointsForAll$Node")) fr lo bc bs r A σ [.ref x0] (zQ P) := by
  refine g_enter (lv := [(0, .ref x0)]) (by decide) (Nat.le_of_ble_eq_true rfl) rfl ?_
  intro p e s m below meth c ls K hr hM hl hi
  obtain ⟨hx, hb, hml, hown, hts, hlk, hKK, hA⟩ := id K
  unfold o_X6_either at hf
  generalize hB_ : bc = B
  generalize hS_ : bs = S
  have hc : 0 + bc ≤ B ∧ 0 + bs ≤ S := ⟨bud_0 hB_, bud_0 hS_⟩
  refine lv_aload_n hx hb dX6_either_0 rfl (lv_at hl 0 rfl) ?_
  obtain ⟨c3, s4, hf⟩ := hf
  obtain ⟨b5, s6, g7, g8, hf⟩ := hf
  obtain ⟨f9, h10, hf⟩ := hf
  refine g_runq (rP [] [] K kY6 hM hl h10 (H_X6_all _ _ _ _ _ hf) q584 q586 qs9 q96 q587 hdX6_all hR_X6_all ⟨bud_le hc.1 g7, bud_le hc.2 g8⟩ rfl (Nat.le_of_ble_eq_true rfl) dX6_either_1) hM (fun σ1 v2 H locs hf hM => ?_)
  replace hc := And.intro (bud hc.1 g7) (bud hc.2 g8)
  refine g_astore_nq (lv' := [(1, va_rf v2), (0, .ref x0)]) hx hb dX6_either_4 rfl hl (by decide) rfl (fun ls hl => ?_)
  obtain ⟨n_, hf⟩ := hf
  exact wo_X6_either_5 K hr hB H_X6_all hR_X6_all n_ _ _ _ _ _ _ _ hc hf _ _ _ hM (lv_sub hl [1, 0] rfl)
theorem ce_X6_product (l : Launch) (r : GR) (A : Nat → Prop) {c : Nat → Nat → GS → Nat → (GS → Option Nat → Prop) → Prop} {F L : Nat} (hF : 12 ≤ F ∧ 600 ≤ L) (H : ∀ (bc bs : Nat) (σ : GS) (x0 : Nat) (P : GS → Option Nat → Prop), c bc bs σ x0 P → gMet dX l yX6_operand cX6_operand 4 (some (.object "PointsForAll$Node")) F L bc bs r A σ [.ref x0] (zQ P)) : ∀ (bc bs : Nat) (σ : GS) (x0 : Nat) (P : GS → Option Nat → Prop), e_X6_product r c bc bs σ x0 P → gMet dX l yX6_product cX6_product 3 (some (.object "PointsForAll$Node")) (F + 1) (L + 40) bc bs r A σ [.ref x0] (zQ P) := by
  intro bc bs σ x0 P hf
  exact co_X6_product l r A ⟨by omega, by omega⟩ H ⟨by omega, by omega⟩ bc bs σ x0 P hf
theorem ce_X6_sum (l : Launch) (r : GR) (A : Nat → Prop) {c : Nat → Nat → GS → Nat → (GS → Option Nat → Prop) → Prop} {F L : Nat} (hF : 12 ≤ F ∧ 600 ≤ L) (H : ∀ (bc bs : Nat) (σ : GS) (x0 : Nat) (P : GS → Option Nat → Prop), c bc bs σ x0 P → gMet dX l yX6_operand cX6_operand 4 (some (.object "PointsForAll$Node")) F L bc bs r A σ [.ref x0] (zQ P)) : ∀ (bc bs : Nat) (σ : GS) (x0 : Nat) (P : GS → Option Nat → Prop), e_X6_sum r c bc bs σ x0 P → gMet dX l yX6_sum cX6_sum 3 (some (.object "PointsForAll$Node")) (F + 2) (L + 80) bc bs r A σ [.ref x0] (zQ P) := by
  intro bc bs σ x0 P hf
  exact co_X6_sum l r A ⟨by omega, by omega⟩ (ce_X6_product l r A hF H) ⟨by omega, by omega⟩ bc bs σ x0 P hf
theorem ce_X6_compared (l : Launch) (r : GR) (A : Nat → Prop) {c : Nat → Nat → GS → Nat → (GS → Option Nat → Prop) → Prop} {F L : Nat} (hF : 12 ≤ F ∧ 600 ≤ L) (H : ∀ (bc bs : Nat) (σ : GS) (x0 : Nat) (P : GS → Option Nat → Prop), c bc bs σ x0 P → gMet dX l yX6_operand cX6_operand 4 (some (.object "PointsForAll$Node")) F L bc bs r A σ [.ref x0] (zQ P)) : ∀ (bc bs : Nat) (σ : GS) (x0 : Nat) (P : GS → Option Nat → Prop), e_X6_compared r c bc bs σ x0 P → gMet dX l yX6_compared cX6_compared 3 (some (.object "PointsForAll$Node")) (F + 3) (L + 120) bc bs r A σ [.ref x0] (zQ P) := by
  intro bc bs σ x0 P hf
  exact co_X6_compared l r A ⟨by omega, by omega⟩ (ce_X6_sum l r A hF H) ⟨by omega, by omega⟩ bc bs σ x0 P hf
theorem ce_X6_all (l : Launch) (r : GR) (A : Nat → Prop) {c : Nat → Nat → GS → Nat → (GS → Option Nat → Prop) → Prop} {F L : Nat} (hF : 12 ≤ F ∧ 600 ≤ L) (H : ∀ (bc bs : Nat) (σ : GS) (x0 : Nat) (P : GS → Option Nat → Prop), c bc bs σ x0 P → gMet dX l yX6_operand cX6_operand 4 (some (.object "PointsForAll$Node")) F L bc bs r A σ [.ref x0] (zQ P)) : ∀ (bc bs : Nat) (σ : GS) (x0 : Nat) (P : GS → Option Nat → Prop), e_X6_all r c bc bs σ x0 P → gMet dX l yX6_all cX6_all 2 (some (.object "PointsForAll$Node")) (F + 4) (L + 160) bc bs r A σ [.ref x0] (zQ P) := by
  intro bc bs σ x0 P hf
  exact co_X6_all l r A ⟨by omega, by omega⟩ (ce_X6_compared l r A hF H) ⟨by omega, by omega⟩ bc bs σ x0 P hf
theorem ce_X6_either (l : Launch) (r : GR) (A : Nat → Prop) {c : Nat → Nat → GS → Nat → (GS → Option Nat → Prop) → Prop} {F L : Nat} (hF : 12 ≤ F ∧ 600 ≤ L) (H : ∀ (bc bs : Nat) (σ : GS) (x0 : Nat) (P : GS → Option Nat → Prop), c bc bs σ x0 P → gMet dX l yX6_operand cX6_operand 4 (some (.object "PointsForAll$Node")) F L bc bs r A σ [.ref x0] (zQ P)) : ∀ (bc bs : Nat) (σ : GS) (x0 : Nat) (P : GS → Option Nat → Prop), e_X6_either r c bc bs σ x0 P → gMet dX l yX6_either cX6_either 2 (some (.object "PointsForAll$Node")) (F + 5) (L + 200) bc bs r A σ [.ref x0] (zQ P) := by
  intro bc bs σ x0 P hf
  exact co_X6_either l r A ⟨by omega, by omega⟩ (ce_X6_all l r A hF H) ⟨by omega, by omega⟩ bc bs σ x0 P hf
theorem cd_X6_operand (l : Launch) (r : GR) (A : Nat → Prop) : ∀ (d : Nat) (bc bs : Nat) (σ : GS) (x0 : Nat) (P : GS → Option Nat → Prop), d_X6_operand r d bc bs σ x0 P → gMet dX l yX6_operand cX6_operand 4 (some (.object "PointsForAll$Node")) (12 + 6 * d) (600 + 240 * d) bc bs r A σ [.ref x0] (zQ P) := by
  intro d
  induction d with
  | zero =>
    intro bc bs σ x0 P hf
    exact absurd hf (fun h => h)
  | succ d ih =>
    intro bc bs σ x0 P hf
    rw [d_X6_operand] at hf
    exact co_X6_operand l r A ⟨by omega, by omega⟩ (ce_X6_either l r A ⟨by omega, by omega⟩ ih) ⟨by omega, by omega⟩ ih ⟨by omega, by omega⟩ bc bs σ x0 P hf
theorem c_X6_either (l : Launch) (r : GR) (A : Nat → Prop) (bc bs : Nat) (σ : GS) (x0 : Nat) (P : GS → Option Nat → Prop) (hf : f_X6_either r bc bs σ x0 P) : gMet dX l yX6_either cX6_either 2 (some (.object "PointsForAll$Node")) 65 2720 bc bs r A σ [.ref x0] (zQ P) := ce_X6_either l r A ⟨by omega, by omega⟩ (cd_X6_operand l r A 8) bc bs σ x0 P hf
theorem c_X7_init (l : Launch) (r : GR) (A : Nat → Prop) (σ : GS) (x0 : Nat) (P : GS → Prop) (hf : f_X7_init r σ x0 P) : gMet dX l yX7_init cX7_init 1 none 1 24 0 0 r A σ [.ref x0] (zV P) := by
  refine g_enter (lv := [(0, .ref x0)]) (by decide) (Nat.le_of_ble_eq_true rfl) rfl ?_
  intro p e s m below meth c ls K hr hM hl hi
  obtain ⟨hx, hb, hml, hown, hts, hlk, hKK, hA⟩ := id K
  unfold f_X7_init at hf
  refine lv_aload_n hx hb dX7_init_0 rfl (lv_at hl 0 rfl) ?_
  refine rO K hl q566 q133 q134 ⟨Nat.le_of_ble_eq_true rfl, Nat.le_of_ble_eq_true rfl⟩ dX7_init_1 ?_
  exact g_retv K hr hM ⟨Nat.le_refl _, Nat.le_refl _⟩ hf dX7_init_4
theorem c_X6_line (l : Launch) (r : GR) (A : Nat → Prop) (bc bs : Nat) (σ : GS) (x0 : Nat) (P : GS → Option Nat → Prop) (hf : f_X6_line r bc bs σ x0 P) : gMet dX l yX6_line cX6_line 2 (some (.object "PointsForAll$Line")) 66 2741 bc bs r A σ [.ref x0] (zQ P) := by
  refine g_enter (lv := [(0, .ref x0)]) (by decide) (Nat.le_of_ble_eq_true rfl) rfl ?_
  intro p e s m below meth c ls K hr hM hl hi
  obtain ⟨hx, hb, hml, hown, hts, hlk, hKK, hA⟩ := id K
  unfold f_X6_line at hf
  generalize hB_ : bc = B
  generalize hS_ : bs = S
  have hc : 0 + bc ≤ B ∧ 0 + bs ≤ S := ⟨bud_0 hB_, bud_0 hS_⟩
  obtain ⟨b3, s4, g5, g6, hf⟩ := hf
  refine p_new K kY7 hM q561 q562 q97 hf0X7 (bud_le hc.1 g5) (bud_le hc.2 g6) dX6_line_0 (fun H a1 σ2 ea1 hσ2 hM => ?_)
  have hf := hf a1 ea1 σ2 hσ2
  replace hc := And.intro (bud hc.1 g5) (bud hc.2 g6)
  refine lv_dup hx hb dX6_line_3 rfl ?_
  refine g_runv (rIN [] [.ref a1] K hM hl (c_X7_init l r A _ _ _ hf) q563 q564 q97 q565 hdX7_init ⟨Nat.le_of_ble_eq_true rfl, Nat.le_of_ble_eq_true rfl⟩ ⟨bud_ret hc.1, bud_ret hc.2⟩ rfl (Nat.le_of_ble_eq_true rfl) dX6_line_4) hM (fun σ7 H locs hf hM => ?_)
  refine lv_astore_n (lv' := [(1, .ref a1), (0, .ref x0)]) hx hb dX6_line_7 rfl hl (by decide) rfl (fun ls hl => ?_)
  refine lv_aload_n hx hb dX6_line_8 rfl (lv_at hl 0 rfl) ?_
  refine lv_aload_n hx hb dX6_line_9 rfl (lv_at hl 1 rfl) ?_
  obtain ⟨c11, s12, hf⟩ := hf
  obtain ⟨b13, s14, g15, g16, hf⟩ := hf
  obtain ⟨f17, h18, hf⟩ := hf
  refine g_runq (rP [] [.ref a1] K kY6 hM hl h18 (c_X6_either l r A _ _ _ _ _ hf) q580 q582 qs8 q96 q583 hdX6_either ⟨Nat.le_of_ble_eq_true rfl, Nat.le_of_ble_eq_true rfl⟩ ⟨bud_le hc.1 g15, bud_le hc.2 g16⟩ rfl (Nat.le_of_ble_eq_true rfl) dX6_line_10) hM (fun σ9 v10 H locs hf hM => ?_)
  replace hc := And.intro (bud hc.1 g15) (bud hc.2 g16)
  refine p_putN K kY7 nmX7 hM 1 rfl q569 rfl dX6_line_13 rfl (by cases v10 <;> rfl) (va_rf_fit _ _) hf (fun H locs σ19 hf hM => ?_)
  refine lv_aload_n hx hb dX6_line_16 rfl (lv_at hl 1 rfl) ?_
  obtain ⟨v21, h20, hf⟩ := hf
  refine p_get K kY6 hM 1 rfl q540 rfl dX6_line_17 h20 ?_
  refine lv_if_ge (tgt := 32) hx hb dX6_line_20 (by decide) (fun b22 => ?_) (fun b22 => ?_)
  · replace hf := hf.1 b22
    refine lv_aload_n hx hb dX6_line_32 rfl (lv_at hl 0 rfl) ?_
    exact g_retq (v := (some a1)) K hr (Or.inl ⟨_, rfl⟩) hM ⟨bud_ret hc.1, bud_ret hc.2⟩ hf dX6_line_33
  · replace hf := hf.2 b22
    refine lv_aload_n hx hb dX6_line_23 rfl (lv_at hl 1 rfl) ?_
    obtain ⟨f25, h26, hf⟩ := hf
    refine g_runi (rP [] [] K kY6 hM hl h26 (c_X6_here l r A _ _ _ hf) q604 q606 qs14 q96 q607 hdX6_here ⟨Nat.le_of_ble_eq_true rfl, Nat.le_of_ble_eq_true rfl⟩ ⟨bud_ret hc.1, bud_ret hc.2⟩ rfl (Nat.le_of_ble_eq_true rfl) dX6_line_24) hM (fun σ23 v24 H locs hf hM => ?_)
    refine lv_bipush (v := 63) hx hb dX6_line_27 rfl ?_
    refine lv_icmp_eq (tgt := 34) hx hb dX6_line_29 (by decide) (fun b27 => ?_) (fun b27 => ?_)
    · replace hf := hf.1 b27
      refine lv_aload_n hx hb dX6_line_34 rfl (lv_at hl 1 rfl) ?_
      refine lv_dup hx hb dX6_line_35 rfl ?_
      obtain ⟨v29, h28, hf⟩ := hf
      refine p_get K kY6 hM 0 rfl q539 rfl dX6_line_36 h28 ?_
      refine lv_iconst (v := 1) hx hb dX6_line_39 rfl ?_
      refine lv_iadd hx hb dX6_line_40 ?_
      refine p_put K kY6 nmX6 hM 0 rfl q539 rfl dX6_line_41 rfl rfl rfl hf (fun H locs σ30 hf hM => ?_)
      refine lv_aload_n hx hb dX6_line_44 rfl (lv_at hl 0 rfl) ?_
      refine lv_aload_n hx hb dX6_line_45 rfl (lv_at hl 0 rfl) ?_
      obtain ⟨v32, h31, hf⟩ := hf
      refine p_getN K kY7 hM 1 rfl q569 rfl dX6_line_46 h31 ?_
      refine p_putN K kY7 nmX7 hM 0 rfl q567 rfl dX6_line_49 rfl (by cases v32 <;> rfl) (va_rf_fit _ _) hf (fun H locs σ33 hf hM => ?_)
      refine lv_aload_n hx hb dX6_line_52 rfl (lv_at hl 0 rfl) ?_
      refine lv_aload_n hx hb dX6_line_53 rfl (lv_at hl 1 rfl) ?_
      obtain ⟨c36, s37, hf⟩ := hf
      obtain ⟨b38, s39, g40, g41, hf⟩ := hf
      obtain ⟨f42, h43, hf⟩ := hf
      refine g_runq (rP [] [.ref a1] K kY6 hM hl h43 (c_X6_either l r A _ _ _ _ _ hf) q580 q582 qs8 q96 q583 hdX6_either ⟨Nat.le_of_ble_eq_true rfl, Nat.le_of_ble_eq_true rfl⟩ ⟨bud_le hc.1 g40, bud_le hc.2 g41⟩ rfl (Nat.le_of_ble_eq_true rfl) dX6_line_54) hM (fun σ34 v35 H locs hf hM => ?_)
      replace hc := And.intro (bud hc.1 g40) (bud hc.2 g41)
      refine p_putN K kY7 nmX7 hM 1 rfl q569 rfl dX6_line_57 rfl (by cases v35 <;> rfl) (va_rf_fit _ _) hf (fun H locs σ44 hf hM => ?_)
      refine lv_aload_n hx hb dX6_line_60 rfl (lv_at hl 0 rfl) ?_
      exact g_retq (v := (some a1)) K hr (Or.inl ⟨_, rfl⟩) hM ⟨bud_ret hc.1, bud_ret hc.2⟩ hf dX6_line_61
    · replace hf := hf.2 b27
      refine lv_aload_n hx hb dX6_line_32 rfl (lv_at hl 0 rfl) ?_
      exact g_retq (v := (some a1)) K hr (Or.inl ⟨_, rfl⟩) hM ⟨bud_ret hc.1, bud_ret hc.2⟩ hf dX6_line_33
theorem w_X6_lines_49 {p : Program} {l : Launch} {e : Env} {s : State} {m : MethodId} {args : Array Value} {below : List Frame} {meth : Method} {c : Code} {r : GR} {A : Nat → Prop} {B S : Nat} {P : GS → Option Nat → Prop} (K : gC p s m args meth c cX6_lines 3 RX6 r A) (hr : meth.sig.returnType = (some (.object "PointsForAll$Line"))) : ∀ (bc bs cells slots : Nat) (σ : GS) (x0 : Nat) (x1 : Option Nat), cells + bc ≤ B ∧ slots + bs ≤ S → f_X6_lines_49 r P bc bs σ x0 x1 → gW dX p l e (gRm 67 2762 B S) s m args below meth c r A (zQ P) B S 3 49 [(0, .ref x0), (1, va_rf x1)] [] cells slots σ := by
  obtain ⟨hx, hb, hml, hown, hts, hlk, hKK, hA⟩ := id K
  intro bc bs cells slots σ x0 x1 hc hf H locs ls hM hl
  unfold f_X6_lines_49 at hf
  refine lv_aload_n hx hb dX6_lines_49 rfl (lv_at hl 0 rfl) ?_
  obtain ⟨v2, h1, hf⟩ := hf
  refine p_get K kY6 hM 1 rfl q540 rfl dX6_lines_50 h1 ?_
  refine lv_if_ge (tgt := 78) hx hb dX6_lines_53 (by decide) (fun b3 => ?_) (fun b3 => ?_)
  · replace hf := hf.1 b3
    refine g_aload_nq hx hb dX6_lines_78 rfl (lv_at hl 1 rfl) ?_
    exact g_retq (v := x1) K hr (Or.inl ⟨_, rfl⟩) hM ⟨bud_ret hc.1, bud_ret hc.2⟩ hf dX6_lines_79
  · replace hf := hf.2 b3
    refine lv_aload_n hx hb dX6_lines_56 rfl (lv_at hl 0 rfl) ?_
    obtain ⟨v5, h4, hf⟩ := hf
    refine p_get K kY6 hM 0 rfl q539 rfl dX6_lines_57 h4 ?_
    refine lv_aload_n hx hb dX6_lines_60 rfl (lv_at hl 0 rfl) ?_
    obtain ⟨h6, hf⟩ := hf
    refine p_get K kY6 hM 3 rfl q543 rfl dX6_lines_61 h6 ?_
    refine g_getiN K kX hM 8 rfl q170 rfl dX6_lines_64 rfl ?_
    refine lv_icmp_ge (tgt := 78) hx hb dX6_lines_67 (by decide) (fun b7 => ?_) (fun b7 => ?_)
    · replace hf := hf.1 b7
      refine g_aload_nq hx hb dX6_lines_78 rfl (lv_at hl 1 rfl) ?_
      exact g_retq (v := x1) K hr (Or.inl ⟨_, rfl⟩) hM ⟨bud_ret hc.1, bud_ret hc.2⟩ hf dX6_lines_79
    · replace hf := hf.2 b7
      refine lv_aload_n hx hb dX6_lines_70 rfl (lv_at hl 0 rfl) ?_
      refine lv_aload_n hx hb dX6_lines_71 rfl (lv_at hl 0 rfl) ?_
      obtain ⟨v9, h8, hf⟩ := hf
      refine p_get K kY6 hM 0 rfl q539 rfl dX6_lines_72 h8 ?_
      refine p_put K kY6 nmX6 hM 1 rfl q540 rfl dX6_lines_75 rfl rfl rfl hf (fun H locs σ10 hf hM => ?_)
      refine g_aload_nq hx hb dX6_lines_78 rfl (lv_at hl 1 rfl) ?_
      exact g_retq (v := x1) K hr (Or.inl ⟨_, rfl⟩) hM ⟨bud_ret hc.1, bud_ret hc.2⟩ hf dX6_lines_79
theorem w_X6_lines_7 {p : Program} {l : Launch} {e : Env} {s : State} {m : MethodId} {args : Array Value} {below : List Frame} {meth : Method} {c : Code} {r : GR} {A : Nat → Prop} {B S : Nat} {P : GS → Option Nat → Prop} (K : gC p s m args meth c cX6_lines 3 RX6 r A) (hr : meth.sig.returnType = (some (.object "PointsForAll$Line"))) : ∀ (n : Nat) (bc bs cells slots : Nat) (σ : GS) (x0 : Nat) (x1 : Option Nat) (x2 : Option Nat), cells + bc ≤ B ∧ slots + bs ≤ S → f_X6_lines_7 r P n bc bs σ x0 x1 x2 → gW dX p l e (gRm 67 2762 B S) s m args below meth c r A (zQ P) B S 3 7 [(0, .ref x0), (1, va_rf x1), (2, va_rf x2)] [] cells slots σ := by
  obtain ⟨hx, hb, hml, hown, hts, hlk, hKK, hA⟩ := id K
  intro n
  induction n with
  | zero =>
    intro bc bs cells slots σ x0 x1 x2 hc hf
    exact absurd hf (fun h => h)
  | succ n ih =>
    intro bc bs cells slots σ x0 x1 x2 hc hf H locs ls hM hl
    rw [f_X6_lines_7] at hf
    refine lv_aload_n hx hb dX6_lines_7 rfl (lv_at hl 0 rfl) ?_
    obtain ⟨v2, h1, hf⟩ := hf
    refine p_get K kY6 hM 1 rfl q540 rfl dX6_lines_8 h1 ?_
    refine lv_if_ge (tgt := 49) hx hb dX6_lines_11 (by decide) (fun b3 => ?_) (fun b3 => ?_)
    · replace hf := hf.1 b3
      exact w_X6_lines_49 K hr _ _ _ _ _ _ _ hc hf _ _ _ hM (lv_sub hl [0, 1] rfl)
    · replace hf := hf.2 b3
      refine lv_aload_n hx hb dX6_lines_14 rfl (lv_at hl 0 rfl) ?_
      obtain ⟨f6, h7, hf⟩ := hf
      refine g_runi (rP [] [] K kY6 hM hl h7 (c_X6_here l r A _ _ _ hf) q604 q606 qs14 q96 q607 hdX6_here ⟨Nat.le_of_ble_eq_true rfl, Nat.le_of_ble_eq_true rfl⟩ ⟨bud_ret hc.1, bud_ret hc.2⟩ rfl (Nat.le_of_ble_eq_true rfl) dX6_lines_15) hM (fun σ4 v5 H locs hf hM => ?_)
      refine lv_bipush (v := 59) hx hb dX6_lines_18 rfl ?_
      refine lv_icmp_ne (tgt := 49) hx hb dX6_lines_20 (by decide) (fun b8 => ?_) (fun b8 => ?_)
      · replace hf := hf.2 b8
        exact w_X6_lines_49 K hr _ _ _ _ _ _ _ hc hf _ _ _ hM (lv_sub hl [0, 1] rfl)
      · replace hf := hf.1 b8
        refine lv_aload_n hx hb dX6_lines_23 rfl (lv_at hl 0 rfl) ?_
        refine lv_dup hx hb dX6_lines_24 rfl ?_
        obtain ⟨v10, h9, hf⟩ := hf
        refine p_get K kY6 hM 0 rfl q539 rfl dX6_lines_25 h9 ?_
        refine lv_iconst (v := 1) hx hb dX6_lines_28 rfl ?_
        refine lv_iadd hx hb dX6_lines_29 ?_
        refine p_put K kY6 nmX6 hM 0 rfl q539 rfl dX6_lines_30 rfl rfl rfl hf (fun H locs σ11 hf hM => ?_)
        refine g_aload_nq hx hb dX6_lines_33 rfl (lv_at hl 2 rfl) ?_
        refine lv_aload_n hx hb dX6_lines_34 rfl (lv_at hl 0 rfl) ?_
        obtain ⟨c14, s15, hf⟩ := hf
        obtain ⟨b16, s17, g18, g19, hf⟩ := hf
        obtain ⟨f20, h21, hf⟩ := hf
        refine g_runq (rP [] [va_rf x2] K kY6 hM hl h21 (c_X6_line l r A _ _ _ _ _ hf) q557 q559 qs7 q96 q560 hdX6_line ⟨Nat.le_of_ble_eq_true rfl, Nat.le_of_ble_eq_true rfl⟩ ⟨bud_le hc.1 g18, bud_le hc.2 g19⟩ rfl (by cases x2 <;> exact Nat.le_of_ble_eq_true rfl) dX6_lines_35) hM (fun σ12 v13 H locs hf hM => ?_)
        replace hc := And.intro (bud hc.1 g18) (bud hc.2 g19)
        obtain ⟨a22, h23, hf⟩ := hf
        rw [h23]
        refine p_putN K kY7 nmX7 hM 2 rfl q571 rfl dX6_lines_38 rfl (by cases v13 <;> rfl) (va_rf_fit _ _) hf (fun H locs σ24 hf hM => ?_)
        refine g_aload_nq hx hb dX6_lines_41 rfl (lv_at hl 2 rfl) ?_
        obtain ⟨a25, h26, hf⟩ := hf
        rw [h26]
        obtain ⟨v28, h27, hf⟩ := hf
        refine p_getN K kY7 hM 2 rfl q571 rfl dX6_lines_42 h27 ?_
        refine g_astore_nq (lv' := [(2, va_rf v28), (0, .ref x0), (1, va_rf x1)]) hx hb dX6_lines_45 rfl hl (by decide) (by cases x1 <;> rfl) (fun ls hl => ?_)
        refine lv_goto (tgt := 7) hx hb dX6_lines_46 (by decide) ?_
        exact ih _ _ _ _ _ _ _ _ hc hf _ _ _ hM (lv_sub hl [1, 2, 0] rfl)
theorem c_X6_lines (l : Launch) (r : GR) (A : Nat → Prop) (bc bs : Nat) (σ : GS) (x0 : Nat) (P : GS → Option Nat → Prop) (hf : f_X6_lines r bc bs σ x0 P) : gMet dX l yX6_lines cX6_lines 3 (some (.object "PointsForAll$Line")) 67 2762 bc bs r A σ [.ref x0] (zQ P) := by
  refine g_enter (lv := [(0, .ref x0)]) (by decide) (Nat.le_of_ble_eq_true rfl) rfl ?_
  intro p e s m below meth c ls K hr hM hl hi
  obtain ⟨hx, hb, hml, hown, hts, hlk, hKK, hA⟩ := id K
  unfold f_X6_lines at hf
  generalize hB_ : bc = B
  generalize hS_ : bs = S
  have hc : 0 + bc ≤ B ∧ 0 + bs ≤ S := ⟨bud_0 hB_, bud_0 hS_⟩
  refine lv_aload_n hx hb dX6_lines_0 rfl (lv_at hl 0 rfl) ?_
  obtain ⟨c3, s4, hf⟩ := hf
  obtain ⟨b5, s6, g7, g8, hf⟩ := hf
  obtain ⟨f9, h10, hf⟩ := hf
  refine g_runq (rP [] [] K kY6 hM hl h10 (c_X6_line l r A _ _ _ _ _ hf) q557 q559 qs7 q96 q560 hdX6_line ⟨Nat.le_of_ble_eq_true rfl, Nat.le_of_ble_eq_true rfl⟩ ⟨bud_le hc.1 g7, bud_le hc.2 g8⟩ rfl (Nat.le_of_ble_eq_true rfl) dX6_lines_1) hM (fun σ1 v2 H locs hf hM => ?_)
  replace hc := And.intro (bud hc.1 g7) (bud hc.2 g8)
  refine g_astore_nq (lv' := [(1, va_rf v2), (0, .ref x0)]) hx hb dX6_lines_4 rfl hl (by decide) rfl (fun ls hl => ?_)
  refine g_aload_nq hx hb dX6_lines_5 rfl (lv_at hl 0 rfl) ?_
  refine g_astore_nq (lv' := [(2, va_rf v2), (1, va_rf v2), (0, .ref x0)]) hx hb dX6_lines_6 rfl hl (by decide) (by cases v2 <;> rfl) (fun ls hl => ?_)
  obtain ⟨n_, hf⟩ := hf
  exact w_X6_lines_7 K hr n_ _ _ _ _ _ _ _ _ hc hf _ _ _ hM (lv_sub hl [2, 1, 0] rfl)
theorem c_X0_want (l : Launch) (r : GR) (A : Nat → Prop) (bc bs : Nat) (σ : GS) (P : GS → Int32 → Prop) (hf : f_X0_want r bc bs σ P) : gMet dX l yX0_want cX0_want 3 (some .int) 68 2784 bc bs r A σ [.ref r.2.1] (zI P) := by
  refine g_enter (lv := [(0, .ref r.2.1)]) (by decide) (Nat.le_of_ble_eq_true rfl) rfl ?_
  intro p e s m below meth c ls K hr hM hl hi
  obtain ⟨hx, hb, hml, hown, hts, hlk, hKK, hA⟩ := id K
  unfold f_X0_want at hf
  generalize hB_ : bc = B
  generalize hS_ : bs = S
  have hc : 0 + bc ≤ B ∧ 0 + bs ≤ S := ⟨bud_0 hB_, bud_0 hS_⟩
  refine lv_aload_n hx hb dX0_want_0 rfl (lv_at hl 0 rfl) ?_
  refine g_geti K kX hM 10 rfl q173 rfl dX0_want_1 rfl ?_
  refine lv_iconst (v := 4) hx hb dX0_want_4 rfl ?_
  refine lv_icmp_ne (tgt := 11) hx hb dX0_want_5 (by decide) (fun b1 => ?_) (fun b1 => ?_)
  · replace hf := hf.2 b1
    obtain ⟨b4, s5, g6, g7, hf⟩ := hf
    refine p_new K kY6 hM q533 q534 q96 hf0X6 (bud_le hc.1 g6) (bud_le hc.2 g7) dX0_want_11 (fun H a2 σ3 ea2 hσ3 hM => ?_)
    have hf := hf a2 ea2 σ3 hσ3
    replace hc := And.intro (bud hc.1 g6) (bud hc.2 g7)
    refine lv_dup hx hb dX0_want_14 rfl ?_
    refine lv_aload_n hx hb dX0_want_15 rfl (lv_at hl 0 rfl) ?_
    refine g_runv (rIN [.ref r.2.1] [.ref a2] K hM hl (c_X6_init l r A _ _ _ hf) q535 q536 q96 q537 hdX6_init ⟨Nat.le_of_ble_eq_true rfl, Nat.le_of_ble_eq_true rfl⟩ ⟨bud_ret hc.1, bud_ret hc.2⟩ rfl (Nat.le_of_ble_eq_true rfl) dX0_want_16) hM (fun σ8 H locs hf hM => ?_)
    refine lv_astore_n (lv' := [(1, .ref a2), (0, .ref r.2.1)]) hx hb dX0_want_19 rfl hl (by decide) rfl (fun ls hl => ?_)
    refine lv_aload_n hx hb dX0_want_20 rfl (lv_at hl 0 rfl) ?_
    obtain ⟨c12, s13, hf⟩ := hf
    obtain ⟨b14, s15, g16, g17, hf⟩ := hf
    obtain ⟨f18, h19, hf⟩ := hf
    refine g_runq (rP [] [] K kY6 hM hl h19 (c_X6_lines l r A _ _ _ _ _ hf) q553 q554 q555 q96 q556 hdX6_lines ⟨Nat.le_of_ble_eq_true rfl, Nat.le_of_ble_eq_true rfl⟩ ⟨bud_le hc.1 g16, bud_le hc.2 g17⟩ rfl (Nat.le_of_ble_eq_true rfl) dX0_want_21) hM (fun σ10 v11 H locs hf hM => ?_)
    replace hc := And.intro (bud hc.1 g16) (bud hc.2 g17)
    refine g_astore_nq (lv' := [(2, va_rf v11), (1, .ref a2), (0, .ref r.2.1)]) hx hb dX0_want_24 rfl hl (by decide) rfl (fun ls hl => ?_)
    refine lv_aload_n hx hb dX0_want_25 rfl (lv_at hl 2 rfl) ?_
    refine lv_iconst (v := 0) hx hb dX0_want_26 rfl ?_
    refine g_putiN K kX hM 8 rfl q171 rfl dX0_want_27 rfl rfl rfl (fun H locs σ20 hσ20 hM => ?_)
    have hf := hf σ20 hσ20
    refine lv_aload_n hx hb dX0_want_30 rfl (lv_at hl 1 rfl) ?_
    obtain ⟨v22, h21, hf⟩ := hf
    refine p_getN K kY6 hM 1 rfl q541 rfl dX0_want_31 h21 ?_
    refine lv_if_lt (tgt := 45) hx hb dX0_want_34 (by decide) (fun b23 => ?_) (fun b23 => ?_)
    · replace hf := hf.1 b23
      refine lv_aload_n hx hb dX0_want_45 rfl (lv_at hl 2 rfl) ?_
      refine g_geta K kX hM 9 rfl q172 rfl dX0_want_46 rfl ?_
      refine lv_aload_n hx hb dX0_want_49 rfl (lv_at hl 2 rfl) ?_
      refine g_geti K kX hM 10 rfl q173 rfl dX0_want_50 rfl ?_
      refine g_aload_nq hx hb dX0_want_53 rfl (lv_at hl 0 rfl) ?_
      obtain ⟨g24, hf⟩ := hf
      obtain ⟨a25, h26, hf⟩ := hf
      rw [h26]
      obtain ⟨f27, h28, hf⟩ := hf
      refine g_aast K kY7 hM 9 rfl rfl rfl rfl h28 g24 dX0_want_54 (fun H locs σ29 hσ29 hM => ?_)
      have hf := hf σ29 hσ29
      refine lv_aload_n hx hb dX0_want_55 rfl (lv_at hl 2 rfl) ?_
      refine lv_dup hx hb dX0_want_56 rfl ?_
      refine g_geti K kX hM 10 rfl q173 rfl dX0_want_57 rfl ?_
      refine lv_iconst (v := 1) hx hb dX0_want_60 rfl ?_
      refine lv_iadd hx hb dX0_want_61 ?_
      refine g_putiN K kX hM 10 rfl q173 rfl dX0_want_62 rfl rfl rfl (fun H locs σ30 hσ30 hM => ?_)
      have hf := hf σ30 hσ30
      refine lv_aload_n hx hb dX0_want_65 rfl (lv_at hl 2 rfl) ?_
      refine g_geti K kX hM 10 rfl q173 rfl dX0_want_66 rfl ?_
      refine lv_iconst (v := 1) hx hb dX0_want_69 rfl ?_
      refine lv_isub hx hb dX0_want_70 ?_
      exact g_reti K hr hM ⟨bud_ret hc.1, bud_ret hc.2⟩ hf dX0_want_71
    · replace hf := hf.2 b23
      refine lv_bipush (v := -100) hx hb dX0_want_37 rfl ?_
      refine lv_aload_n hx hb dX0_want_39 rfl (lv_at hl 1 rfl) ?_
      obtain ⟨v32, h31, hf⟩ := hf
      refine p_getN K kY6 hM 1 rfl q541 rfl dX0_want_40 h31 ?_
      refine lv_isub hx hb dX0_want_43 ?_
      exact g_reti K hr hM ⟨bud_ret hc.1, bud_ret hc.2⟩ hf dX0_want_44
  · replace hf := hf.1 b1
    refine lv_bipush (v := -3) hx hb dX0_want_8 rfl ?_
    exact g_reti K hr hM ⟨bud_ret hc.1, bud_ret hc.2⟩ hf dX0_want_10
theorem w_X1_clear_2 {p : Program} {l : Launch} {e : Env} {s : State} {m : MethodId} {args : Array Value} {below : List Frame} {meth : Method} {c : Code} {r : GR} {A : Nat → Prop} {P : GS → Prop} (K : gC p s m args meth c cX1_clear 2 RX1 r A) (hr : meth.sig.returnType = none) : ∀ (n : Nat) (σ : GS) (x0 : Nat) (x1 : Int32), f_X1_clear_2 r P n σ x0 x1 → gW dX p l e (gRm 0 0 0 0) s m args below meth c r A (zV P) 0 0 2 2 [(0, .ref x0), (1, .int x1)] [] 0 0 σ := by
  obtain ⟨hx, hb, hml, hown, hts, hlk, hKK, hA⟩ := id K
  intro n
  induction n with
  | zero =>
    intro σ x0 x1 hf
    exact absurd hf (fun h => h)
  | succ n ih =>
    intro σ x0 x1 hf H locs ls hM hl
    rw [f_X1_clear_2] at hf
    refine lv_iload_n hx hb dX1_clear_2 rfl (lv_at hl 1 rfl) ?_
    refine lv_aload_n hx hb dX1_clear_3 rfl (lv_at hl 0 rfl) ?_
    obtain ⟨v2, h1, hf⟩ := hf
    refine p_get K kY1 hM 0 rfl q149 rfl dX1_clear_4 h1 ?_
    obtain ⟨n3, f4, h5, hf⟩ := hf
    refine p_alen K hM h5 dX1_clear_7 ?_
    refine lv_icmp_ge (tgt := 24) hx hb dX1_clear_8 (by decide) (fun b6 => ?_) (fun b6 => ?_)
    · replace hf := hf.1 b6
      exact g_retv K hr hM ⟨Nat.le_refl _, Nat.le_refl _⟩ hf dX1_clear_24
    · replace hf := hf.2 b6
      refine lv_aload_n hx hb dX1_clear_11 rfl (lv_at hl 0 rfl) ?_
      obtain ⟨v8, h7, hf⟩ := hf
      refine p_get K kY1 hM 0 rfl q149 rfl dX1_clear_12 h7 ?_
      refine lv_iload_n hx hb dX1_clear_15 rfl (lv_at hl 1 rfl) ?_
      refine lv_iconst (v := 0) hx hb dX1_clear_16 rfl ?_
      obtain ⟨n9, f10, h11, hf⟩ := hf
      obtain ⟨g12, hf⟩ := hf
      refine p_iast K hM h11 g12 dX1_clear_17 (fun H locs σ13 hσ13 hM => ?_)
      have hf := hf σ13 hσ13
      refine lv_iinc (v := x1 + 1) (lv' := [(1, .int (x1 + 1)), (0, .ref x0)]) hx hb dX1_clear_18 hl (k := 1) rfl rfl (by decide) rfl (fun ls hl => ?_)
      refine lv_goto (tgt := 2) hx hb dX1_clear_21 (by decide) ?_
      exact ih _ _ _ hf _ _ _ hM (lv_sub hl [1, 0] rfl)
theorem c_X1_clear (l : Launch) (r : GR) (A : Nat → Prop) (σ : GS) (x0 : Nat) (P : GS → Prop) (hf : f_X1_clear r σ x0 P) : gMet dX l yX1_clear cX1_clear 2 none 0 0 0 0 r A σ [.ref x0] (zV P) := by
  refine g_enter (lv := [(0, .ref x0)]) (by decide) (Nat.le_of_ble_eq_true rfl) rfl ?_
  intro p e s m below meth c ls K hr hM hl hi
  obtain ⟨hx, hb, hml, hown, hts, hlk, hKK, hA⟩ := id K
  unfold f_X1_clear at hf
  refine lv_iconst (v := 0) hx hb dX1_clear_0 rfl ?_
  refine lv_istore_n (lv' := [(1, .int (0 : Int32)), (0, .ref x0)]) hx hb dX1_clear_1 rfl hl (by decide) rfl (fun ls hl => ?_)
  obtain ⟨n_, hf⟩ := hf
  exact w_X1_clear_2 K hr n_ _ _ _ hf _ _ _ hM (lv_sub hl [1, 0] rfl)
theorem co_X10_value (l : Launch) (r : GR) (A : Nat → Prop) {fr lo : Nat} {c_X8_value : GS → Nat → Nat → (GS → Int32 → Prop) → Prop} (hB : 0 ≤ fr ∧ 0 ≤ lo) {f_X8_value_ l_X8_value_ : Nat} (H_X8_value : ∀ (σ : GS) (x0 x1 : Nat) (P : GS → Int32 → Prop), c_X8_value σ x0 x1 P → gNC l r A f_X8_value_ l_X8_value_ σ x0 x1 P) (hR_X8_value : f_X8_value_ + 1 ≤ fr ∧ 8 + (4 + 11) + l_X8_value_ ≤ lo) (σ : GS) (x0 : Nat) (x1 : Nat) (P : GS → Int32 → Prop) (hf : o_X10_value r c_X8_value σ x0 x1 P) : gMet dX l yX10_value cX10_value 2 (some .int) fr lo 0 0 r A σ [.ref x0, .ref x1] (zI P) := by
  refine g_enter (lv := [(0, .ref x0), (1, .ref x1)]) (by decide) (Nat.le_of_ble_eq_true rfl) rfl ?_
  intro p e s m below meth c ls K hr hM hl hi
  obtain ⟨hx, hb, hml, hown, hts, hlk, hKK, hA⟩ := id K
  unfold o_X10_value at hf
  refine lv_aload_n hx hb dX10_value_0 rfl (lv_at hl 0 rfl) ?_
  obtain ⟨v2, h1, hf⟩ := hf
  refine p_get K kY9 hM 0 rfl q726 rfl dX10_value_1 h1 ?_
  refine lv_aload_n hx hb dX10_value_4 rfl (lv_at hl 1 rfl) ?_
  obtain ⟨a3, h4, hf⟩ := hf
  rw [h4]
  refine g_runi (rNode [] K hM hl (H_X8_value _ _ _ _ hf) q792 hR_X8_value ⟨Nat.le_refl _, Nat.le_refl _⟩ rfl (Nat.le_of_ble_eq_true rfl) dX10_value_5) hM (fun σ5 v6 H locs hf hM => ?_)
  refine lv_if_ne (tgt := 15) hx hb dX10_value_8 (by decide) (fun b7 => ?_) (fun b7 => ?_)
  · replace hf := hf.2 b7
    refine lv_iconst (v := 0) hx hb dX10_value_15 rfl ?_
    exact g_reti K hr hM ⟨Nat.le_refl _, Nat.le_refl _⟩ hf dX10_value_16
  · replace hf := hf.1 b7
    refine lv_iconst (v := 1) hx hb dX10_value_11 rfl ?_
    refine lv_goto (tgt := 16) hx hb dX10_value_12 (by decide) ?_
    exact g_reti K hr hM ⟨Nat.le_refl _, Nat.le_refl _⟩ hf dX10_value_16
theorem co_X11_value (l : Launch) (r : GR) (A : Nat → Prop) {fr lo : Nat} {c_X8_value : GS → Nat → Nat → (GS → Int32 → Prop) → Prop} (hB : 0 ≤ fr ∧ 0 ≤ lo) {f_X8_value_ l_X8_value_ : Nat} (H_X8_value : ∀ (σ : GS) (x0 x1 : Nat) (P : GS → Int32 → Prop), c_X8_value σ x0 x1 P → gNC l r A f_X8_value_ l_X8_value_ σ x0 x1 P) (hR_X8_value : f_X8_value_ + 1 ≤ fr ∧ 8 + (4 + 11) + l_X8_value_ ≤ lo) (σ : GS) (x0 : Nat) (x1 : Nat) (P : GS → Int32 → Prop) (hf : o_X11_value r c_X8_value σ x0 x1 P) : gMet dX l yX11_value cX11_value 2 (some .int) fr lo 0 0 r A σ [.ref x0, .ref x1] (zI P) := by
  refine g_enter (lv := [(0, .ref x0), (1, .ref x1)]) (by decide) (Nat.le_of_ble_eq_true rfl) rfl ?_
  intro p e s m below meth c ls K hr hM hl hi
  obtain ⟨hx, hb, hml, hown, hts, hlk, hKK, hA⟩ := id K
  unfold o_X11_value at hf
  refine lv_aload_n hx hb dX11_value_0 rfl (lv_at hl 0 rfl) ?_
  obtain ⟨v2, h1, hf⟩ := hf
  refine p_get K kY10 hM 0 rfl q736 rfl dX11_value_1 h1 ?_
  refine lv_aload_n hx hb dX11_value_4 rfl (lv_at hl 1 rfl) ?_
  obtain ⟨a3, h4, hf⟩ := hf
  rw [h4]
  refine g_runi (rNode [] K hM hl (H_X8_value _ _ _ _ hf) q802 hR_X8_value ⟨Nat.le_refl _, Nat.le_refl _⟩ rfl (Nat.le_of_ble_eq_true rfl) dX11_value_5) hM (fun σ5 v6 H locs hf hM => ?_)
  refine lv_ineg hx hb dX11_value_8 ?_
  exact g_reti K hr hM ⟨Nat.le_refl _, Nat.le_refl _⟩ hf dX11_value_9
theorem co_X12_value (l : Launch) (r : GR) (A : Nat → Prop) {fr lo : Nat} (hB : 0 ≤ fr ∧ 0 ≤ lo) (σ : GS) (x0 : Nat) (x1 : Nat) (P : GS → Int32 → Prop) (hf : o_X12_value r σ x0 x1 P) : gMet dX l yX12_value cX12_value 2 (some .int) fr lo 0 0 r A σ [.ref x0, .ref x1] (zI P) := by
  refine g_enter (lv := [(0, .ref x0), (1, .ref x1)]) (by decide) (Nat.le_of_ble_eq_true rfl) rfl ?_
  intro p e s m below meth c ls K hr hM hl hi
  obtain ⟨hx, hb, hml, hown, hts, hlk, hKK, hA⟩ := id K
  unfold o_X12_value at hf
  refine lv_aload_n hx hb dX12_value_0 rfl (lv_at hl 0 rfl) ?_
  obtain ⟨v2, h1, hf⟩ := hf
  refine p_get K kY11 hM 0 rfl q747 rfl dX12_value_1 h1 ?_
  exact g_reti K hr hM ⟨Nat.le_refl _, Nat.le_refl _⟩ hf dX12_value_4
theorem c_X13_is (l : Launch) (r : GR) (A : Nat → Prop) (σ : GS) (x0 : Int32) (P : GS → Int32 → Prop) (hf : f_X13_is r σ x0 P) : gMet dX l yX13_is cX13_is 1 (some .int) 0 0 0 0 r A σ [.int x0] (zI P) := by
  refine g_enter (lv := [(0, .int x0)]) (by decide) (Nat.le_of_ble_eq_true rfl) rfl ?_
  intro p e s m below meth c ls K hr hM hl hi
  obtain ⟨hx, hb, hml, hown, hts, hlk, hKK, hA⟩ := id K
  unfold f_X13_is at hf
  refine lv_iload_n hx hb dX13_is_0 rfl (lv_at hl 0 rfl) ?_
  refine lv_if_eq (tgt := 8) hx hb dX13_is_1 (by decide) (fun b1 => ?_) (fun b1 => ?_)
  · replace hf := hf.1 b1
    refine lv_iconst (v := 0) hx hb dX13_is_8 rfl ?_
    exact g_reti K hr hM ⟨Nat.le_refl _, Nat.le_refl _⟩ hf dX13_is_9
  · replace hf := hf.2 b1
    refine lv_iconst (v := 1) hx hb dX13_is_4 rfl ?_
    refine lv_goto (tgt := 9) hx hb dX13_is_5 (by decide) ?_
    exact g_reti K hr hM ⟨Nat.le_refl _, Nat.le_refl _⟩ hf dX13_is_9
theorem wo_X13_value_263 {p : Program} {l : Launch} {e : Env} {s : State} {m : MethodId} {args : Array Value} {below : List Frame} {meth : Method} {c : Code} {r : GR} {A : Nat → Prop} {fr lo : Nat} {c_X8_value : GS → Nat → Nat → (GS → Int32 → Prop) → Prop} {P : GS → Int32 → Prop} (K : gC p s m args meth c cX13_value 4 RX13 r A) (hr : meth.sig.returnType = (some .int)) (hB : 1 ≤ fr ∧ 20 ≤ lo) {f_X8_value_ l_X8_value_ : Nat} (H_X8_value : ∀ (σ : GS) (x0 x1 : Nat) (P : GS → Int32 → Prop), c_X8_value σ x0 x1 P → gNC l r A f_X8_value_ l_X8_value_ σ x0 x1 P) (hR_X8_value : f_X8_value_ + 1 ≤ fr ∧ 8 + (4 + 11) + l_X8_value_ ≤ lo) : ∀ (σ : GS) (t0 : Int32), o_X13_value_263 r c_X8_value P σ t0 → gW dX p l e (gRm fr lo 0 0) s m args below meth c r A (zI P) 0 0 4 263 [] [.int t0] 0 0 σ := by
  obtain ⟨hx, hb, hml, hown, hts, hlk, hKK, hA⟩ := id K
  intro σ t0 hf H locs ls hM hl
  unfold o_X13_value_263 at hf
  refine g_runi (rS [.int t0] [] K hM hl (c_X13_is l r A _ _ _ hf) q803 q804 q108 q805 hdX13_is ⟨Nat.le_trans (Nat.le_of_ble_eq_true rfl) hB.1, Nat.le_trans (Nat.le_of_ble_eq_true rfl) hB.2⟩ ⟨Nat.le_refl _, Nat.le_refl _⟩ rfl (Nat.le_of_ble_eq_true rfl) dX13_value_263) hM (fun σ1 v2 H locs hf hM => ?_)
  exact g_reti K hr hM ⟨Nat.le_refl _, Nat.le_refl _⟩ hf dX13_value_266
theorem wo_X13_value_258 {p : Program} {l : Launch} {e : Env} {s : State} {m : MethodId} {args : Array Value} {below : List Frame} {meth : Method} {c : Code} {r : GR} {A : Nat → Prop} {fr lo : Nat} {c_X8_value : GS → Nat → Nat → (GS → Int32 → Prop) → Prop} {P : GS → Int32 → Prop} (K : gC p s m args meth c cX13_value 4 RX13 r A) (hr : meth.sig.returnType = (some .int)) (hB : 1 ≤ fr ∧ 20 ≤ lo) {f_X8_value_ l_X8_value_ : Nat} (H_X8_value : ∀ (σ : GS) (x0 x1 : Nat) (P : GS → Int32 → Prop), c_X8_value σ x0 x1 P → gNC l r A f_X8_value_ l_X8_value_ σ x0 x1 P) (hR_X8_value : f_X8_value_ + 1 ≤ fr ∧ 8 + (4 + 11) + l_X8_value_ ≤ lo) : ∀ (σ : GS), o_X13_value_258 r c_X8_value P σ → gW dX p l e (gRm fr lo 0 0) s m args below meth c r A (zI P) 0 0 4 258 [] [] 0 0 σ := by
  obtain ⟨hx, hb, hml, hown, hts, hlk, hKK, hA⟩ := id K
  intro σ hf H locs ls hM hl
  unfold o_X13_value_258 at hf
  refine lv_iconst (v := 1) hx hb dX13_value_258 rfl ?_
  refine lv_goto (tgt := 263) hx hb dX13_value_259 (by decide) ?_
  exact wo_X13_value_263 K hr hB H_X8_value hR_X8_value _ _ hf _ _ _ hM (lv_sub hl [] rfl)
theorem wo_X13_value_246 {p : Program} {l : Launch} {e : Env} {s : State} {m : MethodId} {args : Array Value} {below : List Frame} {meth : Method} {c : Code} {r : GR} {A : Nat → Prop} {fr lo : Nat} {c_X8_value : GS → Nat → Nat → (GS → Int32 → Prop) → Prop} {P : GS → Int32 → Prop} (K : gC p s m args meth c cX13_value 4 RX13 r A) (hr : meth.sig.returnType = (some .int)) (hB : 1 ≤ fr ∧ 20 ≤ lo) {f_X8_value_ l_X8_value_ : Nat} (H_X8_value : ∀ (σ : GS) (x0 x1 : Nat) (P : GS → Int32 → Prop), c_X8_value σ x0 x1 P → gNC l r A f_X8_value_ l_X8_value_ σ x0 x1 P) (hR_X8_value : f_X8_value_ + 1 ≤ fr ∧ 8 + (4 + 11) + l_X8_value_ ≤ lo) : ∀ (σ : GS) (t0 : Int32), o_X13_value_246 r c_X8_value P σ t0 → gW dX p l e (gRm fr lo 0 0) s m args below meth c r A (zI P) 0 0 4 246 [] [.int t0] 0 0 σ := by
  obtain ⟨hx, hb, hml, hown, hts, hlk, hKK, hA⟩ := id K
  intro σ t0 hf H locs ls hM hl
  unfold o_X13_value_246 at hf
  refine g_runi (rS [.int t0] [] K hM hl (c_X13_is l r A _ _ _ hf) q803 q804 q108 q805 hdX13_is ⟨Nat.le_trans (Nat.le_of_ble_eq_true rfl) hB.1, Nat.le_trans (Nat.le_of_ble_eq_true rfl) hB.2⟩ ⟨Nat.le_refl _, Nat.le_refl _⟩ rfl (Nat.le_of_ble_eq_true rfl) dX13_value_246) hM (fun σ1 v2 H locs hf hM => ?_)
  exact g_reti K hr hM ⟨Nat.le_refl _, Nat.le_refl _⟩ hf dX13_value_249
theorem wo_X13_value_245 {p : Program} {l : Launch} {e : Env} {s : State} {m : MethodId} {args : Array Value} {below : List Frame} {meth : Method} {c : Code} {r : GR} {A : Nat → Prop} {fr lo : Nat} {c_X8_value : GS → Nat → Nat → (GS → Int32 → Prop) → Prop} {P : GS → Int32 → Prop} (K : gC p s m args meth c cX13_value 4 RX13 r A) (hr : meth.sig.returnType = (some .int)) (hB : 1 ≤ fr ∧ 20 ≤ lo) {f_X8_value_ l_X8_value_ : Nat} (H_X8_value : ∀ (σ : GS) (x0 x1 : Nat) (P : GS → Int32 → Prop), c_X8_value σ x0 x1 P → gNC l r A f_X8_value_ l_X8_value_ σ x0 x1 P) (hR_X8_value : f_X8_value_ + 1 ≤ fr ∧ 8 + (4 + 11) + l_X8_value_ ≤ lo) : ∀ (σ : GS), o_X13_value_245 r c_X8_value P σ → gW dX p l e (gRm fr lo 0 0) s m args below meth c r A (zI P) 0 0 4 245 [] [] 0 0 σ := by
  obtain ⟨hx, hb, hml, hown, hts, hlk, hKK, hA⟩ := id K
  intro σ hf H locs ls hM hl
  unfold o_X13_value_245 at hf
  refine lv_iconst (v := 0) hx hb dX13_value_245 rfl ?_
  exact wo_X13_value_246 K hr hB H_X8_value hR_X8_value _ _ hf _ _ _ hM (lv_sub hl [] rfl)
theorem wo_X13_value_229 {p : Program} {l : Launch} {e : Env} {s : State} {m : MethodId} {args : Array Value} {below : List Frame} {meth : Method} {c : Code} {r : GR} {A : Nat → Prop} {fr lo : Nat} {c_X8_value : GS → Nat → Nat → (GS → Int32 → Prop) → Prop} {P : GS → Int32 → Prop} (K : gC p s m args meth c cX13_value 4 RX13 r A) (hr : meth.sig.returnType = (some .int)) (hB : 1 ≤ fr ∧ 20 ≤ lo) {f_X8_value_ l_X8_value_ : Nat} (H_X8_value : ∀ (σ : GS) (x0 x1 : Nat) (P : GS → Int32 → Prop), c_X8_value σ x0 x1 P → gNC l r A f_X8_value_ l_X8_value_ σ x0 x1 P) (hR_X8_value : f_X8_value_ + 1 ≤ fr ∧ 8 + (4 + 11) + l_X8_value_ ≤ lo) : ∀ (σ : GS) (t0 : Int32), o_X13_value_229 r c_X8_value P σ t0 → gW dX p l e (gRm fr lo 0 0) s m args below meth c r A (zI P) 0 0 4 229 [] [.int t0] 0 0 σ := by
  obtain ⟨hx, hb, hml, hown, hts, hlk, hKK, hA⟩ := id K
  intro σ t0 hf H locs ls hM hl
  unfold o_X13_value_229 at hf
  refine g_runi (rS [.int t0] [] K hM hl (c_X13_is l r A _ _ _ hf) q803 q804 q108 q805 hdX13_is ⟨Nat.le_trans (Nat.le_of_ble_eq_true rfl) hB.1, Nat.le_trans (Nat.le_of_ble_eq_true rfl) hB.2⟩ ⟨Nat.le_refl _, Nat.le_refl _⟩ rfl (Nat.le_of_ble_eq_true rfl) dX13_value_229) hM (fun σ1 v2 H locs hf hM => ?_)
  exact g_reti K hr hM ⟨Nat.le_refl _, Nat.le_refl _⟩ hf dX13_value_232
theorem wo_X13_value_215 {p : Program} {l : Launch} {e : Env} {s : State} {m : MethodId} {args : Array Value} {below : List Frame} {meth : Method} {c : Code} {r : GR} {A : Nat → Prop} {fr lo : Nat} {c_X8_value : GS → Nat → Nat → (GS → Int32 → Prop) → Prop} {P : GS → Int32 → Prop} (K : gC p s m args meth c cX13_value 4 RX13 r A) (hr : meth.sig.returnType = (some .int)) (hB : 1 ≤ fr ∧ 20 ≤ lo) {f_X8_value_ l_X8_value_ : Nat} (H_X8_value : ∀ (σ : GS) (x0 x1 : Nat) (P : GS → Int32 → Prop), c_X8_value σ x0 x1 P → gNC l r A f_X8_value_ l_X8_value_ σ x0 x1 P) (hR_X8_value : f_X8_value_ + 1 ≤ fr ∧ 8 + (4 + 11) + l_X8_value_ ≤ lo) : ∀ (σ : GS) (t0 : Int32), o_X13_value_215 r c_X8_value P σ t0 → gW dX p l e (gRm fr lo 0 0) s m args below meth c r A (zI P) 0 0 4 215 [] [.int t0] 0 0 σ := by
  obtain ⟨hx, hb, hml, hown, hts, hlk, hKK, hA⟩ := id K
  intro σ t0 hf H locs ls hM hl
  unfold o_X13_value_215 at hf
  refine g_runi (rS [.int t0] [] K hM hl (c_X13_is l r A _ _ _ hf) q803 q804 q108 q805 hdX13_is ⟨Nat.le_trans (Nat.le_of_ble_eq_true rfl) hB.1, Nat.le_trans (Nat.le_of_ble_eq_true rfl) hB.2⟩ ⟨Nat.le_refl _, Nat.le_refl _⟩ rfl (Nat.le_of_ble_eq_true rfl) dX13_value_215) hM (fun σ1 v2 H locs hf hM => ?_)
  exact g_reti K hr hM ⟨Nat.le_refl _, Nat.le_refl _⟩ hf dX13_value_218
theorem wo_X13_value_201 {p : Program} {l : Launch} {e : Env} {s : State} {m : MethodId} {args : Array Value} {below : List Frame} {meth : Method} {c : Code} {r : GR} {A : Nat → Prop} {fr lo : Nat} {c_X8_value : GS → Nat → Nat → (GS → Int32 → Prop) → Prop} {P : GS → Int32 → Prop} (K : gC p s m args meth c cX13_value 4 RX13 r A) (hr : meth.sig.returnType = (some .int)) (hB : 1 ≤ fr ∧ 20 ≤ lo) {f_X8_value_ l_X8_value_ : Nat} (H_X8_value : ∀ (σ : GS) (x0 x1 : Nat) (P : GS → Int32 → Prop), c_X8_value σ x0 x1 P → gNC l r A f_X8_value_ l_X8_value_ σ x0 x1 P) (hR_X8_value : f_X8_value_ + 1 ≤ fr ∧ 8 + (4 + 11) + l_X8_value_ ≤ lo) : ∀ (σ : GS) (t0 : Int32), o_X13_value_201 r c_X8_value P σ t0 → gW dX p l e (gRm fr lo 0 0) s m args below meth c r A (zI P) 0 0 4 201 [] [.int t0] 0 0 σ := by
  obtain ⟨hx, hb, hml, hown, hts, hlk, hKK, hA⟩ := id K
  intro σ t0 hf H locs ls hM hl
  unfold o_X13_value_201 at hf
  refine g_runi (rS [.int t0] [] K hM hl (c_X13_is l r A _ _ _ hf) q803 q804 q108 q805 hdX13_is ⟨Nat.le_trans (Nat.le_of_ble_eq_true rfl) hB.1, Nat.le_trans (Nat.le_of_ble_eq_true rfl) hB.2⟩ ⟨Nat.le_refl _, Nat.le_refl _⟩ rfl (Nat.le_of_ble_eq_true rfl) dX13_value_201) hM (fun σ1 v2 H locs hf hM => ?_)
  exact g_reti K hr hM ⟨Nat.le_refl _, Nat.le_refl _⟩ hf dX13_value_204
theorem wo_X13_value_183 {p : Program} {l : Launch} {e : Env} {s : State} {m : MethodId} {args : Array Value} {below : List Frame} {meth : Method} {c : Code} {r : GR} {A : Nat → Prop} {fr lo : Nat} {c_X8_value : GS → Nat → Nat → (GS → Int32 → Prop) → Prop} {P : GS → Int32 → Prop} (K : gC p s m args meth c cX13_value 4 RX13 r A) (hr : meth.sig.returnType = (some .int)) (hB : 1 ≤ fr ∧ 20 ≤ lo) {f_X8_value_ l_X8_value_ : Nat} (H_X8_value : ∀ (σ : GS) (x0 x1 : Nat) (P : GS → Int32 → Prop), c_X8_value σ x0 x1 P → gNC l r A f_X8_value_ l_X8_value_ σ x0 x1 P) (hR_X8_value : f_X8_value_ + 1 ≤ fr ∧ 8 + (4 + 11) + l_X8_value_ ≤ lo) : ∀ (σ : GS), o_X13_value_183 r c_X8_value P σ → gW dX p l e (gRm fr lo 0 0) s m args below meth c r A (zI P) 0 0 4 183 [] [] 0 0 σ := by
  obtain ⟨hx, hb, hml, hown, hts, hlk, hKK, hA⟩ := id K
  intro σ hf H locs ls hM hl
  unfold o_X13_value_183 at hf
  refine lv_iconst (v := 0) hx hb dX13_value_183 rfl ?_
  refine lv_goto (tgt := 190) hx hb dX13_value_184 (by decide) ?_
  exact g_reti K hr hM ⟨Nat.le_refl _, Nat.le_refl _⟩ hf dX13_value_190
theorem co_X13_value (l : Launch) (r : GR) (A : Nat → Prop) {fr lo : Nat} {c_X8_value : GS → Nat → Nat → (GS → Int32 → Prop) → Prop} (hB : 1 ≤ fr ∧ 20 ≤ lo) {f_X8_value_ l_X8_value_ : Nat} (H_X8_value : ∀ (σ : GS) (x0 x1 : Nat) (P : GS → Int32 → Prop), c_X8_value σ x0 x1 P → gNC l r A f_X8_value_ l_X8_value_ σ x0 x1 P) (hR_X8_value : f_X8_value_ + 1 ≤ fr ∧ 8 + (4 + 11) + l_X8_value_ ≤ lo) (σ : GS) (x0 : Nat) (x1 : Nat) (P : GS → Int32 → Prop) (hf : o_X13_value r c_X8_value σ x0 x1 P) : gMet dX l yX13_value cX13_value 4 (some .int) fr lo 0 0 r A σ [.ref x0, .ref x1] (zI P) := by
  refine g_enter (lv := [(0, .ref x0), (1, .ref x1)]) (by decide) (Nat.le_of_ble_eq_true rfl) rfl ?_
  intro p e s m below meth c ls K hr hM hl hi
  obtain ⟨hx, hb, hml, hown, hts, hlk, hKK, hA⟩ := id K
  unfold o_X13_value at hf
  refine lv_aload_n hx hb dX13_value_0 rfl (lv_at hl 0 rfl) ?_
  obtain ⟨v2, h1, hf⟩ := hf
  refine p_get K kY12 hM 1 rfl q763 rfl dX13_value_1 h1 ?_
  refine lv_aload_n hx hb dX13_value_4 rfl (lv_at hl 1 rfl) ?_
  obtain ⟨a3, h4, hf⟩ := hf
  rw [h4]
  refine g_runi (rNode [] K hM hl (H_X8_value _ _ _ _ hf) q799 hR_X8_value ⟨Nat.le_refl _, Nat.le_refl _⟩ rfl (Nat.le_of_ble_eq_true rfl) dX13_value_5) hM (fun σ5 v6 H locs hf hM => ?_)
  refine lv_istore_n (lv' := [(2, .int v6), (0, .ref x0), (1, .ref x1)]) hx hb dX13_value_8 rfl hl (by decide) rfl (fun ls hl => ?_)
  refine lv_aload_n hx hb dX13_value_9 rfl (lv_at hl 1 rfl) ?_
  obtain ⟨v8, h7, hf⟩ := hf
  refine p_get K kY12 hM 2 rfl q764 rfl dX13_value_10 h7 ?_
  refine lv_aload_n hx hb dX13_value_13 rfl (lv_at hl 2 rfl) ?_
  obtain ⟨a9, h10, hf⟩ := hf
  rw [h10]
  refine g_runi (rNode [] K hM hl (H_X8_value _ _ _ _ hf) q799 hR_X8_value ⟨Nat.le_refl _, Nat.le_refl _⟩ rfl (Nat.le_of_ble_eq_true rfl) dX13_value_14) hM (fun σ11 v12 H locs hf hM => ?_)
  refine lv_istore_n (lv' := [(3, .int v12), (2, .int v6), (0, .ref x0), (1, .ref x1)]) hx hb dX13_value_17 rfl hl (by decide) rfl (fun ls hl => ?_)
  refine lv_aload_n hx hb dX13_value_18 rfl (lv_at hl 2 rfl) ?_
  obtain ⟨v14, h13, hf⟩ := hf
  refine p_get K kY12 hM 0 rfl q762 rfl dX13_value_19 h13 ?_
  by_cases b28_0 : v14 = (37 : Int32)
  · replace hf := hf.1 b28_0
    refine lv_tableIn (off := 152) (tgt := 174) hx hb dX13_value_22 (by rw [b28_0]; decide) (by rw [b28_0]; decide) (by rw [b28_0]; rfl) (by decide) ?_
    refine lv_iload_n hx hb dX13_value_174 rfl (lv_at hl 0 rfl) ?_
    refine lv_if_eq (tgt := 183) hx hb dX13_value_175 (by decide) (fun b15 => ?_) (fun b15 => ?_)
    · replace hf := hf.1 b15
      exact wo_X13_value_183 K hr hB H_X8_value hR_X8_value _ hf _ _ _ hM (lv_sub hl [] rfl)
    · replace hf := hf.2 b15
      refine lv_iload_n hx hb dX13_value_178 rfl (lv_at hl 0 rfl) ?_
      refine lv_iconst (v := -1) hx hb dX13_value_179 rfl ?_
      refine lv_icmp_ne (tgt := 187) hx hb dX13_value_180 (by decide) (fun b16 => ?_) (fun b16 => ?_)
      · replace hf := hf.2 b16
        refine lv_iload_n hx hb dX13_value_187 rfl (lv_at hl 1 rfl) ?_
        refine lv_iload_n hx hb dX13_value_188 rfl (lv_at hl 0 rfl) ?_
        obtain ⟨g17, hf⟩ := hf
        refine lv_irem hx hb dX13_value_189 g17 ?_
        exact g_reti K hr hM ⟨Nat.le_refl _, Nat.le_refl _⟩ hf dX13_value_190
      · replace hf := hf.1 b16
        exact wo_X13_value_183 K hr hB H_X8_value hR_X8_value _ hf _ _ _ hM (lv_sub hl [] rfl)
  replace hf := hf.2 b28_0
  by_cases b28_1 : v14 = (38 : Int32)
  · replace hf := hf.1 b28_1
    refine lv_tableIn (off := 211) (tgt := 233) hx hb dX13_value_22 (by rw [b28_1]; decide) (by rw [b28_1]; decide) (by rw [b28_1]; rfl) (by decide) ?_
    refine lv_iload_n hx hb dX13_value_233 rfl (lv_at hl 1 rfl) ?_
    refine lv_if_eq (tgt := 245) hx hb dX13_value_234 (by decide) (fun b18 => ?_) (fun b18 => ?_)
    · replace hf := hf.1 b18
      exact wo_X13_value_245 K hr hB H_X8_value hR_X8_value _ hf _ _ _ hM (lv_sub hl [] rfl)
    · replace hf := hf.2 b18
      refine lv_iload_n hx hb dX13_value_237 rfl (lv_at hl 0 rfl) ?_
      refine lv_if_eq (tgt := 245) hx hb dX13_value_238 (by decide) (fun b19 => ?_) (fun b19 => ?_)
      · replace hf := hf.1 b19
        exact wo_X13_value_245 K hr hB H_X8_value hR_X8_value _ hf _ _ _ hM (lv_sub hl [] rfl)
      · replace hf := hf.2 b19
        refine lv_iconst (v := 1) hx hb dX13_value_241 rfl ?_
        refine lv_goto (tgt := 246) hx hb dX13_value_242 (by decide) ?_
        exact wo_X13_value_246 K hr hB H_X8_value hR_X8_value _ _ hf _ _ _ hM (lv_sub hl [] rfl)
  replace hf := hf.2 b28_1
  by_cases b28_5 : v14 = (42 : Int32)
  · replace hf := hf.1 b28_5
    refine lv_tableIn (off := 126) (tgt := 148) hx hb dX13_value_22 (by rw [b28_5]; decide) (by rw [b28_5]; decide) (by rw [b28_5]; rfl) (by decide) ?_
    refine lv_iload_n hx hb dX13_value_148 rfl (lv_at hl 1 rfl) ?_
    refine lv_iload_n hx hb dX13_value_149 rfl (lv_at hl 0 rfl) ?_
    refine lv_imul hx hb dX13_value_150 ?_
    exact g_reti K hr hM ⟨Nat.le_refl _, Nat.le_refl _⟩ hf dX13_value_151
  replace hf := hf.2 b28_5
  by_cases b28_6 : v14 = (43 : Int32)
  · replace hf := hf.1 b28_6
    refine lv_tableIn (off := 118) (tgt := 140) hx hb dX13_value_22 (by rw [b28_6]; decide) (by rw [b28_6]; decide) (by rw [b28_6]; rfl) (by decide) ?_
    refine lv_iload_n hx hb dX13_value_140 rfl (lv_at hl 1 rfl) ?_
    refine lv_iload_n hx hb dX13_value_141 rfl (lv_at hl 0 rfl) ?_
    refine lv_iadd hx hb dX13_value_142 ?_
    exact g_reti K hr hM ⟨Nat.le_refl _, Nat.le_refl _⟩ hf dX13_value_143
  replace hf := hf.2 b28_6
  by_cases b28_8 : v14 = (45 : Int32)
  · replace hf := hf.1 b28_8
    refine lv_tableIn (off := 122) (tgt := 144) hx hb dX13_value_22 (by rw [b28_8]; decide) (by rw [b28_8]; decide) (by rw [b28_8]; rfl) (by decide) ?_
    refine lv_iload_n hx hb dX13_value_144 rfl (lv_at hl 1 rfl) ?_
    refine lv_iload_n hx hb dX13_value_145 rfl (lv_at hl 0 rfl) ?_
    refine lv_isub hx hb dX13_value_146 ?_
    exact g_reti K hr hM ⟨Nat.le_refl _, Nat.le_refl _⟩ hf dX13_value_147
  replace hf := hf.2 b28_8
  by_cases b28_10 : v14 = (47 : Int32)
  · replace hf := hf.1 b28_10
    refine lv_tableIn (off := 130) (tgt := 152) hx hb dX13_value_22 (by rw [b28_10]; decide) (by rw [b28_10]; decide) (by rw [b28_10]; rfl) (by decide) ?_
    refine lv_iload_n hx hb dX13_value_152 rfl (lv_at hl 0 rfl) ?_
    refine lv_if_ne (tgt := 160) hx hb dX13_value_153 (by decide) (fun b20 => ?_) (fun b20 => ?_)
    · replace hf := hf.2 b20
      refine lv_iload_n hx hb dX13_value_160 rfl (lv_at hl 0 rfl) ?_
      refine lv_iconst (v := -1) hx hb dX13_value_161 rfl ?_
      refine lv_icmp_ne (tgt := 170) hx hb dX13_value_162 (by decide) (fun b21 => ?_) (fun b21 => ?_)
      · replace hf := hf.2 b21
        refine lv_iload_n hx hb dX13_value_170 rfl (lv_at hl 1 rfl) ?_
        refine lv_iload_n hx hb dX13_value_171 rfl (lv_at hl 0 rfl) ?_
        obtain ⟨g22, hf⟩ := hf
        refine lv_idiv hx hb dX13_value_172 g22 ?_
        exact g_reti K hr hM ⟨Nat.le_refl _, Nat.le_refl _⟩ hf dX13_value_173
      · replace hf := hf.1 b21
        refine lv_iload_n hx hb dX13_value_165 rfl (lv_at hl 1 rfl) ?_
        refine lv_ineg hx hb dX13_value_166 ?_
        refine lv_goto (tgt := 173) hx hb dX13_value_167 (by decide) ?_
        exact g_reti K hr hM ⟨Nat.le_refl _, Nat.le_refl _⟩ hf dX13_value_173
    · replace hf := hf.1 b20
      refine lv_iconst (v := 0) hx hb dX13_value_156 rfl ?_
      refine lv_goto (tgt := 173) hx hb dX13_value_157 (by decide) ?_
      exact g_reti K hr hM ⟨Nat.le_refl _, Nat.le_refl _⟩ hf dX13_value_173
  replace hf := hf.2 b28_10
  by_cases b28_23 : v14 = (60 : Int32)
  · replace hf := hf.1 b28_23
    refine lv_tableIn (off := 169) (tgt := 191) hx hb dX13_value_22 (by rw [b28_23]; decide) (by rw [b28_23]; decide) (by rw [b28_23]; rfl) (by decide) ?_
    refine lv_iload_n hx hb dX13_value_191 rfl (lv_at hl 1 rfl) ?_
    refine lv_iload_n hx hb dX13_value_192 rfl (lv_at hl 0 rfl) ?_
    refine lv_icmp_ge (tgt := 200) hx hb dX13_value_193 (by decide) (fun b23 => ?_) (fun b23 => ?_)
    · replace hf := hf.1 b23
      refine lv_iconst (v := 0) hx hb dX13_value_200 rfl ?_
      exact wo_X13_value_201 K hr hB H_X8_value hR_X8_value _ _ hf _ _ _ hM (lv_sub hl [] rfl)
    · replace hf := hf.2 b23
      refine lv_iconst (v := 1) hx hb dX13_value_196 rfl ?_
      refine lv_goto (tgt := 201) hx hb dX13_value_197 (by decide) ?_
      exact wo_X13_value_201 K hr hB H_X8_value hR_X8_value _ _ hf _ _ _ hM (lv_sub hl [] rfl)
  replace hf := hf.2 b28_23
  by_cases b28_24 : v14 = (61 : Int32)
  · replace hf := hf.1 b28_24
    refine lv_tableIn (off := 183) (tgt := 205) hx hb dX13_value_22 (by rw [b28_24]; decide) (by rw [b28_24]; decide) (by rw [b28_24]; rfl) (by decide) ?_
    refine lv_iload_n hx hb dX13_value_205 rfl (lv_at hl 1 rfl) ?_
    refine lv_iload_n hx hb dX13_value_206 rfl (lv_at hl 0 rfl) ?_
    refine lv_icmp_ne (tgt := 214) hx hb dX13_value_207 (by decide) (fun b24 => ?_) (fun b24 => ?_)
    · replace hf := hf.2 b24
      refine lv_iconst (v := 0) hx hb dX13_value_214 rfl ?_
      exact wo_X13_value_215 K hr hB H_X8_value hR_X8_value _ _ hf _ _ _ hM (lv_sub hl [] rfl)
    · replace hf := hf.1 b24
      refine lv_iconst (v := 1) hx hb dX13_value_210 rfl ?_
      refine lv_goto (tgt := 215) hx hb dX13_value_211 (by decide) ?_
      exact wo_X13_value_215 K hr hB H_X8_value hR_X8_value _ _ hf _ _ _ hM (lv_sub hl [] rfl)
  replace hf := hf.2 b28_24
  by_cases b28_25 : v14 = (62 : Int32)
  · replace hf := hf.1 b28_25
    refine lv_tableIn (off := 197) (tgt := 219) hx hb dX13_value_22 (by rw [b28_25]; decide) (by rw [b28_25]; decide) (by rw [b28_25]; rfl) (by decide) ?_
    refine lv_iload_n hx hb dX13_value_219 rfl (lv_at hl 1 rfl) ?_
    refine lv_iload_n hx hb dX13_value_220 rfl (lv_at hl 0 rfl) ?_
    refine lv_icmp_le (tgt := 228) hx hb dX13_value_221 (by decide) (fun b25 => ?_) (fun b25 => ?_)
    · replace hf := hf.1 b25
      refine lv_iconst (v := 0) hx hb dX13_value_228 rfl ?_
      exact wo_X13_value_229 K hr hB H_X8_value hR_X8_value _ _ hf _ _ _ hM (lv_sub hl [] rfl)
    · replace hf := hf.2 b25
      refine lv_iconst (v := 1) hx hb dX13_value_224 rfl ?_
      refine lv_goto (tgt := 229) hx hb dX13_value_225 (by decide) ?_
      exact wo_X13_value_229 K hr hB H_X8_value hR_X8_value _ _ hf _ _ _ hM (lv_sub hl [] rfl)
  replace hf := hf.2 b28_25
  refine g_swD (tgt := 250) hx hb dX13_value_22 (by decide) (by
    have n0_ := lv_neT (a := 37) b28_0 rfl
    have n1_ := lv_neT (a := 38) b28_1 rfl
    have n2_ := lv_neT (a := 42) b28_5 rfl
    have n3_ := lv_neT (a := 43) b28_6 rfl
    have n4_ := lv_neT (a := 45) b28_8 rfl
    have n5_ := lv_neT (a := 47) b28_10 rfl
    have n6_ := lv_neT (a := 60) b28_23 rfl
    have n7_ := lv_neT (a := 61) b28_24 rfl
    have n8_ := lv_neT (a := 62) b28_25 rfl
    generalize v14.toInt = z_ at n0_ n1_ n2_ n3_ n4_ n5_ n6_ n7_ n8_ ⊢
    by_cases hq_ : z_ < 37 ∨ 62 < z_
    · exact Or.inl hq_
    · right
      have hz_ : z_ = 39 ∨ z_ = 40 ∨ z_ = 41 ∨ z_ = 44 ∨ z_ = 46 ∨ z_ = 48 ∨ z_ = 49 ∨ z_ = 50 ∨ z_ = 51 ∨ z_ = 52 ∨ z_ = 53 ∨ z_ = 54 ∨ z_ = 55 ∨ z_ = 56 ∨ z_ = 57 ∨ z_ = 58 ∨ z_ = 59 := by omega
      rcases hz_ with rfl | rfl | rfl | rfl | rfl | rfl | rfl | rfl | rfl | rfl | rfl | rfl | rfl | rfl | rfl | rfl | rfl <;> rfl) ?_
  refine lv_iload_n hx hb dX13_value_250 rfl (lv_at hl 1 rfl) ?_
  refine lv_if_ne (tgt := 258) hx hb dX13_value_251 (by decide) (fun b26 => ?_) (fun b26 => ?_)
  · replace hf := hf.2 b26
    exact wo_X13_value_258 K hr hB H_X8_value hR_X8_value _ hf _ _ _ hM (lv_sub hl [] rfl)
  · replace hf := hf.1 b26
    refine lv_iload_n hx hb dX13_value_254 rfl (lv_at hl 0 rfl) ?_
    refine lv_if_eq (tgt := 262) hx hb dX13_value_255 (by decide) (fun b27 => ?_) (fun b27 => ?_)
    · replace hf := hf.1 b27
      refine lv_iconst (v := 0) hx hb dX13_value_262 rfl ?_
      exact wo_X13_value_263 K hr hB H_X8_value hR_X8_value _ _ hf _ _ _ hM (lv_sub hl [] rfl)
    · replace hf := hf.2 b27
      exact wo_X13_value_258 K hr hB H_X8_value hR_X8_value _ hf _ _ _ hM (lv_sub hl [] rfl)

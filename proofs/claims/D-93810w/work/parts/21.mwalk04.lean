set_option maxRecDepth 100000
set_option maxHeartbeats 4000000
theorem c_X2_asSort (l : Launch) (r : GR) (A : Nat → Prop) (σ : GS) (x0 : Int32) (x1 : Int64) (P : GS → Int64 → Prop) (hf : f_X2_asSort σ x0 x1 P) : gMet dM l yX2_asSort cX2_asSort 3 (some .long) 0 0 0 0 r A σ [.int x0, .long x1] (zL P) := by
  refine g_enter (lv := [(0, .int x0), (1, .long x1)]) (by decide) (Nat.le_of_ble_eq_true rfl) rfl ?_
  intro p e s m below meth c ls K hr hM hl _
  obtain ⟨hx, hb, hml, hown, hts, hlk, hKK, hA⟩ := id K
  unfold f_X2_asSort at hf
  refine lv_iload_n hx hb dX2_asSort_0 rfl (lv_at hl 0 rfl) ?_
  refine lv_if_ne (tgt := 11) hx hb dX2_asSort_1 (by decide) (fun b1 => ?_) (fun b1 => ?_)
  · replace hf := hf.2 b1
    refine lv_iload_n hx hb dX2_asSort_11 rfl (lv_at hl 0 rfl) ?_
    refine lv_iconst (v := 1) hx hb dX2_asSort_12 rfl ?_
    refine lv_icmp_ne (tgt := 23) hx hb dX2_asSort_13 (by decide) (fun b2 => ?_) (fun b2 => ?_)
    · replace hf := hf.2 b2
      refine lv_iload_n hx hb dX2_asSort_23 rfl (lv_at hl 0 rfl) ?_
      refine lv_iconst (v := 2) hx hb dX2_asSort_24 rfl ?_
      refine lv_icmp_ne (tgt := 34) hx hb dX2_asSort_25 (by decide) (fun b3 => ?_) (fun b3 => ?_)
      · replace hf := hf.2 b3
        refine lv_iload_n hx hb dX2_asSort_34 rfl (lv_at hl 0 rfl) ?_
        refine lv_iconst (v := 4) hx hb dX2_asSort_35 rfl ?_
        refine lv_icmp_ne (tgt := 53) hx hb dX2_asSort_36 (by decide) (fun b4 => ?_) (fun b4 => ?_)
        · replace hf := hf.2 b4
          refine lv_lload_n hx hb dX2_asSort_53 rfl (lv_at hl 1 rfl) ?_
          exact g_retl K hr hM ⟨Nat.le_refl _, Nat.le_refl _⟩ hf dX2_asSort_54
        · replace hf := hf.1 b4
          refine lv_lload_n hx hb dX2_asSort_39 rfl (lv_at hl 1 rfl) ?_
          refine lv_lconst (v := 0) hx hb dX2_asSort_40 rfl ?_
          refine W.lcmp hx hb dX2_asSort_41 ?_
          refine lv_if_eq (tgt := 49) hx hb dX2_asSort_42 (by decide) (fun b5 => ?_) (fun b5 => ?_)
          · replace hf := hf.1 b5
            refine lv_lconst (v := 0) hx hb dX2_asSort_49 rfl ?_
            refine lv_goto (tgt := 54) hx hb dX2_asSort_50 (by decide) ?_
            exact g_retl K hr hM ⟨Nat.le_refl _, Nat.le_refl _⟩ hf dX2_asSort_54
          · replace hf := hf.2 b5
            refine lv_lconst (v := 1) hx hb dX2_asSort_45 rfl ?_
            refine lv_goto (tgt := 54) hx hb dX2_asSort_46 (by decide) ?_
            exact g_retl K hr hM ⟨Nat.le_refl _, Nat.le_refl _⟩ hf dX2_asSort_54
      · replace hf := hf.1 b3
        refine lv_lload_n hx hb dX2_asSort_28 rfl (lv_at hl 1 rfl) ?_
        refine lv_l2i hx hb dX2_asSort_29 rfl ?_
        refine lv_i2l hx hb dX2_asSort_30 rfl ?_
        refine lv_goto (tgt := 54) hx hb dX2_asSort_31 (by decide) ?_
        exact g_retl K hr hM ⟨Nat.le_refl _, Nat.le_refl _⟩ hf dX2_asSort_54
    · replace hf := hf.1 b2
      refine lv_lload_n hx hb dX2_asSort_16 rfl (lv_at hl 1 rfl) ?_
      refine lv_l2i hx hb dX2_asSort_17 rfl ?_
      refine lv_i2s hx hb dX2_asSort_18 rfl ?_
      refine lv_i2l hx hb dX2_asSort_19 rfl ?_
      refine lv_goto (tgt := 54) hx hb dX2_asSort_20 (by decide) ?_
      exact g_retl K hr hM ⟨Nat.le_refl _, Nat.le_refl _⟩ hf dX2_asSort_54
  · replace hf := hf.1 b1
    refine lv_lload_n hx hb dX2_asSort_4 rfl (lv_at hl 1 rfl) ?_
    refine lv_l2i hx hb dX2_asSort_5 rfl ?_
    refine lv_i2b hx hb dX2_asSort_6 rfl ?_
    refine lv_i2l hx hb dX2_asSort_7 rfl ?_
    refine lv_goto (tgt := 54) hx hb dX2_asSort_8 (by decide) ?_
    exact g_retl K hr hM ⟨Nat.le_refl _, Nat.le_refl _⟩ hf dX2_asSort_54
theorem c_X2_refusal (l : Launch) (r : GR) (A : Nat → Prop) (σ : GS) (x1 : Int32) (x2 : Int32) (P : GS → Int32 → Prop) (hf : f_X2_refusal σ x1 x2 P) : gMet dM l yX2_refusal cX2_refusal 3 (some .int) 2 45 0 0 r A σ [.ref r.2.1, .int x1, .int x2] (zI P) := by
  refine g_enter (lv := [(0, .ref r.2.1), (1, .int x1), (2, .int x2)]) (by decide) (Nat.le_of_ble_eq_true rfl) rfl ?_
  intro p e s m below meth c ls K hr hM hl _
  obtain ⟨hx, hb, hml, hown, hts, hlk, hKK, hA⟩ := id K
  unfold f_X2_refusal at hf
  refine lv_iload_n hx hb dX2_refusal_0 rfl (lv_at hl 1 rfl) ?_
  refine g_cSi [.int x1] [] K hM hl (c_X2_isShelf l r A _ _ _ hf) q1648 q1649 q84 q1650 hdX2_isShelf ⟨Nat.le_of_ble_eq_true rfl, Nat.le_of_ble_eq_true rfl⟩ ⟨Nat.le_refl _, Nat.le_refl _⟩ rfl (Nat.le_of_ble_eq_true rfl) dX2_refusal_1 (fun σ1 v2 H locs hf hM => ?_)
  refine lv_if_ne (tgt := 9) hx hb dX2_refusal_4 (by decide) (fun b3 => ?_) (fun b3 => ?_)
  · replace hf := hf.2 b3
    refine lv_aload_n hx hb dX2_refusal_9 rfl (lv_at hl 0 rfl) ?_
    refine g_geta K kM hM 51 rfl q1504 rfl dX2_refusal_10 rfl ?_
    refine lv_iload_n hx hb dX2_refusal_13 rfl (lv_at hl 1 rfl) ?_
    obtain ⟨g4, hf⟩ := hf
    refine g_iald K hM 51 rfl rfl rfl g4 dX2_refusal_14 ?_
    refine lv_if_ge (tgt := 21) hx hb dX2_refusal_15 (by decide) (fun b5 => ?_) (fun b5 => ?_)
    · replace hf := hf.1 b5
      refine lv_aload_n hx hb dX2_refusal_21 rfl (lv_at hl 0 rfl) ?_
      refine g_geta K kM hM 51 rfl q1504 rfl dX2_refusal_22 rfl ?_
      refine lv_iload_n hx hb dX2_refusal_25 rfl (lv_at hl 1 rfl) ?_
      obtain ⟨g6, hf⟩ := hf
      refine g_iald K hM 51 rfl rfl rfl g6 dX2_refusal_26 ?_
      refine lv_bipush (v := 50) hx hb dX2_refusal_27 rfl ?_
      refine lv_icmp_ge (tgt := 35) hx hb dX2_refusal_29 (by decide) (fun b7 => ?_) (fun b7 => ?_)
      · replace hf := hf.1 b7
        refine lv_iload_n hx hb dX2_refusal_35 rfl (lv_at hl 2 rfl) ?_
        refine lv_if_lt (tgt := 53) hx hb dX2_refusal_36 (by decide) (fun b8 => ?_) (fun b8 => ?_)
        · replace hf := hf.1 b8
          refine lv_bipush (v := -13) hx hb dX2_refusal_53 rfl ?_
          exact g_reti K hr hM ⟨Nat.le_refl _, Nat.le_refl _⟩ hf dX2_refusal_55
        · replace hf := hf.2 b8
          refine lv_iload_n hx hb dX2_refusal_39 rfl (lv_at hl 2 rfl) ?_
          refine lv_aload_n hx hb dX2_refusal_40 rfl (lv_at hl 0 rfl) ?_
          refine g_geta K kM hM 52 rfl q1505 rfl dX2_refusal_41 rfl ?_
          refine lv_iload_n hx hb dX2_refusal_44 rfl (lv_at hl 1 rfl) ?_
          obtain ⟨g9, hf⟩ := hf
          refine g_iald K hM 52 rfl rfl rfl g9 dX2_refusal_45 ?_
          refine lv_icmp_ge (tgt := 53) hx hb dX2_refusal_46 (by decide) (fun b10 => ?_) (fun b10 => ?_)
          · replace hf := hf.1 b10
            refine lv_bipush (v := -13) hx hb dX2_refusal_53 rfl ?_
            exact g_reti K hr hM ⟨Nat.le_refl _, Nat.le_refl _⟩ hf dX2_refusal_55
          · replace hf := hf.2 b10
            refine lv_iconst (v := 0) hx hb dX2_refusal_49 rfl ?_
            refine lv_goto (tgt := 55) hx hb dX2_refusal_50 (by decide) ?_
            exact g_reti K hr hM ⟨Nat.le_refl _, Nat.le_refl _⟩ hf dX2_refusal_55
      · replace hf := hf.2 b7
        refine lv_bipush (v := -12) hx hb dX2_refusal_32 rfl ?_
        exact g_reti K hr hM ⟨Nat.le_refl _, Nat.le_refl _⟩ hf dX2_refusal_34
    · replace hf := hf.2 b5
      refine lv_bipush (v := -11) hx hb dX2_refusal_18 rfl ?_
      exact g_reti K hr hM ⟨Nat.le_refl _, Nat.le_refl _⟩ hf dX2_refusal_20
  · replace hf := hf.1 b3
    refine lv_iconst (v := -1) hx hb dX2_refusal_7 rfl ?_
    exact g_reti K hr hM ⟨Nat.le_refl _, Nat.le_refl _⟩ hf dX2_refusal_8
theorem w_X2_put_37 {p : Program} {l : Launch} {e : Env} {s : State} {m : MethodId} {args : Array Value} {below : List Frame} {meth : Method} {c : Code} {r : GR} {A : Nat → Prop} {P : GS → Int32 → Prop} (K : gC p s m args meth c cX2_put 6 RX2 r A) (hr : meth.sig.returnType = (some .int)) : ∀ (σ : GS) (x5 : Int32), f_X2_put_37 P σ x5 → gW dM p l e (gRm 3 67 0 0) s m args below meth c r A (zI P) 0 0 6 37 [(5, .int x5)] [] 0 0 σ := by
  obtain ⟨hx, hb, hml, hown, hts, hlk, hKK, hA⟩ := id K
  intro σ x5 hf H locs ls hM hl
  unfold f_X2_put_37 at hf
  refine lv_iload hx hb dX2_put_37 (lv_at hl 0 rfl) ?_
  refine lv_if_ne (tgt := 46) hx hb dX2_put_39 (by decide) (fun b1 => ?_) (fun b1 => ?_)
  · replace hf := hf.2 b1
    refine lv_iload hx hb dX2_put_46 (lv_at hl 0 rfl) ?_
    exact g_reti K hr hM ⟨Nat.le_refl _, Nat.le_refl _⟩ hf dX2_put_48
  · replace hf := hf.1 b1
    refine lv_iconst (v := 1) hx hb dX2_put_42 rfl ?_
    refine lv_goto (tgt := 48) hx hb dX2_put_43 (by decide) ?_
    exact g_reti K hr hM ⟨Nat.le_refl _, Nat.le_refl _⟩ hf dX2_put_48
theorem c_X2_put (l : Launch) (r : GR) (A : Nat → Prop) (σ : GS) (x1 : Int32) (x2 : Int32) (x3 : Int64) (P : GS → Int32 → Prop) (hf : f_X2_put σ x1 x2 x3 P) : gMet dM l yX2_put cX2_put 6 (some .int) 3 67 0 0 r A σ [.ref r.2.1, .int x1, .int x2, .long x3] (zI P) := by
  refine g_enter (lv := [(0, .ref r.2.1), (1, .int x1), (2, .int x2), (3, .long x3)]) (by decide) (Nat.le_of_ble_eq_true rfl) rfl ?_
  intro p e s m below meth c ls K hr hM hl _
  obtain ⟨hx, hb, hml, hown, hts, hlk, hKK, hA⟩ := id K
  unfold f_X2_put at hf
  refine lv_aload_n hx hb dX2_put_0 rfl (lv_at hl 0 rfl) ?_
  refine lv_iload_n hx hb dX2_put_1 rfl (lv_at hl 1 rfl) ?_
  refine lv_iload_n hx hb dX2_put_2 rfl (lv_at hl 2 rfl) ?_
  refine g_cVi [.int x1, .int x2] [] K kM hM hl (c_X2_refusal l r A _ _ _ _ hf) q1958 q1960 qs79 q84 q1961 hdX2_refusal ⟨Nat.le_of_ble_eq_true rfl, Nat.le_of_ble_eq_true rfl⟩ ⟨Nat.le_refl _, Nat.le_refl _⟩ rfl (Nat.le_of_ble_eq_true rfl) dX2_put_3 (fun σ1 v2 H locs hf hM => ?_)
  refine lv_istore (lv' := [(5, .int v2), (0, .ref r.2.1), (1, .int x1), (2, .int x2), (3, .long x3)]) hx hb dX2_put_6 hl (by decide) rfl (fun ls hl => ?_)
  refine lv_iload hx hb dX2_put_8 (lv_at hl 0 rfl) ?_
  refine lv_if_ne (tgt := 37) hx hb dX2_put_10 (by decide) (fun b3 => ?_) (fun b3 => ?_)
  · replace hf := hf.2 b3
    exact w_X2_put_37 K hr _ _ hf _ _ _ hM (lv_sub hl [0] rfl)
  · replace hf := hf.1 b3
    refine lv_aload_n hx hb dX2_put_13 rfl (lv_at hl 1 rfl) ?_
    refine g_geta K kM hM 53 rfl q1506 rfl dX2_put_14 rfl ?_
    refine lv_bipush (v := 60) hx hb dX2_put_17 rfl ?_
    refine lv_iload_n hx hb dX2_put_19 rfl (lv_at hl 2 rfl) ?_
    refine lv_imul hx hb dX2_put_20 ?_
    refine lv_iload_n hx hb dX2_put_21 rfl (lv_at hl 3 rfl) ?_
    refine lv_iadd hx hb dX2_put_22 ?_
    refine lv_aload_n hx hb dX2_put_23 rfl (lv_at hl 1 rfl) ?_
    refine g_geta K kM hM 51 rfl q1504 rfl dX2_put_24 rfl ?_
    refine lv_iload_n hx hb dX2_put_27 rfl (lv_at hl 2 rfl) ?_
    obtain ⟨g4, hf⟩ := hf
    refine g_iald K hM 51 rfl rfl rfl g4 dX2_put_28 ?_
    refine lv_bipush (v := 50) hx hb dX2_put_29 rfl ?_
    refine lv_isub hx hb dX2_put_31 ?_
    refine lv_lload_n hx hb dX2_put_32 rfl (lv_at hl 4 rfl) ?_
    refine g_cSl [.int ((gA σ1 51 x1.toNatClampNeg) - (50 : Int32)), .long x3] [.int (((60 : Int32) * x1) + x2), .ref (r.2.2.1 53)] K hM hl (c_X2_asSort l r A _ _ _ _ hf) q1962 q1963 q84 q1964 hdX2_asSort ⟨Nat.le_of_ble_eq_true rfl, Nat.le_of_ble_eq_true rfl⟩ ⟨Nat.le_refl _, Nat.le_refl _⟩ rfl (Nat.le_of_ble_eq_true rfl) dX2_put_33 (fun σ5 v6 H locs hf hM => ?_)
    obtain ⟨g7, hf⟩ := hf
    refine g_lastN K hM 53 rfl rfl rfl g7 dX2_put_36 (fun H locs σ8 hσ8 hM => ?_)
    have hf := hf σ8 hσ8
    exact w_X2_put_37 K hr _ _ hf _ _ _ hM (lv_sub hl [0] rfl)
theorem c_X2_element (l : Launch) (r : GR) (A : Nat → Prop) (σ : GS) (x1 : Int32) (x2 : Int32) (P : GS → Int64 → Prop) (hf : f_X2_element σ x1 x2 P) : gMet dM l yX2_element cX2_element 3 (some .long) 3 67 0 0 r A σ [.ref r.2.1, .int x1, .int x2] (zL P) := by
  refine g_enter (lv := [(0, .ref r.2.1), (1, .int x1), (2, .int x2)]) (by decide) (Nat.le_of_ble_eq_true rfl) rfl ?_
  intro p e s m below meth c ls K hr hM hl _
  obtain ⟨hx, hb, hml, hown, hts, hlk, hKK, hA⟩ := id K
  unfold f_X2_element at hf
  refine lv_aload_n hx hb dX2_element_0 rfl (lv_at hl 0 rfl) ?_
  refine lv_iload_n hx hb dX2_element_1 rfl (lv_at hl 1 rfl) ?_
  refine lv_iload_n hx hb dX2_element_2 rfl (lv_at hl 2 rfl) ?_
  refine g_cVi [.int x1, .int x2] [] K kM hM hl (c_X2_refusal l r A _ _ _ _ hf) q1958 q1960 qs79 q84 q1961 hdX2_refusal ⟨Nat.le_of_ble_eq_true rfl, Nat.le_of_ble_eq_true rfl⟩ ⟨Nat.le_refl _, Nat.le_refl _⟩ rfl (Nat.le_of_ble_eq_true rfl) dX2_element_3 (fun σ1 v2 H locs hf hM => ?_)
  refine lv_if_eq (tgt := 15) hx hb dX2_element_6 (by decide) (fun b3 => ?_) (fun b3 => ?_)
  · replace hf := hf.1 b3
    refine lv_aload_n hx hb dX2_element_15 rfl (lv_at hl 0 rfl) ?_
    refine g_geta K kM hM 53 rfl q1506 rfl dX2_element_16 rfl ?_
    refine lv_bipush (v := 60) hx hb dX2_element_19 rfl ?_
    refine lv_iload_n hx hb dX2_element_21 rfl (lv_at hl 1 rfl) ?_
    refine lv_imul hx hb dX2_element_22 ?_
    refine lv_iload_n hx hb dX2_element_23 rfl (lv_at hl 2 rfl) ?_
    refine lv_iadd hx hb dX2_element_24 ?_
    obtain ⟨g4, hf⟩ := hf
    refine g_lald K hM 53 rfl rfl rfl g4 dX2_element_25 ?_
    exact g_retl K hr hM ⟨Nat.le_refl _, Nat.le_refl _⟩ hf dX2_element_26
  · replace hf := hf.2 b3
    refine lv_ldc2 hx hb hown (hts _ q1969) dX2_element_9 ?_
    refine lv_goto (tgt := 26) hx hb dX2_element_12 (by decide) ?_
    exact g_retl K hr hM ⟨Nat.le_refl _, Nat.le_refl _⟩ hf dX2_element_26
theorem w_X2_shift_150 {p : Program} {l : Launch} {e : Env} {s : State} {m : MethodId} {args : Array Value} {below : List Frame} {meth : Method} {c : Code} {r : GR} {A : Nat → Prop} {P : GS → Int32 → Prop} (K : gC p s m args meth c cX2_shift 7 RX2 r A) (hr : meth.sig.returnType = (some .int)) : ∀ (n : Nat) (σ : GS) (x3 : Int32) (x4 : Int32) (x5 : Int32) (x6 : Int32), f_X2_shift_150 P n σ x3 x4 x5 x6 → gW dM p l e (gRm 2 45 0 0) s m args below meth c r A (zI P) 0 0 7 150 [(0, .ref r.2.1), (3, .int x3), (4, .int x4), (5, .int x5), (6, .int x6)] [] 0 0 σ := by
  obtain ⟨hx, hb, hml, hown, hts, hlk, hKK, hA⟩ := id K
  intro n
  induction n with
  | zero =>
    intro σ x3 x4 x5 x6 hf
    exact absurd hf (fun h => h)
  | succ n ih =>
    intro σ x3 x4 x5 x6 hf H locs ls hM hl
    rw [f_X2_shift_150] at hf
    refine lv_iload hx hb dX2_shift_150 (lv_at hl 4 rfl) ?_
    refine lv_iload hx hb dX2_shift_152 (lv_at hl 3 rfl) ?_
    refine lv_icmp_ge (tgt := 185) hx hb dX2_shift_154 (by decide) (fun b1 => ?_) (fun b1 => ?_)
    · replace hf := hf.1 b1
      refine lv_iload hx hb dX2_shift_185 (lv_at hl 3 rfl) ?_
      exact g_reti K hr hM ⟨Nat.le_refl _, Nat.le_refl _⟩ hf dX2_shift_187
    · replace hf := hf.2 b1
      refine lv_aload_n hx hb dX2_shift_157 rfl (lv_at hl 0 rfl) ?_
      refine g_geta K kM hM 53 rfl q1506 rfl dX2_shift_158 rfl ?_
      refine lv_bipush (v := 60) hx hb dX2_shift_161 rfl ?_
      refine lv_iload_n hx hb dX2_shift_163 rfl (lv_at hl 1 rfl) ?_
      refine lv_imul hx hb dX2_shift_164 ?_
      refine lv_iload hx hb dX2_shift_165 (lv_at hl 2 rfl) ?_
      refine lv_iadd hx hb dX2_shift_167 ?_
      refine lv_iload hx hb dX2_shift_168 (lv_at hl 4 rfl) ?_
      refine lv_iadd hx hb dX2_shift_170 ?_
      refine lv_aload_n hx hb dX2_shift_171 rfl (lv_at hl 0 rfl) ?_
      refine g_geta K kM hM 54 rfl q1507 rfl dX2_shift_172 rfl ?_
      refine lv_iload hx hb dX2_shift_175 (lv_at hl 4 rfl) ?_
      obtain ⟨g2, hf⟩ := hf
      refine g_lald K hM 54 rfl rfl rfl g2 dX2_shift_177 ?_
      obtain ⟨g3, hf⟩ := hf
      refine g_lastN K hM 53 rfl rfl rfl g3 dX2_shift_178 (fun H locs σ4 hσ4 hM => ?_)
      have hf := hf σ4 hσ4
      refine lv_iinc (v := x6 + 1) (lv' := [(6, .int (x6 + 1)), (0, .ref r.2.1), (3, .int x3), (4, .int x4), (5, .int x5)]) hx hb dX2_shift_179 hl (k := 4) rfl rfl (by decide) rfl (fun ls hl => ?_)
      refine lv_goto (tgt := 150) hx hb dX2_shift_182 (by decide) ?_
      exact ih _ _ _ _ _ hf _ _ _ hM (lv_sub hl [1, 2, 3, 4, 0] rfl)
theorem w_X2_shift_113 {p : Program} {l : Launch} {e : Env} {s : State} {m : MethodId} {args : Array Value} {below : List Frame} {meth : Method} {c : Code} {r : GR} {A : Nat → Prop} {P : GS → Int32 → Prop} (K : gC p s m args meth c cX2_shift 7 RX2 r A) (hr : meth.sig.returnType = (some .int)) : ∀ (n : Nat) (σ : GS) (x1 : Int32) (x2 : Int32) (x3 : Int32) (x4 : Int32) (x5 : Int32) (x6 : Int32), f_X2_shift_113 P n σ x1 x2 x3 x4 x5 x6 → gW dM p l e (gRm 2 45 0 0) s m args below meth c r A (zI P) 0 0 7 113 [(0, .ref r.2.1), (1, .int x1), (2, .int x2), (3, .int x3), (4, .int x4), (5, .int x5), (6, .int x6)] [] 0 0 σ := by
  obtain ⟨hx, hb, hml, hown, hts, hlk, hKK, hA⟩ := id K
  intro n
  induction n with
  | zero =>
    intro σ x1 x2 x3 x4 x5 x6 hf
    exact absurd hf (fun h => h)
  | succ n ih =>
    intro σ x1 x2 x3 x4 x5 x6 hf H locs ls hM hl
    rw [f_X2_shift_113] at hf
    refine lv_iload hx hb dX2_shift_113 (lv_at hl 6 rfl) ?_
    refine lv_iload hx hb dX2_shift_115 (lv_at hl 5 rfl) ?_
    refine lv_icmp_ge (tgt := 147) hx hb dX2_shift_117 (by decide) (fun b1 => ?_) (fun b1 => ?_)
    · replace hf := hf.1 b1
      refine lv_iconst (v := 0) hx hb dX2_shift_147 rfl ?_
      refine lv_istore (lv' := [(6, .int (0 : Int32)), (0, .ref r.2.1), (1, .int x1), (2, .int x2), (3, .int x3), (4, .int x4), (5, .int x5)]) hx hb dX2_shift_148 hl (by decide) rfl (fun ls hl => ?_)
      obtain ⟨n_, hf⟩ := hf
      exact w_X2_shift_150 K hr n_ _ _ _ _ _ hf _ _ _ hM (lv_sub hl [1, 4, 5, 6, 0] rfl)
    · replace hf := hf.2 b1
      refine lv_aload_n hx hb dX2_shift_120 rfl (lv_at hl 0 rfl) ?_
      refine g_geta K kM hM 54 rfl q1507 rfl dX2_shift_121 rfl ?_
      refine lv_iload hx hb dX2_shift_124 (lv_at hl 6 rfl) ?_
      refine lv_aload_n hx hb dX2_shift_126 rfl (lv_at hl 0 rfl) ?_
      refine g_geta K kM hM 53 rfl q1506 rfl dX2_shift_127 rfl ?_
      refine lv_bipush (v := 60) hx hb dX2_shift_130 rfl ?_
      refine lv_iload_n hx hb dX2_shift_132 rfl (lv_at hl 1 rfl) ?_
      refine lv_imul hx hb dX2_shift_133 ?_
      refine lv_iload_n hx hb dX2_shift_134 rfl (lv_at hl 2 rfl) ?_
      refine lv_iadd hx hb dX2_shift_135 ?_
      refine lv_iload hx hb dX2_shift_136 (lv_at hl 6 rfl) ?_
      refine lv_iadd hx hb dX2_shift_138 ?_
      obtain ⟨g2, hf⟩ := hf
      refine g_lald K hM 53 rfl rfl rfl g2 dX2_shift_139 ?_
      obtain ⟨g3, hf⟩ := hf
      refine g_lastN K hM 54 rfl rfl rfl g3 dX2_shift_140 (fun H locs σ4 hσ4 hM => ?_)
      have hf := hf σ4 hσ4
      refine lv_iinc (v := x6 + 1) (lv' := [(6, .int (x6 + 1)), (0, .ref r.2.1), (1, .int x1), (2, .int x2), (3, .int x3), (4, .int x4), (5, .int x5)]) hx hb dX2_shift_141 hl (k := 6) rfl rfl (by decide) rfl (fun ls hl => ?_)
      refine lv_goto (tgt := 113) hx hb dX2_shift_144 (by decide) ?_
      exact ih _ _ _ _ _ _ _ hf _ _ _ hM (lv_sub hl [1, 2, 3, 4, 5, 6, 0] rfl)
theorem c_X2_shift (l : Launch) (r : GR) (A : Nat → Prop) (σ : GS) (x1 : Int32) (x2 : Int32) (x3 : Int32) (x4 : Int32) (x5 : Int32) (P : GS → Int32 → Prop) (hf : f_X2_shift σ x1 x2 x3 x4 x5 P) : gMet dM l yX2_shift cX2_shift 7 (some .int) 2 45 0 0 r A σ [.ref r.2.1, .int x1, .int x2, .int x3, .int x4, .int x5] (zI P) := by
  refine g_enter (lv := [(0, .ref r.2.1), (1, .int x1), (2, .int x2), (3, .int x3), (4, .int x4), (5, .int x5)]) (by decide) (Nat.le_of_ble_eq_true rfl) rfl ?_
  intro p e s m below meth c ls K hr hM hl _
  obtain ⟨hx, hb, hml, hown, hts, hlk, hKK, hA⟩ := id K
  unfold f_X2_shift at hf
  refine lv_iload_n hx hb dX2_shift_0 rfl (lv_at hl 1 rfl) ?_
  refine g_cSi [.int x1] [] K hM hl (c_X2_isShelf l r A _ _ _ hf) q1648 q1649 q84 q1650 hdX2_isShelf ⟨Nat.le_of_ble_eq_true rfl, Nat.le_of_ble_eq_true rfl⟩ ⟨Nat.le_refl _, Nat.le_refl _⟩ rfl (Nat.le_of_ble_eq_true rfl) dX2_shift_1 (fun σ1 v2 H locs hf hM => ?_)
  refine lv_if_eq (tgt := 14) hx hb dX2_shift_4 (by decide) (fun b3 => ?_) (fun b3 => ?_)
  · replace hf := hf.1 b3
    refine lv_iconst (v := -1) hx hb dX2_shift_14 rfl ?_
    exact g_reti K hr hM ⟨Nat.le_refl _, Nat.le_refl _⟩ hf dX2_shift_15
  · replace hf := hf.2 b3
    refine lv_iload_n hx hb dX2_shift_7 rfl (lv_at hl 3 rfl) ?_
    refine g_cSi [.int x3] [] K hM hl (c_X2_isShelf l r A _ _ _ hf) q1648 q1649 q84 q1650 hdX2_isShelf ⟨Nat.le_of_ble_eq_true rfl, Nat.le_of_ble_eq_true rfl⟩ ⟨Nat.le_refl _, Nat.le_refl _⟩ rfl (Nat.le_of_ble_eq_true rfl) dX2_shift_8 (fun σ4 v5 H locs hf hM => ?_)
    refine lv_if_ne (tgt := 16) hx hb dX2_shift_11 (by decide) (fun b6 => ?_) (fun b6 => ?_)
    · replace hf := hf.2 b6
      refine lv_aload_n hx hb dX2_shift_16 rfl (lv_at hl 0 rfl) ?_
      refine g_geta K kM hM 51 rfl q1504 rfl dX2_shift_17 rfl ?_
      refine lv_iload_n hx hb dX2_shift_20 rfl (lv_at hl 1 rfl) ?_
      obtain ⟨g7, hf⟩ := hf
      refine g_iald K hM 51 rfl rfl rfl g7 dX2_shift_21 ?_
      refine lv_if_lt (tgt := 34) hx hb dX2_shift_22 (by decide) (fun b8 => ?_) (fun b8 => ?_)
      · replace hf := hf.1 b8
        refine lv_bipush (v := -11) hx hb dX2_shift_34 rfl ?_
        exact g_reti K hr hM ⟨Nat.le_refl _, Nat.le_refl _⟩ hf dX2_shift_36
      · replace hf := hf.2 b8
        refine lv_aload_n hx hb dX2_shift_25 rfl (lv_at hl 0 rfl) ?_
        refine g_geta K kM hM 51 rfl q1504 rfl dX2_shift_26 rfl ?_
        refine lv_iload_n hx hb dX2_shift_29 rfl (lv_at hl 3 rfl) ?_
        obtain ⟨g9, hf⟩ := hf
        refine g_iald K hM 51 rfl rfl rfl g9 dX2_shift_30 ?_
        refine lv_if_ge (tgt := 37) hx hb dX2_shift_31 (by decide) (fun b10 => ?_) (fun b10 => ?_)
        · replace hf := hf.1 b10
          refine lv_aload_n hx hb dX2_shift_37 rfl (lv_at hl 0 rfl) ?_
          refine g_geta K kM hM 51 rfl q1504 rfl dX2_shift_38 rfl ?_
          refine lv_iload_n hx hb dX2_shift_41 rfl (lv_at hl 1 rfl) ?_
          obtain ⟨g11, hf⟩ := hf
          refine g_iald K hM 51 rfl rfl rfl g11 dX2_shift_42 ?_
          refine lv_bipush (v := 50) hx hb dX2_shift_43 rfl ?_
          refine lv_icmp_lt (tgt := 63) hx hb dX2_shift_45 (by decide) (fun b12 => ?_) (fun b12 => ?_)
          · replace hf := hf.1 b12
            refine lv_bipush (v := -12) hx hb dX2_shift_63 rfl ?_
            exact g_reti K hr hM ⟨Nat.le_refl _, Nat.le_refl _⟩ hf dX2_shift_65
          · replace hf := hf.2 b12
            refine lv_aload_n hx hb dX2_shift_48 rfl (lv_at hl 0 rfl) ?_
            refine g_geta K kM hM 51 rfl q1504 rfl dX2_shift_49 rfl ?_
            refine lv_iload_n hx hb dX2_shift_52 rfl (lv_at hl 1 rfl) ?_
            obtain ⟨g13, hf⟩ := hf
            refine g_iald K hM 51 rfl rfl rfl g13 dX2_shift_53 ?_
            refine lv_aload_n hx hb dX2_shift_54 rfl (lv_at hl 0 rfl) ?_
            refine g_geta K kM hM 51 rfl q1504 rfl dX2_shift_55 rfl ?_
            refine lv_iload_n hx hb dX2_shift_58 rfl (lv_at hl 3 rfl) ?_
            obtain ⟨g14, hf⟩ := hf
            refine g_iald K hM 51 rfl rfl rfl g14 dX2_shift_59 ?_
            refine lv_icmp_eq (tgt := 66) hx hb dX2_shift_60 (by decide) (fun b15 => ?_) (fun b15 => ?_)
            · replace hf := hf.1 b15
              refine lv_iload hx hb dX2_shift_66 (lv_at hl 5 rfl) ?_
              refine lv_if_lt (tgt := 107) hx hb dX2_shift_68 (by decide) (fun b16 => ?_) (fun b16 => ?_)
              · replace hf := hf.1 b16
                refine lv_bipush (v := -13) hx hb dX2_shift_107 rfl ?_
                exact g_reti K hr hM ⟨Nat.le_refl _, Nat.le_refl _⟩ hf dX2_shift_109
              · replace hf := hf.2 b16
                refine lv_iload_n hx hb dX2_shift_71 rfl (lv_at hl 2 rfl) ?_
                refine lv_if_lt (tgt := 107) hx hb dX2_shift_72 (by decide) (fun b17 => ?_) (fun b17 => ?_)
                · replace hf := hf.1 b17
                  refine lv_bipush (v := -13) hx hb dX2_shift_107 rfl ?_
                  exact g_reti K hr hM ⟨Nat.le_refl _, Nat.le_refl _⟩ hf dX2_shift_109
                · replace hf := hf.2 b17
                  refine lv_iload hx hb dX2_shift_75 (lv_at hl 4 rfl) ?_
                  refine lv_if_lt (tgt := 107) hx hb dX2_shift_77 (by decide) (fun b18 => ?_) (fun b18 => ?_)
                  · replace hf := hf.1 b18
                    refine lv_bipush (v := -13) hx hb dX2_shift_107 rfl ?_
                    exact g_reti K hr hM ⟨Nat.le_refl _, Nat.le_refl _⟩ hf dX2_shift_109
                  · replace hf := hf.2 b18
                    refine lv_iload_n hx hb dX2_shift_80 rfl (lv_at hl 2 rfl) ?_
                    refine lv_aload_n hx hb dX2_shift_81 rfl (lv_at hl 0 rfl) ?_
                    refine g_geta K kM hM 52 rfl q1505 rfl dX2_shift_82 rfl ?_
                    refine lv_iload_n hx hb dX2_shift_85 rfl (lv_at hl 1 rfl) ?_
                    obtain ⟨g19, hf⟩ := hf
                    refine g_iald K hM 52 rfl rfl rfl g19 dX2_shift_86 ?_
                    refine lv_iload hx hb dX2_shift_87 (lv_at hl 5 rfl) ?_
                    refine lv_isub hx hb dX2_shift_89 ?_
                    refine lv_icmp_gt (tgt := 107) hx hb dX2_shift_90 (by decide) (fun b20 => ?_) (fun b20 => ?_)
                    · replace hf := hf.1 b20
                      refine lv_bipush (v := -13) hx hb dX2_shift_107 rfl ?_
                      exact g_reti K hr hM ⟨Nat.le_refl _, Nat.le_refl _⟩ hf dX2_shift_109
                    · replace hf := hf.2 b20
                      refine lv_iload hx hb dX2_shift_93 (lv_at hl 4 rfl) ?_
                      refine lv_aload_n hx hb dX2_shift_95 rfl (lv_at hl 0 rfl) ?_
                      refine g_geta K kM hM 52 rfl q1505 rfl dX2_shift_96 rfl ?_
                      refine lv_iload_n hx hb dX2_shift_99 rfl (lv_at hl 3 rfl) ?_
                      obtain ⟨g21, hf⟩ := hf
                      refine g_iald K hM 52 rfl rfl rfl g21 dX2_shift_100 ?_
                      refine lv_iload hx hb dX2_shift_101 (lv_at hl 5 rfl) ?_
                      refine lv_isub hx hb dX2_shift_103 ?_
                      refine lv_icmp_le (tgt := 110) hx hb dX2_shift_104 (by decide) (fun b22 => ?_) (fun b22 => ?_)
                      · replace hf := hf.1 b22
                        refine lv_iconst (v := 0) hx hb dX2_shift_110 rfl ?_
                        refine lv_istore (lv' := [(6, .int (0 : Int32)), (0, .ref r.2.1), (1, .int x1), (2, .int x2), (3, .int x3), (4, .int x4), (5, .int x5)]) hx hb dX2_shift_111 hl (by decide) rfl (fun ls hl => ?_)
                        obtain ⟨n_, hf⟩ := hf
                        exact w_X2_shift_113 K hr n_ _ _ _ _ _ _ _ hf _ _ _ hM (lv_sub hl [1, 2, 3, 4, 5, 6, 0] rfl)
                      · replace hf := hf.2 b22
                        refine lv_bipush (v := -13) hx hb dX2_shift_107 rfl ?_
                        exact g_reti K hr hM ⟨Nat.le_refl _, Nat.le_refl _⟩ hf dX2_shift_109
            · replace hf := hf.2 b15
              refine lv_bipush (v := -12) hx hb dX2_shift_63 rfl ?_
              exact g_reti K hr hM ⟨Nat.le_refl _, Nat.le_refl _⟩ hf dX2_shift_65
        · replace hf := hf.2 b10
          refine lv_bipush (v := -11) hx hb dX2_shift_34 rfl ?_
          exact g_reti K hr hM ⟨Nat.le_refl _, Nat.le_refl _⟩ hf dX2_shift_36
    · replace hf := hf.1 b6
      refine lv_iconst (v := -1) hx hb dX2_shift_14 rfl ?_
      exact g_reti K hr hM ⟨Nat.le_refl _, Nat.le_refl _⟩ hf dX2_shift_15
theorem w_X2_above_10 {p : Program} {l : Launch} {e : Env} {s : State} {m : MethodId} {args : Array Value} {below : List Frame} {meth : Method} {c : Code} {r : GR} {A : Nat → Prop} {P : GS → Int32 → Prop} (K : gC p s m args meth c cX2_above 1 RX2 r A) (hr : meth.sig.returnType = (some .int)) : ∀ (σ : GS), f_X2_above_10 P σ → gW dM p l e (gRm 0 0 0 0) s m args below meth c r A (zI P) 0 0 1 10 [] [] 0 0 σ := by
  obtain ⟨hx, hb, hml, hown, hts, hlk, hKK, hA⟩ := id K
  intro σ hf H locs ls hM hl
  unfold f_X2_above_10 at hf
  refine lv_iconst (v := 2) hx hb dX2_above_10 rfl ?_
  refine lv_goto (tgt := 34) hx hb dX2_above_11 (by decide) ?_
  exact g_reti K hr hM ⟨Nat.le_refl _, Nat.le_refl _⟩ hf dX2_above_34
theorem c_X2_above (l : Launch) (r : GR) (A : Nat → Prop) (σ : GS) (x0 : Int32) (P : GS → Int32 → Prop) (hf : f_X2_above σ x0 P) : gMet dM l yX2_above cX2_above 1 (some .int) 0 0 0 0 r A σ [.int x0] (zI P) := by
  refine g_enter (lv := [(0, .int x0)]) (by decide) (Nat.le_of_ble_eq_true rfl) rfl ?_
  intro p e s m below meth c ls K hr hM hl _
  obtain ⟨hx, hb, hml, hown, hts, hlk, hKK, hA⟩ := id K
  unfold f_X2_above at hf
  refine lv_iload_n hx hb dX2_above_0 rfl (lv_at hl 0 rfl) ?_
  refine lv_iconst (v := 3) hx hb dX2_above_1 rfl ?_
  refine lv_icmp_eq (tgt := 10) hx hb dX2_above_2 (by decide) (fun b1 => ?_) (fun b1 => ?_)
  · replace hf := hf.1 b1
    exact w_X2_above_10 K hr _ hf _ _ _ hM (lv_sub hl [] rfl)
  · replace hf := hf.2 b1
    refine lv_iload_n hx hb dX2_above_5 rfl (lv_at hl 0 rfl) ?_
    refine lv_iconst (v := 4) hx hb dX2_above_6 rfl ?_
    refine lv_icmp_ne (tgt := 14) hx hb dX2_above_7 (by decide) (fun b2 => ?_) (fun b2 => ?_)
    · replace hf := hf.2 b2
      refine lv_iload_n hx hb dX2_above_14 rfl (lv_at hl 0 rfl) ?_
      refine lv_iconst (v := 5) hx hb dX2_above_15 rfl ?_
      refine lv_icmp_ne (tgt := 23) hx hb dX2_above_16 (by decide) (fun b3 => ?_) (fun b3 => ?_)
      · replace hf := hf.2 b3
        refine lv_iload_n hx hb dX2_above_23 rfl (lv_at hl 0 rfl) ?_
        refine lv_bipush (v := 7) hx hb dX2_above_24 rfl ?_
        refine lv_icmp_ne (tgt := 33) hx hb dX2_above_26 (by decide) (fun b4 => ?_) (fun b4 => ?_)
        · replace hf := hf.2 b4
          refine lv_iconst (v := 0) hx hb dX2_above_33 rfl ?_
          exact g_reti K hr hM ⟨Nat.le_refl _, Nat.le_refl _⟩ hf dX2_above_34
        · replace hf := hf.1 b4
          refine lv_iconst (v := 4) hx hb dX2_above_29 rfl ?_
          refine lv_goto (tgt := 34) hx hb dX2_above_30 (by decide) ?_
          exact g_reti K hr hM ⟨Nat.le_refl _, Nat.le_refl _⟩ hf dX2_above_34
      · replace hf := hf.1 b3
        refine lv_iconst (v := 3) hx hb dX2_above_19 rfl ?_
        refine lv_goto (tgt := 34) hx hb dX2_above_20 (by decide) ?_
        exact g_reti K hr hM ⟨Nat.le_refl _, Nat.le_refl _⟩ hf dX2_above_34
    · replace hf := hf.1 b2
      exact w_X2_above_10 K hr _ hf _ _ _ hM (lv_sub hl [] rfl)
theorem c_X2_kindOf (l : Launch) (r : GR) (A : Nat → Prop) (σ : GS) (x1 : Int32) (P : GS → Int32 → Prop) (hf : f_X2_kindOf σ x1 P) : gMet dM l yX2_kindOf cX2_kindOf 2 (some .int) 0 0 0 0 r A σ [.ref r.2.1, .int x1] (zI P) := by
  refine g_enter (lv := [(0, .ref r.2.1), (1, .int x1)]) (by decide) (Nat.le_of_ble_eq_true rfl) rfl ?_
  intro p e s m below meth c ls K hr hM hl _
  obtain ⟨hx, hb, hml, hown, hts, hlk, hKK, hA⟩ := id K
  unfold f_X2_kindOf at hf
  refine lv_aload_n hx hb dX2_kindOf_0 rfl (lv_at hl 0 rfl) ?_
  refine g_geta K kM hM 46 rfl q1499 rfl dX2_kindOf_1 rfl ?_
  refine lv_iload_n hx hb dX2_kindOf_4 rfl (lv_at hl 1 rfl) ?_
  obtain ⟨g1, hf⟩ := hf
  refine g_iald K hM 46 rfl rfl rfl g1 dX2_kindOf_5 ?_
  exact g_reti K hr hM ⟨Nat.le_refl _, Nat.le_refl _⟩ hf dX2_kindOf_6
theorem w_X2_taken_75 {p : Program} {l : Launch} {e : Env} {s : State} {m : MethodId} {args : Array Value} {below : List Frame} {meth : Method} {c : Code} {r : GR} {A : Nat → Prop} {P : GS → Int32 → Prop} (K : gC p s m args meth c cX2_taken 4 RX2 r A) (hr : meth.sig.returnType = (some .int)) : ∀ (σ : GS) (x1 : Int32) (x2 : Int32) (x3 : Int32), f_X2_taken_75 P σ x1 x2 x3 → gW dM p l e (gRm 2 45 0 0) s m args below meth c r A (zI P) 0 0 4 75 [(0, .ref r.2.1), (1, .int x1), (2, .int x2), (3, .int x3)] [] 0 0 σ := by
  obtain ⟨hx, hb, hml, hown, hts, hlk, hKK, hA⟩ := id K
  intro σ x1 x2 x3 hf H locs ls hM hl
  unfold f_X2_taken_75 at hf
  refine lv_iload_n hx hb dX2_taken_75 rfl (lv_at hl 3 rfl) ?_
  refine lv_iload_n hx hb dX2_taken_76 rfl (lv_at hl 2 rfl) ?_
  refine lv_icmp_ne (tgt := 93) hx hb dX2_taken_77 (by decide) (fun b1 => ?_) (fun b1 => ?_)
  · replace hf := hf.2 b1
    refine lv_bipush (v := -12) hx hb dX2_taken_93 rfl ?_
    exact g_reti K hr hM ⟨Nat.le_refl _, Nat.le_refl _⟩ hf dX2_taken_95
  · replace hf := hf.1 b1
    refine lv_aload_n hx hb dX2_taken_80 rfl (lv_at hl 0 rfl) ?_
    refine lv_aload_n hx hb dX2_taken_81 rfl (lv_at hl 0 rfl) ?_
    refine g_geta K kM hM 51 rfl q1504 rfl dX2_taken_82 rfl ?_
    refine lv_iload_n hx hb dX2_taken_85 rfl (lv_at hl 1 rfl) ?_
    obtain ⟨g2, hf⟩ := hf
    refine g_iald K hM 51 rfl rfl rfl g2 dX2_taken_86 ?_
    refine g_cVi [.int (gA σ 51 x1.toNatClampNeg)] [] K kM hM hl (c_X2_kindOf l r A _ _ _ hf) q1978 q1980 qs80 q84 q1981 hdX2_kindOf ⟨Nat.le_of_ble_eq_true rfl, Nat.le_of_ble_eq_true rfl⟩ ⟨Nat.le_refl _, Nat.le_refl _⟩ rfl (Nat.le_of_ble_eq_true rfl) dX2_taken_87 (fun σ3 v4 H locs hf hM => ?_)
    refine lv_goto (tgt := 95) hx hb dX2_taken_90 (by decide) ?_
    exact g_reti K hr hM ⟨Nat.le_refl _, Nat.le_refl _⟩ hf dX2_taken_95
theorem w_X2_taken_58 {p : Program} {l : Launch} {e : Env} {s : State} {m : MethodId} {args : Array Value} {below : List Frame} {meth : Method} {c : Code} {r : GR} {A : Nat → Prop} {P : GS → Int32 → Prop} (K : gC p s m args meth c cX2_taken 4 RX2 r A) (hr : meth.sig.returnType = (some .int)) : ∀ (n : Nat) (σ : GS) (x1 : Int32) (x2 : Int32) (x3 : Int32), f_X2_taken_58 P n σ x1 x2 x3 → gW dM p l e (gRm 2 45 0 0) s m args below meth c r A (zI P) 0 0 4 58 [(0, .ref r.2.1), (1, .int x1), (2, .int x2), (3, .int x3)] [] 0 0 σ := by
  obtain ⟨hx, hb, hml, hown, hts, hlk, hKK, hA⟩ := id K
  intro n
  induction n with
  | zero =>
    intro σ x1 x2 x3 hf
    exact absurd hf (fun h => h)
  | succ n ih =>
    intro σ x1 x2 x3 hf H locs ls hM hl
    rw [f_X2_taken_58] at hf
    refine lv_iload_n hx hb dX2_taken_58 rfl (lv_at hl 3 rfl) ?_
    refine lv_iload_n hx hb dX2_taken_59 rfl (lv_at hl 2 rfl) ?_
    refine lv_icmp_eq (tgt := 75) hx hb dX2_taken_60 (by decide) (fun b1 => ?_) (fun b1 => ?_)
    · replace hf := hf.1 b1
      exact w_X2_taken_75 K hr _ _ _ _ hf _ _ _ hM (lv_sub hl [0, 1, 2, 3] rfl)
    · replace hf := hf.2 b1
      refine lv_iload_n hx hb dX2_taken_63 rfl (lv_at hl 3 rfl) ?_
      refine lv_if_le (tgt := 75) hx hb dX2_taken_64 (by decide) (fun b2 => ?_) (fun b2 => ?_)
      · replace hf := hf.1 b2
        exact w_X2_taken_75 K hr _ _ _ _ hf _ _ _ hM (lv_sub hl [0, 1, 2, 3] rfl)
      · replace hf := hf.2 b2
        refine lv_iload_n hx hb dX2_taken_67 rfl (lv_at hl 3 rfl) ?_
        refine g_cSi [.int x3] [] K hM hl (c_X2_above l r A _ _ _ hf) q1982 q1983 q84 q1984 hdX2_above ⟨Nat.le_of_ble_eq_true rfl, Nat.le_of_ble_eq_true rfl⟩ ⟨Nat.le_refl _, Nat.le_refl _⟩ rfl (Nat.le_of_ble_eq_true rfl) dX2_taken_68 (fun σ3 v4 H locs hf hM => ?_)
        refine lv_istore_n (lv' := [(3, .int v4), (0, .ref r.2.1), (1, .int x1), (2, .int x2)]) hx hb dX2_taken_71 rfl hl (by decide) rfl (fun ls hl => ?_)
        refine lv_goto (tgt := 58) hx hb dX2_taken_72 (by decide) ?_
        exact ih _ _ _ _ hf _ _ _ hM (lv_sub hl [1, 2, 3, 0] rfl)
theorem c_X2_taken (l : Launch) (r : GR) (A : Nat → Prop) (σ : GS) (x1 : Int32) (x2 : Int32) (P : GS → Int32 → Prop) (hf : f_X2_taken σ x1 x2 P) : gMet dM l yX2_taken cX2_taken 4 (some .int) 2 45 0 0 r A σ [.ref r.2.1, .int x1, .int x2] (zI P) := by
  refine g_enter (lv := [(0, .ref r.2.1), (1, .int x1), (2, .int x2)]) (by decide) (Nat.le_of_ble_eq_true rfl) rfl ?_
  intro p e s m below meth c ls K hr hM hl _
  obtain ⟨hx, hb, hml, hown, hts, hlk, hKK, hA⟩ := id K
  unfold f_X2_taken at hf
  refine lv_iload_n hx hb dX2_taken_0 rfl (lv_at hl 1 rfl) ?_
  refine g_cSi [.int x1] [] K hM hl (c_X2_isShelf l r A _ _ _ hf) q1648 q1649 q84 q1650 hdX2_isShelf ⟨Nat.le_of_ble_eq_true rfl, Nat.le_of_ble_eq_true rfl⟩ ⟨Nat.le_refl _, Nat.le_refl _⟩ rfl (Nat.le_of_ble_eq_true rfl) dX2_taken_1 (fun σ1 v2 H locs hf hM => ?_)
  refine lv_if_eq (tgt := 19) hx hb dX2_taken_4 (by decide) (fun b3 => ?_) (fun b3 => ?_)
  · replace hf := hf.1 b3
    refine lv_iconst (v := -1) hx hb dX2_taken_19 rfl ?_
    exact g_reti K hr hM ⟨Nat.le_refl _, Nat.le_refl _⟩ hf dX2_taken_20
  · replace hf := hf.2 b3
    refine lv_iload_n hx hb dX2_taken_7 rfl (lv_at hl 2 rfl) ?_
    refine lv_i2l hx hb dX2_taken_8 rfl ?_
    refine lv_lconst (v := 0) hx hb dX2_taken_9 rfl ?_
    refine lv_ldc2 hx hb hown (hts _ q1913) dX2_taken_10 ?_
    refine g_cSi [.long x2.toInt64, .long (0 : Int64), .long (7 : Int64)] [] K hM hl (c_X2_within l r A _ _ _ _ _ hf) q1632 q1633 q84 q1634 hdX2_within ⟨Nat.le_of_ble_eq_true rfl, Nat.le_of_ble_eq_true rfl⟩ ⟨Nat.le_refl _, Nat.le_refl _⟩ rfl (Nat.le_of_ble_eq_true rfl) dX2_taken_13 (fun σ4 v5 H locs hf hM => ?_)
    refine lv_if_ne (tgt := 21) hx hb dX2_taken_16 (by decide) (fun b6 => ?_) (fun b6 => ?_)
    · replace hf := hf.2 b6
      refine lv_aload_n hx hb dX2_taken_21 rfl (lv_at hl 0 rfl) ?_
      refine g_geta K kM hM 51 rfl q1504 rfl dX2_taken_22 rfl ?_
      refine lv_iload_n hx hb dX2_taken_25 rfl (lv_at hl 1 rfl) ?_
      obtain ⟨g7, hf⟩ := hf
      refine g_iald K hM 51 rfl rfl rfl g7 dX2_taken_26 ?_
      refine lv_if_ge (tgt := 33) hx hb dX2_taken_27 (by decide) (fun b8 => ?_) (fun b8 => ?_)
      · replace hf := hf.1 b8
        refine lv_aload_n hx hb dX2_taken_33 rfl (lv_at hl 0 rfl) ?_
        refine g_geta K kM hM 51 rfl q1504 rfl dX2_taken_34 rfl ?_
        refine lv_iload_n hx hb dX2_taken_37 rfl (lv_at hl 1 rfl) ?_
        obtain ⟨g9, hf⟩ := hf
        refine g_iald K hM 51 rfl rfl rfl g9 dX2_taken_38 ?_
        refine lv_bipush (v := 50) hx hb dX2_taken_39 rfl ?_
        refine lv_icmp_lt (tgt := 47) hx hb dX2_taken_41 (by decide) (fun b10 => ?_) (fun b10 => ?_)
        · replace hf := hf.1 b10
          refine lv_aload_n hx hb dX2_taken_47 rfl (lv_at hl 0 rfl) ?_
          refine lv_aload_n hx hb dX2_taken_48 rfl (lv_at hl 0 rfl) ?_
          refine g_geta K kM hM 51 rfl q1504 rfl dX2_taken_49 rfl ?_
          refine lv_iload_n hx hb dX2_taken_52 rfl (lv_at hl 1 rfl) ?_
          obtain ⟨g11, hf⟩ := hf
          refine g_iald K hM 51 rfl rfl rfl g11 dX2_taken_53 ?_
          refine g_cVi [.int (gA σ4 51 x1.toNatClampNeg)] [] K kM hM hl (c_X2_kindOf l r A _ _ _ hf) q1978 q1980 qs80 q84 q1981 hdX2_kindOf ⟨Nat.le_of_ble_eq_true rfl, Nat.le_of_ble_eq_true rfl⟩ ⟨Nat.le_refl _, Nat.le_refl _⟩ rfl (Nat.le_of_ble_eq_true rfl) dX2_taken_54 (fun σ12 v13 H locs hf hM => ?_)
          refine lv_istore_n (lv' := [(3, .int v13), (0, .ref r.2.1), (1, .int x1), (2, .int x2)]) hx hb dX2_taken_57 rfl hl (by decide) rfl (fun ls hl => ?_)
          obtain ⟨n_, hf⟩ := hf
          exact w_X2_taken_58 K hr n_ _ _ _ _ hf _ _ _ hM (lv_sub hl [1, 2, 3, 0] rfl)
        · replace hf := hf.2 b10
          refine lv_bipush (v := -12) hx hb dX2_taken_44 rfl ?_
          exact g_reti K hr hM ⟨Nat.le_refl _, Nat.le_refl _⟩ hf dX2_taken_46
      · replace hf := hf.2 b8
        refine lv_bipush (v := -11) hx hb dX2_taken_30 rfl ?_
        exact g_reti K hr hM ⟨Nat.le_refl _, Nat.le_refl _⟩ hf dX2_taken_32
    · replace hf := hf.1 b6
      refine lv_iconst (v := -1) hx hb dX2_taken_19 rfl ?_
      exact g_reti K hr hM ⟨Nat.le_refl _, Nat.le_refl _⟩ hf dX2_taken_20
theorem c_X2_count (l : Launch) (r : GR) (A : Nat → Prop) (σ : GS) (x1 : Int32) (P : GS → Int32 → Prop) (hf : f_X2_count σ x1 P) : gMet dM l yX2_count cX2_count 2 (some .int) 0 0 0 0 r A σ [.ref r.2.1, .int x1] (zI P) := by
  refine g_enter (lv := [(0, .ref r.2.1), (1, .int x1)]) (by decide) (Nat.le_of_ble_eq_true rfl) rfl ?_
  intro p e s m below meth c ls K hr hM hl _
  obtain ⟨hx, hb, hml, hown, hts, hlk, hKK, hA⟩ := id K
  unfold f_X2_count at hf
  refine lv_iload_n hx hb dX2_count_0 rfl (lv_at hl 1 rfl) ?_
  by_cases b1_0 : x1 = (0 : Int32)
  · replace hf := hf.1 b1_0
    refine lv_tableIn (off := 43) (tgt := 44) hx hb dX2_count_1 (by rw [b1_0]; decide) (by rw [b1_0]; decide) (by rw [b1_0]; rfl) (by decide) ?_
    refine lv_aload_n hx hb dX2_count_44 rfl (lv_at hl 0 rfl) ?_
    refine g_geti K kM hM 6 rfl q1459 rfl dX2_count_45 rfl ?_
    exact g_reti K hr hM ⟨Nat.le_refl _, Nat.le_refl _⟩ hf dX2_count_48
  replace hf := hf.2 b1_0
  by_cases b1_1 : x1 = (1 : Int32)
  · replace hf := hf.1 b1_1
    refine lv_tableIn (off := 48) (tgt := 49) hx hb dX2_count_1 (by rw [b1_1]; decide) (by rw [b1_1]; decide) (by rw [b1_1]; rfl) (by decide) ?_
    refine lv_aload_n hx hb dX2_count_49 rfl (lv_at hl 0 rfl) ?_
    refine g_geti K kM hM 8 rfl q1461 rfl dX2_count_50 rfl ?_
    exact g_reti K hr hM ⟨Nat.le_refl _, Nat.le_refl _⟩ hf dX2_count_53
  replace hf := hf.2 b1_1
  by_cases b1_2 : x1 = (2 : Int32)
  · replace hf := hf.1 b1_2
    refine lv_tableIn (off := 53) (tgt := 54) hx hb dX2_count_1 (by rw [b1_2]; decide) (by rw [b1_2]; decide) (by rw [b1_2]; rfl) (by decide) ?_
    refine lv_aload_n hx hb dX2_count_54 rfl (lv_at hl 0 rfl) ?_
    refine g_geti K kM hM 15 rfl q1468 rfl dX2_count_55 rfl ?_
    exact g_reti K hr hM ⟨Nat.le_refl _, Nat.le_refl _⟩ hf dX2_count_58
  replace hf := hf.2 b1_2
  by_cases b1_3 : x1 = (3 : Int32)
  · replace hf := hf.1 b1_3
    refine lv_tableIn (off := 58) (tgt := 59) hx hb dX2_count_1 (by rw [b1_3]; decide) (by rw [b1_3]; decide) (by rw [b1_3]; rfl) (by decide) ?_
    refine lv_aload_n hx hb dX2_count_59 rfl (lv_at hl 0 rfl) ?_
    refine g_geti K kM hM 14 rfl q1467 rfl dX2_count_60 rfl ?_
    exact g_reti K hr hM ⟨Nat.le_refl _, Nat.le_refl _⟩ hf dX2_count_63
  replace hf := hf.2 b1_3
  by_cases b1_4 : x1 = (4 : Int32)
  · replace hf := hf.1 b1_4
    refine lv_tableIn (off := 63) (tgt := 64) hx hb dX2_count_1 (by rw [b1_4]; decide) (by rw [b1_4]; decide) (by rw [b1_4]; rfl) (by decide) ?_
    refine lv_aload_n hx hb dX2_count_64 rfl (lv_at hl 0 rfl) ?_
    refine g_geti K kM hM 5 rfl q1458 rfl dX2_count_65 rfl ?_
    exact g_reti K hr hM ⟨Nat.le_refl _, Nat.le_refl _⟩ hf dX2_count_68
  replace hf := hf.2 b1_4
  by_cases b1_5 : x1 = (5 : Int32)
  · replace hf := hf.1 b1_5
    refine lv_tableIn (off := 68) (tgt := 69) hx hb dX2_count_1 (by rw [b1_5]; decide) (by rw [b1_5]; decide) (by rw [b1_5]; rfl) (by decide) ?_
    refine lv_aload_n hx hb dX2_count_69 rfl (lv_at hl 0 rfl) ?_
    refine g_geti K kM hM 45 rfl q1498 rfl dX2_count_70 rfl ?_
    exact g_reti K hr hM ⟨Nat.le_refl _, Nat.le_refl _⟩ hf dX2_count_73
  replace hf := hf.2 b1_5
  by_cases b1_6 : x1 = (6 : Int32)
  · replace hf := hf.1 b1_6
    refine lv_tableIn (off := 73) (tgt := 74) hx hb dX2_count_1 (by rw [b1_6]; decide) (by rw [b1_6]; decide) (by rw [b1_6]; rfl) (by decide) ?_
    refine lv_aload_n hx hb dX2_count_74 rfl (lv_at hl 0 rfl) ?_
    refine g_geti K kM hM 48 rfl q1501 rfl dX2_count_75 rfl ?_
    exact g_reti K hr hM ⟨Nat.le_refl _, Nat.le_refl _⟩ hf dX2_count_78
  replace hf := hf.2 b1_6
  refine lv_tableOut (tgt := 79) hx hb dX2_count_1 (by have := lv_neT (a := 0) b1_0 rfl; have := lv_neT (a := 1) b1_1 rfl; have := lv_neT (a := 2) b1_2 rfl; have := lv_neT (a := 3) b1_3 rfl; have := lv_neT (a := 4) b1_4 rfl; have := lv_neT (a := 5) b1_5 rfl; have := lv_neT (a := 6) b1_6 rfl; omega) (by decide) ?_
  refine lv_iconst (v := -1) hx hb dX2_count_79 rfl ?_
  exact g_reti K hr hM ⟨Nat.le_refl _, Nat.le_refl _⟩ hf dX2_count_80

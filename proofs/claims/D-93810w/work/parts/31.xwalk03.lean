set_option maxRecDepth 100000
set_option maxHeartbeats 4000000
theorem w_X0_set_19 {p : Program} {l : Launch} {e : Env} {s : State} {m : MethodId} {args : Array Value} {below : List Frame} {meth : Method} {c : Code} {r : GR} {A : Nat → Prop} {B S : Nat} {P : GS → Int32 → Prop} (K : gC p s m args meth c cX0_set 3 RX0 r A) (hr : meth.sig.returnType = (some .int)) : ∀ (n : Nat) (bc bs cells slots : Nat) (σ : GS) (x2 : Int32), cells + bc ≤ B ∧ slots + bs ≤ S → f_X0_set_19 r P n bc bs σ x2 → gW dX p l e (gRm 208 8187 B S) s m args below meth c r A (zI P) B S 3 19 [(0, .ref r.2.1), (2, .int x2)] [] cells slots σ := by
  obtain ⟨hx, hb, hml, hown, hts, hlk, hKK, hA⟩ := id K
  intro n
  induction n with
  | zero =>
    intro bc bs cells slots σ x2 hc hf
    exact absurd hf (fun h => h)
  | succ n ih =>
    intro bc bs cells slots σ x2 hc hf H locs ls hM hl
    rw [f_X0_set_19] at hf
    refine lv_iload_n hx hb dX0_set_19 rfl (lv_at hl 1 rfl) ?_
    refine lv_aload_n hx hb dX0_set_20 rfl (lv_at hl 0 rfl) ?_
    refine g_geti K kX hM 2 rfl q163 rfl dX0_set_21 rfl ?_
    refine lv_icmp_ge (tgt := 46) hx hb dX0_set_24 (by decide) (fun b1 => ?_) (fun b1 => ?_)
    · replace hf := hf.1 b1
      refine lv_aload_n hx hb dX0_set_46 rfl (lv_at hl 0 rfl) ?_
      refine g_geti K kX hM 22 rfl q185 rfl dX0_set_47 rfl ?_
      exact g_reti K hr hM ⟨bud_ret hc.1, bud_ret hc.2⟩ hf dX0_set_50
    · replace hf := hf.2 b1
      refine lv_aload_n hx hb dX0_set_27 rfl (lv_at hl 0 rfl) ?_
      refine lv_iconst (v := 2) hx hb dX0_set_28 rfl ?_
      refine lv_iload_n hx hb dX0_set_29 rfl (lv_at hl 1 rfl) ?_
      refine lv_aload_n hx hb dX0_set_30 rfl (lv_at hl 0 rfl) ?_
      refine g_geta K kX hM 18 rfl q181 rfl dX0_set_31 rfl ?_
      refine lv_iload_n hx hb dX0_set_34 rfl (lv_at hl 1 rfl) ?_
      obtain ⟨g2, hf⟩ := hf
      refine g_iald K hM 18 rfl rfl rfl g2 dX0_set_35 ?_
      obtain ⟨c5, s6, hf⟩ := hf
      obtain ⟨b7, s8, g9, g10, hf⟩ := hf
      refine g_runi (rV [.int (2 : Int32), .int x2, .int (gA σ 18 x2.toNatClampNeg)] [] K kX hM hl (c_X0_become l r A _ _ _ _ _ _ _ hf) q491 q493 qs5 q82 q494 hdX0_become ⟨Nat.le_of_ble_eq_true rfl, Nat.le_of_ble_eq_true rfl⟩ ⟨bud_le hc.1 g9, bud_le hc.2 g10⟩ rfl (Nat.le_of_ble_eq_true rfl) dX0_set_36) hM (fun σ3 v4 H locs hf hM => ?_)
      replace hc := And.intro (bud hc.1 g9) (bud hc.2 g10)
      refine lv_pop hx hb dX0_set_39 rfl ?_
      refine lv_iinc (v := x2 + 1) (lv' := [(2, .int (x2 + 1)), (0, .ref r.2.1)]) hx hb dX0_set_40 hl (k := 1) rfl rfl (by decide) rfl (fun ls hl => ?_)
      refine lv_goto (tgt := 19) hx hb dX0_set_43 (by decide) ?_
      exact ih _ _ _ _ _ _ hc hf _ _ _ hM (lv_sub hl [1, 0] rfl)
theorem c_X0_set (l : Launch) (r : GR) (A : Nat → Prop) (bc bs : Nat) (σ : GS) (x1 : Int32) (P : GS → Int32 → Prop) (hf : f_X0_set r bc bs σ x1 P) : gMet dX l yX0_set cX0_set 3 (some .int) 208 8187 bc bs r A σ [.ref r.2.1, .int x1] (zI P) := by
  refine g_enter (lv := [(0, .ref r.2.1), (1, .int x1)]) (by decide) (Nat.le_of_ble_eq_true rfl) rfl ?_
  intro p e s m below meth c ls K hr hM hl hi
  obtain ⟨hx, hb, hml, hown, hts, hlk, hKK, hA⟩ := id K
  unfold f_X0_set at hf
  generalize hB_ : bc = B
  generalize hS_ : bs = S
  have hc : 0 + bc ≤ B ∧ 0 + bs ≤ S := ⟨bud_0 hB_, bud_0 hS_⟩
  refine lv_iload_n hx hb dX0_set_0 rfl (lv_at hl 1 rfl) ?_
  refine lv_iconst (v := 1) hx hb dX0_set_1 rfl ?_
  refine lv_bipush (v := 60) hx hb dX0_set_2 rfl ?_
  refine g_runi (rS [.int x1, .int (1 : Int32), .int (60 : Int32)] [] K hM hl (c_X0_in l r A _ _ _ _ _ hf) q261 q262 q82 q263 hdX0_in ⟨Nat.le_of_ble_eq_true rfl, Nat.le_of_ble_eq_true rfl⟩ ⟨bud_ret hc.1, bud_ret hc.2⟩ rfl (Nat.le_of_ble_eq_true rfl) dX0_set_4) hM (fun σ1 v2 H locs hf hM => ?_)
  refine lv_if_ne (tgt := 12) hx hb dX0_set_7 (by decide) (fun b3 => ?_) (fun b3 => ?_)
  · replace hf := hf.2 b3
    refine lv_aload_n hx hb dX0_set_12 rfl (lv_at hl 0 rfl) ?_
    refine lv_iload_n hx hb dX0_set_13 rfl (lv_at hl 1 rfl) ?_
    refine g_runv (rV [.int x1] [] K kX hM hl (c_X0_goRounds l r A _ _ _ hf) q868 q870 qs29 q82 q871 hdX0_goRounds ⟨Nat.le_of_ble_eq_true rfl, Nat.le_of_ble_eq_true rfl⟩ ⟨bud_ret hc.1, bud_ret hc.2⟩ rfl (Nat.le_of_ble_eq_true rfl) dX0_set_14) hM (fun σ4 H locs hf hM => ?_)
    refine lv_iconst (v := 0) hx hb dX0_set_17 rfl ?_
    refine lv_istore_n (lv' := [(2, .int (0 : Int32)), (0, .ref r.2.1), (1, .int x1)]) hx hb dX0_set_18 rfl hl (by decide) rfl (fun ls hl => ?_)
    obtain ⟨n_, hf⟩ := hf
    exact w_X0_set_19 K hr n_ _ _ _ _ _ _ hc hf _ _ _ hM (lv_sub hl [1, 0] rfl)
  · replace hf := hf.1 b3
    refine lv_iconst (v := -1) hx hb dX0_set_10 rfl ?_
    exact g_reti K hr hM ⟨bud_ret hc.1, bud_ret hc.2⟩ hf dX0_set_11
theorem w_X0_toldBasket_12 {p : Program} {l : Launch} {e : Env} {s : State} {m : MethodId} {args : Array Value} {below : List Frame} {meth : Method} {c : Code} {r : GR} {A : Nat → Prop} {P : GS → Int32 → Prop} (K : gC p s m args meth c cX0_toldBasket 5 RX0 r A) (hr : meth.sig.returnType = (some .int)) : ∀ (n : Nat) (σ : GS) (x2 : Int32) (x3 : Int32) (x4 : Int32), f_X0_toldBasket_12 r P n σ x2 x3 x4 → gW dX p l e (gRm 0 0 0 0) s m args below meth c r A (zI P) 0 0 5 12 [(0, .ref r.2.1), (2, .int x2), (3, .int x3), (4, .int x4)] [] 0 0 σ := by
  obtain ⟨hx, hb, hml, hown, hts, hlk, hKK, hA⟩ := id K
  intro n
  induction n with
  | zero =>
    intro σ x2 x3 x4 hf
    exact absurd hf (fun h => h)
  | succ n ih =>
    intro σ x2 x3 x4 hf H locs ls hM hl
    rw [f_X0_toldBasket_12] at hf
    refine lv_iload hx hb dX0_toldBasket_12 (lv_at hl 3 rfl) ?_
    refine lv_if_lt (tgt := 57) hx hb dX0_toldBasket_14 (by decide) (fun b1 => ?_) (fun b1 => ?_)
    · replace hf := hf.1 b1
      refine lv_iload_n hx hb dX0_toldBasket_57 rfl (lv_at hl 1 rfl) ?_
      refine lv_if_ne (tgt := 65) hx hb dX0_toldBasket_58 (by decide) (fun b2 => ?_) (fun b2 => ?_)
      · replace hf := hf.2 b2
        refine lv_iconst (v := -1) hx hb dX0_toldBasket_65 rfl ?_
        exact g_reti K hr hM ⟨Nat.le_refl _, Nat.le_refl _⟩ hf dX0_toldBasket_66
      · replace hf := hf.1 b2
        refine lv_iload_n hx hb dX0_toldBasket_61 rfl (lv_at hl 2 rfl) ?_
        refine lv_goto (tgt := 66) hx hb dX0_toldBasket_62 (by decide) ?_
        exact g_reti K hr hM ⟨Nat.le_refl _, Nat.le_refl _⟩ hf dX0_toldBasket_66
    · replace hf := hf.2 b1
      refine lv_iload_n hx hb dX0_toldBasket_17 rfl (lv_at hl 1 rfl) ?_
      refine lv_bipush (v := 10) hx hb dX0_toldBasket_18 rfl ?_
      refine lv_irem hx hb dX0_toldBasket_20 (by decide) ?_
      refine lv_iconst (v := 3) hx hb dX0_toldBasket_21 rfl ?_
      refine lv_icmp_le (tgt := 27) hx hb dX0_toldBasket_22 (by decide) (fun b3 => ?_) (fun b3 => ?_)
      · replace hf := hf.1 b3
        refine lv_iload_n hx hb dX0_toldBasket_27 rfl (lv_at hl 2 rfl) ?_
        refine lv_iload_n hx hb dX0_toldBasket_28 rfl (lv_at hl 1 rfl) ?_
        refine lv_bipush (v := 10) hx hb dX0_toldBasket_29 rfl ?_
        refine lv_irem hx hb dX0_toldBasket_31 (by decide) ?_
        refine lv_iconst (v := 2) hx hb dX0_toldBasket_32 rfl ?_
        refine lv_aload_n hx hb dX0_toldBasket_33 rfl (lv_at hl 0 rfl) ?_
        refine g_geti K kX hM 2 rfl q163 rfl dX0_toldBasket_34 rfl ?_
        refine lv_iconst (v := 1) hx hb dX0_toldBasket_37 rfl ?_
        refine lv_isub hx hb dX0_toldBasket_38 ?_
        refine lv_iload hx hb dX0_toldBasket_39 (lv_at hl 3 rfl) ?_
        refine lv_isub hx hb dX0_toldBasket_41 ?_
        refine lv_imul hx hb dX0_toldBasket_42 ?_
        refine lv_ishl hx hb dX0_toldBasket_43 ?_
        refine lv_ior hx hb dX0_toldBasket_44 ?_
        refine lv_topi (fun z4 hz4 => ?_)
        have hf := hf z4 hz4
        refine lv_istore_n (lv' := [(3, .int z4), (0, .ref r.2.1), (2, .int x2), (4, .int x4)]) hx hb dX0_toldBasket_45 rfl hl (by decide) rfl (fun ls hl => ?_)
        refine lv_iload_n hx hb dX0_toldBasket_46 rfl (lv_at hl 2 rfl) ?_
        refine lv_bipush (v := 10) hx hb dX0_toldBasket_47 rfl ?_
        refine lv_idiv hx hb dX0_toldBasket_49 (by decide) ?_
        refine lv_istore_n (lv' := [(2, .int (x2 / (10 : Int32))), (3, .int z4), (0, .ref r.2.1), (4, .int x4)]) hx hb dX0_toldBasket_50 rfl hl (by decide) rfl (fun ls hl => ?_)
        refine lv_iinc (v := x4 + (-1)) (lv' := [(4, .int (x4 + (-1))), (2, .int (x2 / (10 : Int32))), (3, .int z4), (0, .ref r.2.1)]) hx hb dX0_toldBasket_51 hl (k := 3) rfl rfl (by decide) rfl (fun ls hl => ?_)
        refine lv_goto (tgt := 12) hx hb dX0_toldBasket_54 (by decide) ?_
        exact ih _ _ _ _ hf _ _ _ hM (lv_sub hl [3, 1, 2, 0] rfl)
      · replace hf := hf.2 b3
        refine lv_iconst (v := -1) hx hb dX0_toldBasket_25 rfl ?_
        exact g_reti K hr hM ⟨Nat.le_refl _, Nat.le_refl _⟩ hf dX0_toldBasket_26
theorem c_X0_toldBasket (l : Launch) (r : GR) (A : Nat → Prop) (σ : GS) (x1 : Int32) (P : GS → Int32 → Prop) (hf : f_X0_toldBasket r σ x1 P) : gMet dX l yX0_toldBasket cX0_toldBasket 5 (some .int) 0 0 0 0 r A σ [.ref r.2.1, .int x1] (zI P) := by
  refine g_enter (lv := [(0, .ref r.2.1), (1, .int x1)]) (by decide) (Nat.le_of_ble_eq_true rfl) rfl ?_
  intro p e s m below meth c ls K hr hM hl hi
  obtain ⟨hx, hb, hml, hown, hts, hlk, hKK, hA⟩ := id K
  unfold f_X0_toldBasket at hf
  refine lv_iload_n hx hb dX0_toldBasket_0 rfl (lv_at hl 1 rfl) ?_
  refine lv_istore_n (lv' := [(2, .int x1), (0, .ref r.2.1), (1, .int x1)]) hx hb dX0_toldBasket_1 rfl hl (by decide) rfl (fun ls hl => ?_)
  refine lv_iconst (v := 0) hx hb dX0_toldBasket_2 rfl ?_
  refine lv_istore_n (lv' := [(3, .int (0 : Int32)), (2, .int x1), (0, .ref r.2.1), (1, .int x1)]) hx hb dX0_toldBasket_3 rfl hl (by decide) rfl (fun ls hl => ?_)
  refine lv_aload_n hx hb dX0_toldBasket_4 rfl (lv_at hl 2 rfl) ?_
  refine g_geti K kX hM 2 rfl q163 rfl dX0_toldBasket_5 rfl ?_
  refine lv_iconst (v := 1) hx hb dX0_toldBasket_8 rfl ?_
  refine lv_isub hx hb dX0_toldBasket_9 ?_
  refine lv_istore (lv' := [(4, .int ((gI σ 2) - (1 : Int32))), (3, .int (0 : Int32)), (2, .int x1), (0, .ref r.2.1), (1, .int x1)]) hx hb dX0_toldBasket_10 hl (by decide) rfl (fun ls hl => ?_)
  obtain ⟨n_, hf⟩ := hf
  exact w_X0_toldBasket_12 K hr n_ _ _ _ _ hf _ _ _ hM (lv_sub hl [3, 2, 1, 0] rfl)
theorem c_X0_tell (l : Launch) (r : GR) (A : Nat → Prop) (σ : GS) (x1 : Int32) (x2 : Int32) (P : GS → Int32 → Prop) (hf : f_X0_tell r σ x1 x2 P) : gMet dX l yX0_tell cX0_tell 4 (some .int) 2 43 0 0 r A σ [.ref r.2.1, .int x1, .int x2] (zI P) := by
  refine g_enter (lv := [(0, .ref r.2.1), (1, .int x1), (2, .int x2)]) (by decide) (Nat.le_of_ble_eq_true rfl) rfl ?_
  intro p e s m below meth c ls K hr hM hl hi
  obtain ⟨hx, hb, hml, hown, hts, hlk, hKK, hA⟩ := id K
  unfold f_X0_tell at hf
  refine lv_aload_n hx hb dX0_tell_0 rfl (lv_at hl 0 rfl) ?_
  refine lv_iload_n hx hb dX0_tell_1 rfl (lv_at hl 1 rfl) ?_
  refine g_runi (rV [.int x1] [] K kX hM hl (c_X0_isSort l r A _ _ _ hf) q463 q465 qs2 q82 q466 hdX0_isSort ⟨Nat.le_of_ble_eq_true rfl, Nat.le_of_ble_eq_true rfl⟩ ⟨Nat.le_refl _, Nat.le_refl _⟩ rfl (Nat.le_of_ble_eq_true rfl) dX0_tell_2) hM (fun σ1 v2 H locs hf hM => ?_)
  refine lv_if_eq (tgt := 20) hx hb dX0_tell_5 (by decide) (fun b3 => ?_) (fun b3 => ?_)
  · replace hf := hf.1 b3
    refine lv_iconst (v := -1) hx hb dX0_tell_20 rfl ?_
    exact g_reti K hr hM ⟨Nat.le_refl _, Nat.le_refl _⟩ hf dX0_tell_21
  · replace hf := hf.2 b3
    refine lv_iload_n hx hb dX0_tell_8 rfl (lv_at hl 2 rfl) ?_
    refine lv_if_lt (tgt := 20) hx hb dX0_tell_9 (by decide) (fun b4 => ?_) (fun b4 => ?_)
    · replace hf := hf.1 b4
      refine lv_iconst (v := -1) hx hb dX0_tell_20 rfl ?_
      exact g_reti K hr hM ⟨Nat.le_refl _, Nat.le_refl _⟩ hf dX0_tell_21
    · replace hf := hf.2 b4
      refine lv_aload_n hx hb dX0_tell_12 rfl (lv_at hl 0 rfl) ?_
      refine lv_iload_n hx hb dX0_tell_13 rfl (lv_at hl 2 rfl) ?_
      refine g_runi (rV [.int x2] [] K kX hM hl (c_X0_toldBasket l r A _ _ _ hf) q888 q890 qs32 q82 q891 hdX0_toldBasket ⟨Nat.le_of_ble_eq_true rfl, Nat.le_of_ble_eq_true rfl⟩ ⟨Nat.le_refl _, Nat.le_refl _⟩ rfl (Nat.le_of_ble_eq_true rfl) dX0_tell_14) hM (fun σ5 v6 H locs hf hM => ?_)
      refine lv_if_ge (tgt := 22) hx hb dX0_tell_17 (by decide) (fun b7 => ?_) (fun b7 => ?_)
      · replace hf := hf.1 b7
        refine lv_aload_n hx hb dX0_tell_22 rfl (lv_at hl 0 rfl) ?_
        refine g_geta K kX hM 1 rfl q162 rfl dX0_tell_23 rfl ?_
        refine lv_iload_n hx hb dX0_tell_26 rfl (lv_at hl 1 rfl) ?_
        obtain ⟨g8, hf⟩ := hf
        obtain ⟨a9, h10, hf⟩ := hf
        refine g_aaldS K hM 1 rfl rfl rfl rfl g8 h10 dX0_tell_27 ?_
        obtain ⟨v12, h11, hf⟩ := hf
        refine p_getN K kY5 hM 5 rfl q445 rfl dX0_tell_28 h11 ?_
        refine lv_istore_n (lv' := [(3, .int v12), (0, .ref r.2.1), (1, .int x1), (2, .int x2)]) hx hb dX0_tell_31 rfl hl (by decide) rfl (fun ls hl => ?_)
        refine lv_aload_n hx hb dX0_tell_32 rfl (lv_at hl 1 rfl) ?_
        refine g_geta K kX hM 1 rfl q162 rfl dX0_tell_33 rfl ?_
        refine lv_iload_n hx hb dX0_tell_36 rfl (lv_at hl 2 rfl) ?_
        obtain ⟨g13, hf⟩ := hf
        obtain ⟨a14, h15, hf⟩ := hf
        refine g_aaldS K hM 1 rfl rfl rfl rfl g13 h15 dX0_tell_37 ?_
        refine lv_iload_n hx hb dX0_tell_38 rfl (lv_at hl 3 rfl) ?_
        refine p_putN K kY5 nmX5 hM 5 rfl q445 rfl dX0_tell_39 rfl rfl rfl hf (fun H locs σ16 hf hM => ?_)
        refine lv_iload_n hx hb dX0_tell_42 rfl (lv_at hl 0 rfl) ?_
        exact g_reti K hr hM ⟨Nat.le_refl _, Nat.le_refl _⟩ hf dX0_tell_43
      · replace hf := hf.2 b7
        refine lv_iconst (v := -1) hx hb dX0_tell_20 rfl ?_
        exact g_reti K hr hM ⟨Nat.le_refl _, Nat.le_refl _⟩ hf dX0_tell_21
theorem w_X0_judge_111 {p : Program} {l : Launch} {e : Env} {s : State} {m : MethodId} {args : Array Value} {below : List Frame} {meth : Method} {c : Code} {r : GR} {A : Nat → Prop} {P : GS → Int32 → Prop} {k99 : GS → Int32 → Prop} (K : gC p s m args meth c cX0_judge 4 RX0 r A) (hr : meth.sig.returnType = (some .int)) (H99 : ∀ (σ : GS) (x1 : Int32), k99 σ x1 → gW dX p l e (gRm 206 8142 0 0) s m args below meth c r A (zI P) 0 0 4 99 [(0, .ref r.2.1), (1, .int x1)] [] 0 0 σ) : ∀ (n : Nat) (σ : GS) (x1 : Int32) (x2 : Int32) (x3 : Int32), f_X0_judge_111 r k99 P n σ x1 x2 x3 → gW dX p l e (gRm 206 8142 0 0) s m args below meth c r A (zI P) 0 0 4 111 [(0, .ref r.2.1), (1, .int x1), (2, .int x2), (3, .int x3)] [] 0 0 σ := by
  obtain ⟨hx, hb, hml, hown, hts, hlk, hKK, hA⟩ := id K
  intro n
  induction n with
  | zero =>
    intro σ x1 x2 x3 hf
    exact absurd hf (fun h => h)
  | succ n ih =>
    intro σ x1 x2 x3 hf H locs ls hM hl
    rw [f_X0_judge_111] at hf
    refine lv_iload_n hx hb dX0_judge_111 rfl (lv_at hl 3 rfl) ?_
    refine lv_aload_n hx hb dX0_judge_112 rfl (lv_at hl 0 rfl) ?_
    refine g_geti K kX hM 3 rfl q164 rfl dX0_judge_113 rfl ?_
    refine lv_icmp_ge (tgt := 156) hx hb dX0_judge_116 (by decide) (fun b1 => ?_) (fun b1 => ?_)
    · replace hf := hf.1 b1
      refine lv_iload_n hx hb dX0_judge_156 rfl (lv_at hl 2 rfl) ?_
      refine lv_aload_n hx hb dX0_judge_157 rfl (lv_at hl 0 rfl) ?_
      refine g_geta K kX hM 0 rfl q161 rfl dX0_judge_158 rfl ?_
      refine lv_iload_n hx hb dX0_judge_161 rfl (lv_at hl 1 rfl) ?_
      obtain ⟨g2, hf⟩ := hf
      obtain ⟨a3, h4, hf⟩ := hf
      refine g_aaldS K hM 0 rfl rfl rfl rfl g2 h4 dX0_judge_162 ?_
      obtain ⟨v6, h5, hf⟩ := hf
      refine p_getN K kY3 hM 1 rfl q272 rfl dX0_judge_163 h5 ?_
      refine lv_icmp_le (tgt := 174) hx hb dX0_judge_166 (by decide) (fun b7 => ?_) (fun b7 => ?_)
      · replace hf := hf.1 b7
        refine lv_iinc (v := x1 + 1) (lv' := [(1, .int (x1 + 1)), (0, .ref r.2.1), (2, .int x2), (3, .int x3)]) hx hb dX0_judge_174 hl (k := 1) rfl rfl (by decide) rfl (fun ls hl => ?_)
        refine lv_goto (tgt := 99) hx hb dX0_judge_177 (by decide) ?_
        exact H99 _ _ hf _ _ _ hM (lv_sub hl [1, 0] rfl)
      · replace hf := hf.2 b7
        refine lv_bipush (v := 30) hx hb dX0_judge_169 rfl ?_
        refine lv_iload_n hx hb dX0_judge_171 rfl (lv_at hl 1 rfl) ?_
        refine lv_iadd hx hb dX0_judge_172 ?_
        exact g_reti K hr hM ⟨Nat.le_refl _, Nat.le_refl _⟩ hf dX0_judge_173
    · replace hf := hf.2 b1
      refine lv_iload_n hx hb dX0_judge_119 rfl (lv_at hl 2 rfl) ?_
      refine lv_aload_n hx hb dX0_judge_120 rfl (lv_at hl 0 rfl) ?_
      refine g_geta K kX hM 1 rfl q162 rfl dX0_judge_121 rfl ?_
      refine lv_iload_n hx hb dX0_judge_124 rfl (lv_at hl 3 rfl) ?_
      obtain ⟨g8, hf⟩ := hf
      obtain ⟨a9, h10, hf⟩ := hf
      refine g_aaldS K hM 1 rfl rfl rfl rfl g8 h10 dX0_judge_125 ?_
      obtain ⟨v12, h11, hf⟩ := hf
      refine p_getN K kY5 hM 0 rfl q436 rfl dX0_judge_126 h11 ?_
      refine lv_aload_n hx hb dX0_judge_129 rfl (lv_at hl 0 rfl) ?_
      refine lv_aload_n hx hb dX0_judge_130 rfl (lv_at hl 0 rfl) ?_
      refine lv_aload_n hx hb dX0_judge_131 rfl (lv_at hl 0 rfl) ?_
      refine g_geta K kX hM 1 rfl q162 rfl dX0_judge_132 rfl ?_
      refine lv_iload_n hx hb dX0_judge_135 rfl (lv_at hl 3 rfl) ?_
      obtain ⟨g13, hf⟩ := hf
      obtain ⟨a14, h15, hf⟩ := hf
      refine g_aaldS K hM 1 rfl rfl rfl rfl g13 h15 dX0_judge_136 ?_
      obtain ⟨v17, h16, hf⟩ := hf
      refine p_getN K kY5 hM 5 rfl q445 rfl dX0_judge_137 h16 ?_
      refine g_runi (rV [.int v17] [.ref r.2.1, .int v12, .int x2] K kX hM hl (c_X0_toldBasket l r A _ _ _ hf) q888 q890 qs32 q82 q891 hdX0_toldBasket ⟨Nat.le_of_ble_eq_true rfl, Nat.le_of_ble_eq_true rfl⟩ ⟨Nat.le_refl _, Nat.le_refl _⟩ rfl (Nat.le_of_ble_eq_true rfl) dX0_judge_140) hM (fun σ18 v19 H locs hf hM => ?_)
      refine lv_iload_n hx hb dX0_judge_143 rfl (lv_at hl 1 rfl) ?_
      refine g_runi (rV [.int v19, .int x1] [.int v12, .int x2] K kX hM hl (c_X0_inBasket l r A _ _ _ _ hf) q828 q830 qs23 q82 q831 hdX0_inBasket ⟨Nat.le_of_ble_eq_true rfl, Nat.le_of_ble_eq_true rfl⟩ ⟨Nat.le_refl _, Nat.le_refl _⟩ rfl (Nat.le_of_ble_eq_true rfl) dX0_judge_144) hM (fun σ20 v21 H locs hf hM => ?_)
      refine lv_imul hx hb dX0_judge_147 ?_
      refine lv_iadd hx hb dX0_judge_148 ?_
      refine lv_istore_n (lv' := [(2, .int (x2 + (v12 * v21))), (0, .ref r.2.1), (1, .int x1), (3, .int x3)]) hx hb dX0_judge_149 rfl hl (by decide) rfl (fun ls hl => ?_)
      refine lv_iinc (v := x3 + 1) (lv' := [(3, .int (x3 + 1)), (2, .int (x2 + (v12 * v21))), (0, .ref r.2.1), (1, .int x1)]) hx hb dX0_judge_150 hl (k := 3) rfl rfl (by decide) rfl (fun ls hl => ?_)
      refine lv_goto (tgt := 111) hx hb dX0_judge_153 (by decide) ?_
      exact ih _ _ _ _ hf _ _ _ hM (lv_sub hl [2, 3, 1, 0] rfl)
theorem w_X0_judge_99 {p : Program} {l : Launch} {e : Env} {s : State} {m : MethodId} {args : Array Value} {below : List Frame} {meth : Method} {c : Code} {r : GR} {A : Nat → Prop} {P : GS → Int32 → Prop} (K : gC p s m args meth c cX0_judge 4 RX0 r A) (hr : meth.sig.returnType = (some .int)) : ∀ (n : Nat) (σ : GS) (x1 : Int32), f_X0_judge_99 r P n σ x1 → gW dX p l e (gRm 206 8142 0 0) s m args below meth c r A (zI P) 0 0 4 99 [(0, .ref r.2.1), (1, .int x1)] [] 0 0 σ := by
  obtain ⟨hx, hb, hml, hown, hts, hlk, hKK, hA⟩ := id K
  intro n
  induction n with
  | zero =>
    intro σ x1 hf
    exact absurd hf (fun h => h)
  | succ n ih =>
    intro σ x1 hf H locs ls hM hl
    rw [f_X0_judge_99] at hf
    refine lv_iload_n hx hb dX0_judge_99 rfl (lv_at hl 1 rfl) ?_
    refine lv_aload_n hx hb dX0_judge_100 rfl (lv_at hl 0 rfl) ?_
    refine g_geti K kX hM 2 rfl q163 rfl dX0_judge_101 rfl ?_
    refine lv_icmp_ge (tgt := 180) hx hb dX0_judge_104 (by decide) (fun b1 => ?_) (fun b1 => ?_)
    · replace hf := hf.1 b1
      refine lv_bipush (v := -2) hx hb dX0_judge_180 rfl ?_
      exact g_reti K hr hM ⟨Nat.le_refl _, Nat.le_refl _⟩ hf dX0_judge_182
    · replace hf := hf.2 b1
      refine lv_iconst (v := 0) hx hb dX0_judge_107 rfl ?_
      refine lv_istore_n (lv' := [(2, .int (0 : Int32)), (0, .ref r.2.1), (1, .int x1)]) hx hb dX0_judge_108 rfl hl (by decide) rfl (fun ls hl => ?_)
      refine lv_iconst (v := 0) hx hb dX0_judge_109 rfl ?_
      refine lv_istore_n (lv' := [(3, .int (0 : Int32)), (2, .int (0 : Int32)), (0, .ref r.2.1), (1, .int x1)]) hx hb dX0_judge_110 rfl hl (by decide) rfl (fun ls hl => ?_)
      obtain ⟨n_, hf⟩ := hf
      exact w_X0_judge_111 K hr ih n_ _ _ _ _ hf _ _ _ hM (lv_sub hl [2, 3, 1, 0] rfl)
theorem w_X0_judge_66 {p : Program} {l : Launch} {e : Env} {s : State} {m : MethodId} {args : Array Value} {below : List Frame} {meth : Method} {c : Code} {r : GR} {A : Nat → Prop} {P : GS → Int32 → Prop} (K : gC p s m args meth c cX0_judge 4 RX0 r A) (hr : meth.sig.returnType = (some .int)) : ∀ (σ : GS) (x1 : Int32), f_X0_judge_66 r P σ x1 → gW dX p l e (gRm 206 8142 0 0) s m args below meth c r A (zI P) 0 0 4 66 [(1, .int x1)] [] 0 0 σ := by
  obtain ⟨hx, hb, hml, hown, hts, hlk, hKK, hA⟩ := id K
  intro σ x1 hf H locs ls hM hl
  unfold f_X0_judge_66 at hf
  refine lv_bipush (v := 10) hx hb dX0_judge_66 rfl ?_
  refine lv_iload_n hx hb dX0_judge_68 rfl (lv_at hl 0 rfl) ?_
  refine lv_iadd hx hb dX0_judge_69 ?_
  exact g_reti K hr hM ⟨Nat.le_refl _, Nat.le_refl _⟩ hf dX0_judge_70
theorem w_X0_judge_2 {p : Program} {l : Launch} {e : Env} {s : State} {m : MethodId} {args : Array Value} {below : List Frame} {meth : Method} {c : Code} {r : GR} {A : Nat → Prop} {P : GS → Int32 → Prop} (K : gC p s m args meth c cX0_judge 4 RX0 r A) (hr : meth.sig.returnType = (some .int)) : ∀ (n : Nat) (σ : GS) (x1 : Int32), f_X0_judge_2 r P n σ x1 → gW dX p l e (gRm 206 8142 0 0) s m args below meth c r A (zI P) 0 0 4 2 [(0, .ref r.2.1), (1, .int x1)] [] 0 0 σ := by
  obtain ⟨hx, hb, hml, hown, hts, hlk, hKK, hA⟩ := id K
  intro n
  induction n with
  | zero =>
    intro σ x1 hf
    exact absurd hf (fun h => h)
  | succ n ih =>
    intro σ x1 hf H locs ls hM hl
    rw [f_X0_judge_2] at hf
    refine lv_iload_n hx hb dX0_judge_2 rfl (lv_at hl 1 rfl) ?_
    refine lv_aload_n hx hb dX0_judge_3 rfl (lv_at hl 0 rfl) ?_
    refine g_geti K kX hM 3 rfl q164 rfl dX0_judge_4 rfl ?_
    refine lv_icmp_ge (tgt := 97) hx hb dX0_judge_7 (by decide) (fun b1 => ?_) (fun b1 => ?_)
    · replace hf := hf.1 b1
      refine lv_iconst (v := 0) hx hb dX0_judge_97 rfl ?_
      refine lv_istore_n (lv' := [(1, .int (0 : Int32)), (0, .ref r.2.1)]) hx hb dX0_judge_98 rfl hl (by decide) rfl (fun ls hl => ?_)
      obtain ⟨n_, hf⟩ := hf
      exact w_X0_judge_99 K hr n_ _ _ hf _ _ _ hM (lv_sub hl [1, 0] rfl)
    · replace hf := hf.2 b1
      refine lv_aload_n hx hb dX0_judge_10 rfl (lv_at hl 0 rfl) ?_
      refine lv_iload_n hx hb dX0_judge_11 rfl (lv_at hl 1 rfl) ?_
      refine g_runi (rV [.int x1] [] K kX hM hl (c_X0_bestOf l r A _ _ _ hf) q816 q818 qs20 q82 q819 hdX0_bestOf ⟨Nat.le_of_ble_eq_true rfl, Nat.le_of_ble_eq_true rfl⟩ ⟨Nat.le_refl _, Nat.le_refl _⟩ rfl (Nat.le_of_ble_eq_true rfl) dX0_judge_12) hM (fun σ2 v3 H locs hf hM => ?_)
      refine lv_istore_n (lv' := [(2, .int v3), (0, .ref r.2.1), (1, .int x1)]) hx hb dX0_judge_15 rfl hl (by decide) rfl (fun ls hl => ?_)
      refine lv_aload_n hx hb dX0_judge_16 rfl (lv_at hl 1 rfl) ?_
      refine lv_aload_n hx hb dX0_judge_17 rfl (lv_at hl 1 rfl) ?_
      refine g_geta K kX hM 1 rfl q162 rfl dX0_judge_18 rfl ?_
      refine lv_iload_n hx hb dX0_judge_21 rfl (lv_at hl 2 rfl) ?_
      obtain ⟨g4, hf⟩ := hf
      obtain ⟨a5, h6, hf⟩ := hf
      refine g_aaldS K hM 1 rfl rfl rfl rfl g4 h6 dX0_judge_22 ?_
      obtain ⟨v8, h7, hf⟩ := hf
      refine p_getN K kY5 hM 5 rfl q445 rfl dX0_judge_23 h7 ?_
      refine g_runi (rV [.int v8] [] K kX hM hl (c_X0_toldBasket l r A _ _ _ hf) q888 q890 qs32 q82 q891 hdX0_toldBasket ⟨Nat.le_of_ble_eq_true rfl, Nat.le_of_ble_eq_true rfl⟩ ⟨Nat.le_refl _, Nat.le_refl _⟩ rfl (Nat.le_of_ble_eq_true rfl) dX0_judge_26) hM (fun σ9 v10 H locs hf hM => ?_)
      refine lv_istore_n (lv' := [(3, .int v10), (2, .int v3), (0, .ref r.2.1), (1, .int x1)]) hx hb dX0_judge_29 rfl hl (by decide) rfl (fun ls hl => ?_)
      refine lv_aload_n hx hb dX0_judge_30 rfl (lv_at hl 2 rfl) ?_
      refine g_geta K kX hM 13 rfl q176 rfl dX0_judge_31 rfl ?_
      refine lv_iload_n hx hb dX0_judge_34 rfl (lv_at hl 0 rfl) ?_
      obtain ⟨g11, hf⟩ := hf
      refine g_iald K hM 13 rfl rfl rfl g11 dX0_judge_35 ?_
      refine lv_aload_n hx hb dX0_judge_36 rfl (lv_at hl 2 rfl) ?_
      refine g_geta K kX hM 1 rfl q162 rfl dX0_judge_37 rfl ?_
      refine lv_iload_n hx hb dX0_judge_40 rfl (lv_at hl 3 rfl) ?_
      obtain ⟨g12, hf⟩ := hf
      obtain ⟨a13, h14, hf⟩ := hf
      refine g_aaldS K hM 1 rfl rfl rfl rfl g12 h14 dX0_judge_41 ?_
      obtain ⟨v16, h15, hf⟩ := hf
      refine p_getN K kY5 hM 3 rfl q442 rfl dX0_judge_42 h15 ?_
      refine lv_icmp_gt (tgt := 66) hx hb dX0_judge_45 (by decide) (fun b17 => ?_) (fun b17 => ?_)
      · replace hf := hf.1 b17
        exact w_X0_judge_66 K hr _ _ hf _ _ _ hM (lv_sub hl [3] rfl)
      · replace hf := hf.2 b17
        refine lv_aload_n hx hb dX0_judge_48 rfl (lv_at hl 2 rfl) ?_
        refine g_geta K kX hM 14 rfl q177 rfl dX0_judge_49 rfl ?_
        refine lv_iload_n hx hb dX0_judge_52 rfl (lv_at hl 0 rfl) ?_
        obtain ⟨g18, hf⟩ := hf
        refine g_iald K hM 14 rfl rfl rfl g18 dX0_judge_53 ?_
        refine lv_aload_n hx hb dX0_judge_54 rfl (lv_at hl 2 rfl) ?_
        refine g_geta K kX hM 1 rfl q162 rfl dX0_judge_55 rfl ?_
        refine lv_iload_n hx hb dX0_judge_58 rfl (lv_at hl 3 rfl) ?_
        obtain ⟨g19, hf⟩ := hf
        obtain ⟨a20, h21, hf⟩ := hf
        refine g_aaldS K hM 1 rfl rfl rfl rfl g19 h21 dX0_judge_59 ?_
        obtain ⟨f24, h25, hf⟩ := hf
        refine g_runi (rP [] [.int (gA σ9 14 v10.toNatClampNeg)] K kY5 hM hl h25 (c_X5_points l r A _ _ _ hf) q467 q468 q469 q95 q470 hdX5_points ⟨Nat.le_of_ble_eq_true rfl, Nat.le_of_ble_eq_true rfl⟩ ⟨Nat.le_refl _, Nat.le_refl _⟩ rfl (Nat.le_of_ble_eq_true rfl) dX0_judge_60) hM (fun σ22 v23 H locs hf hM => ?_)
        refine lv_icmp_le (tgt := 71) hx hb dX0_judge_63 (by decide) (fun b26 => ?_) (fun b26 => ?_)
        · replace hf := hf.1 b26
          refine lv_aload_n hx hb dX0_judge_71 rfl (lv_at hl 2 rfl) ?_
          refine g_geta K kX hM 12 rfl q175 rfl dX0_judge_72 rfl ?_
          refine lv_iload_n hx hb dX0_judge_75 rfl (lv_at hl 0 rfl) ?_
          obtain ⟨g27, hf⟩ := hf
          refine g_iald K hM 12 rfl rfl rfl g27 dX0_judge_76 ?_
          refine lv_aload_n hx hb dX0_judge_77 rfl (lv_at hl 2 rfl) ?_
          refine g_geta K kX hM 12 rfl q175 rfl dX0_judge_78 rfl ?_
          refine lv_iload_n hx hb dX0_judge_81 rfl (lv_at hl 1 rfl) ?_
          obtain ⟨g28, hf⟩ := hf
          refine g_iald K hM 12 rfl rfl rfl g28 dX0_judge_82 ?_
          refine lv_icmp_ge (tgt := 91) hx hb dX0_judge_83 (by decide) (fun b29 => ?_) (fun b29 => ?_)
          · replace hf := hf.1 b29
            refine lv_iinc (v := x1 + 1) (lv' := [(1, .int (x1 + 1)), (3, .int v10), (2, .int v3), (0, .ref r.2.1)]) hx hb dX0_judge_91 hl (k := 3) rfl rfl (by decide) rfl (fun ls hl => ?_)
            refine lv_goto (tgt := 2) hx hb dX0_judge_94 (by decide) ?_
            exact ih _ _ hf _ _ _ hM (lv_sub hl [3, 0] rfl)
          · replace hf := hf.2 b29
            refine lv_bipush (v := 20) hx hb dX0_judge_86 rfl ?_
            refine lv_iload_n hx hb dX0_judge_88 rfl (lv_at hl 3 rfl) ?_
            refine lv_iadd hx hb dX0_judge_89 ?_
            exact g_reti K hr hM ⟨Nat.le_refl _, Nat.le_refl _⟩ hf dX0_judge_90
        · replace hf := hf.2 b26
          exact w_X0_judge_66 K hr _ _ hf _ _ _ hM (lv_sub hl [3] rfl)
theorem c_X0_judge (l : Launch) (r : GR) (A : Nat → Prop) (σ : GS) (P : GS → Int32 → Prop) (hf : f_X0_judge r σ P) : gMet dX l yX0_judge cX0_judge 4 (some .int) 206 8142 0 0 r A σ [.ref r.2.1] (zI P) := by
  refine g_enter (lv := [(0, .ref r.2.1)]) (by decide) (Nat.le_of_ble_eq_true rfl) rfl ?_
  intro p e s m below meth c ls K hr hM hl hi
  obtain ⟨hx, hb, hml, hown, hts, hlk, hKK, hA⟩ := id K
  unfold f_X0_judge at hf
  refine lv_iconst (v := 0) hx hb dX0_judge_0 rfl ?_
  refine lv_istore_n (lv' := [(1, .int (0 : Int32)), (0, .ref r.2.1)]) hx hb dX0_judge_1 rfl hl (by decide) rfl (fun ls hl => ?_)
  obtain ⟨n_, hf⟩ := hf
  exact w_X0_judge_2 K hr n_ _ _ hf _ _ _ hM (lv_sub hl [1, 0] rfl)
theorem w_X0_bestChanged_142 {p : Program} {l : Launch} {e : Env} {s : State} {m : MethodId} {args : Array Value} {below : List Frame} {meth : Method} {c : Code} {r : GR} {A : Nat → Prop} {P : GS → Int32 → Prop} {k8 : GS → Nat → Int32 → Int32 → Int32 → Int32 → Prop} (K : gC p s m args meth c cX0_bestChanged 8 RX0 r A) (hr : meth.sig.returnType = (some .int)) (H8 : ∀ (σ : GS) (x1 : Nat) (x2 : Int32) (x3 : Int32) (x4 : Int32) (x5 : Int32), k8 σ x1 x2 x3 x4 x5 → gW dX p l e (gRm 1 20 0 0) s m args below meth c r A (zI P) 0 0 8 8 [(0, .ref r.2.1), (1, .ref x1), (2, .int x2), (3, .int x3), (4, .int x4), (5, .int x5)] [] 0 0 σ) : ∀ (σ : GS) (x1 : Nat) (x2 : Int32) (x3 : Int32) (x4 : Int32) (x5 : Int32), f_X0_bestChanged_142 r k8 P σ x1 x2 x3 x4 x5 → gW dX p l e (gRm 1 20 0 0) s m args below meth c r A (zI P) 0 0 8 142 [(0, .ref r.2.1), (1, .ref x1), (2, .int x2), (3, .int x3), (4, .int x4), (5, .int x5)] [] 0 0 σ := by
  obtain ⟨hx, hb, hml, hown, hts, hlk, hKK, hA⟩ := id K
  intro σ x1 x2 x3 x4 x5 hf H locs ls hM hl
  unfold f_X0_bestChanged_142 at hf
  refine lv_iinc (v := x5 + 1) (lv' := [(5, .int (x5 + 1)), (0, .ref r.2.1), (1, .ref x1), (2, .int x2), (3, .int x3), (4, .int x4)]) hx hb dX0_bestChanged_142 hl (k := 5) rfl rfl (by decide) rfl (fun ls hl => ?_)
  refine lv_goto (tgt := 8) hx hb dX0_bestChanged_145 (by decide) ?_
  exact H8 _ _ _ _ _ _ hf _ _ _ hM (lv_sub hl [1, 2, 3, 4, 5, 0] rfl)
theorem w_X0_bestChanged_125 {p : Program} {l : Launch} {e : Env} {s : State} {m : MethodId} {args : Array Value} {below : List Frame} {meth : Method} {c : Code} {r : GR} {A : Nat → Prop} {P : GS → Int32 → Prop} {k8 : GS → Nat → Int32 → Int32 → Int32 → Int32 → Prop} (K : gC p s m args meth c cX0_bestChanged 8 RX0 r A) (hr : meth.sig.returnType = (some .int)) (H8 : ∀ (σ : GS) (x1 : Nat) (x2 : Int32) (x3 : Int32) (x4 : Int32) (x5 : Int32), k8 σ x1 x2 x3 x4 x5 → gW dX p l e (gRm 1 20 0 0) s m args below meth c r A (zI P) 0 0 8 8 [(0, .ref r.2.1), (1, .ref x1), (2, .int x2), (3, .int x3), (4, .int x4), (5, .int x5)] [] 0 0 σ) : ∀ (σ : GS) (x1 : Nat) (x2 : Int32) (x3 : Int32) (x4 : Int32) (x5 : Int32) (x6 : Int32) (t0 : Int32), f_X0_bestChanged_125 r k8 P σ x1 x2 x3 x4 x5 x6 t0 → gW dX p l e (gRm 1 20 0 0) s m args below meth c r A (zI P) 0 0 8 125 [(0, .ref r.2.1), (1, .ref x1), (2, .int x2), (3, .int x3), (4, .int x4), (5, .int x5), (6, .int x6)] [.int t0] 0 0 σ := by
  obtain ⟨hx, hb, hml, hown, hts, hlk, hKK, hA⟩ := id K
  intro σ x1 x2 x3 x4 x5 x6 t0 hf H locs ls hM hl
  unfold f_X0_bestChanged_125 at hf
  refine lv_istore (lv' := [(7, .int t0), (0, .ref r.2.1), (1, .ref x1), (2, .int x2), (3, .int x3), (4, .int x4), (5, .int x5), (6, .int x6)]) hx hb dX0_bestChanged_125 hl (by decide) rfl (fun ls hl => ?_)
  refine lv_iload hx hb dX0_bestChanged_127 (lv_at hl 0 rfl) ?_
  refine lv_if_gt (tgt := 135) hx hb dX0_bestChanged_129 (by decide) (fun b1 => ?_) (fun b1 => ?_)
  · replace hf := hf.1 b1
    refine lv_iload hx hb dX0_bestChanged_135 (lv_at hl 6 rfl) ?_
    refine lv_istore_n (lv' := [(3, .int x5), (7, .int t0), (0, .ref r.2.1), (1, .ref x1), (2, .int x2), (4, .int x4), (5, .int x5), (6, .int x6)]) hx hb dX0_bestChanged_137 rfl hl (by decide) rfl (fun ls hl => ?_)
    refine lv_iload hx hb dX0_bestChanged_138 (lv_at hl 7 rfl) ?_
    refine lv_istore (lv' := [(4, .int x6), (3, .int x5), (7, .int t0), (0, .ref r.2.1), (1, .ref x1), (2, .int x2), (5, .int x5), (6, .int x6)]) hx hb dX0_bestChanged_140 hl (by decide) rfl (fun ls hl => ?_)
    exact w_X0_bestChanged_142 K hr H8 _ _ _ _ _ _ hf _ _ _ hM (lv_sub hl [3, 4, 5, 1, 0, 6] rfl)
  · replace hf := hf.2 b1
    refine lv_goto (tgt := 142) hx hb dX0_bestChanged_132 (by decide) ?_
    exact w_X0_bestChanged_142 K hr H8 _ _ _ _ _ _ hf _ _ _ hM (lv_sub hl [1, 2, 3, 4, 5, 6] rfl)
theorem w_X0_bestChanged_8 {p : Program} {l : Launch} {e : Env} {s : State} {m : MethodId} {args : Array Value} {below : List Frame} {meth : Method} {c : Code} {r : GR} {A : Nat → Prop} {P : GS → Int32 → Prop} (K : gC p s m args meth c cX0_bestChanged 8 RX0 r A) (hr : meth.sig.returnType = (some .int)) : ∀ (n : Nat) (σ : GS) (x1 : Nat) (x2 : Int32) (x3 : Int32) (x4 : Int32) (x5 : Int32), f_X0_bestChanged_8 r P n σ x1 x2 x3 x4 x5 → gW dX p l e (gRm 1 20 0 0) s m args below meth c r A (zI P) 0 0 8 8 [(0, .ref r.2.1), (1, .ref x1), (2, .int x2), (3, .int x3), (4, .int x4), (5, .int x5)] [] 0 0 σ := by
  obtain ⟨hx, hb, hml, hown, hts, hlk, hKK, hA⟩ := id K
  intro n
  induction n with
  | zero =>
    intro σ x1 x2 x3 x4 x5 hf
    exact absurd hf (fun h => h)
  | succ n ih =>
    intro σ x1 x2 x3 x4 x5 hf H locs ls hM hl
    rw [f_X0_bestChanged_8] at hf
    refine lv_iload hx hb dX0_bestChanged_8 (lv_at hl 5 rfl) ?_
    refine lv_aload_n hx hb dX0_bestChanged_10 rfl (lv_at hl 0 rfl) ?_
    refine g_runi (rV [] [.int x5] K kX hM hl (c_X0_basketMany l r A _ _ hf) q824 q826 qs22 q82 q827 hdX0_basketMany ⟨Nat.le_of_ble_eq_true rfl, Nat.le_of_ble_eq_true rfl⟩ ⟨Nat.le_refl _, Nat.le_refl _⟩ rfl (Nat.le_of_ble_eq_true rfl) dX0_bestChanged_11) hM (fun σ1 v2 H locs hf hM => ?_)
    refine lv_icmp_ge (tgt := 148) hx hb dX0_bestChanged_14 (by decide) (fun b3 => ?_) (fun b3 => ?_)
    · replace hf := hf.1 b3
      refine lv_iload_n hx hb dX0_bestChanged_148 rfl (lv_at hl 3 rfl) ?_
      exact g_reti K hr hM ⟨Nat.le_refl _, Nat.le_refl _⟩ hf dX0_bestChanged_149
    · replace hf := hf.2 b3
      refine lv_aload_n hx hb dX0_bestChanged_17 rfl (lv_at hl 0 rfl) ?_
      refine g_geta K kX hM 13 rfl q176 rfl dX0_bestChanged_18 rfl ?_
      refine lv_iload hx hb dX0_bestChanged_21 (lv_at hl 5 rfl) ?_
      obtain ⟨g4, hf⟩ := hf
      refine g_iald K hM 13 rfl rfl rfl g4 dX0_bestChanged_23 ?_
      refine lv_iload_n hx hb dX0_bestChanged_24 rfl (lv_at hl 2 rfl) ?_
      refine lv_aload_n hx hb dX0_bestChanged_25 rfl (lv_at hl 0 rfl) ?_
      refine g_geta K kX hM 14 rfl q177 rfl dX0_bestChanged_26 rfl ?_
      refine lv_iload hx hb dX0_bestChanged_29 (lv_at hl 5 rfl) ?_
      obtain ⟨g5, hf⟩ := hf
      refine g_iald K hM 14 rfl rfl rfl g5 dX0_bestChanged_31 ?_
      refine lv_imul hx hb dX0_bestChanged_32 ?_
      refine lv_iadd hx hb dX0_bestChanged_33 ?_
      refine lv_topi (fun z6 hz6 => ?_)
      have hf := hf z6 hz6
      refine lv_istore (lv' := [(6, .int z6), (0, .ref r.2.1), (1, .ref x1), (2, .int x2), (3, .int x3), (4, .int x4), (5, .int x5)]) hx hb dX0_bestChanged_34 hl (by decide) rfl (fun ls hl => ?_)
      refine lv_iload hx hb dX0_bestChanged_36 (lv_at hl 0 rfl) ?_
      refine lv_aload_n hx hb dX0_bestChanged_38 rfl (lv_at hl 2 rfl) ?_
      obtain ⟨v8, h7, hf⟩ := hf
      refine p_getN K kY5 hM 3 rfl q442 rfl dX0_bestChanged_39 h7 ?_
      refine lv_iload_n hx hb dX0_bestChanged_42 rfl (lv_at hl 3 rfl) ?_
      refine lv_aload_n hx hb dX0_bestChanged_43 rfl (lv_at hl 2 rfl) ?_
      obtain ⟨f11, h12, hf⟩ := hf
      refine g_runi (rP [] [.int x2, .int v8, .int z6] K kY5 hM hl h12 (c_X5_points l r A _ _ _ hf) q467 q468 q469 q95 q470 hdX5_points ⟨Nat.le_of_ble_eq_true rfl, Nat.le_of_ble_eq_true rfl⟩ ⟨Nat.le_refl _, Nat.le_refl _⟩ rfl (Nat.le_of_ble_eq_true rfl) dX0_bestChanged_44) hM (fun σ9 v10 H locs hf hM => ?_)
      refine lv_imul hx hb dX0_bestChanged_47 ?_
      refine lv_iadd hx hb dX0_bestChanged_48 ?_
      refine lv_icmp_le (tgt := 55) hx hb dX0_bestChanged_49 (by decide) (fun b13 => ?_) (fun b13 => ?_)
      · replace hf := hf.1 b13
        refine lv_iload_n hx hb dX0_bestChanged_55 rfl (lv_at hl 4 rfl) ?_
        refine lv_if_ge (tgt := 63) hx hb dX0_bestChanged_56 (by decide) (fun b14 => ?_) (fun b14 => ?_)
        · replace hf := hf.1 b14
          refine lv_aload_n hx hb dX0_bestChanged_63 rfl (lv_at hl 1 rfl) ?_
          refine g_geta K kX hM 12 rfl q175 rfl dX0_bestChanged_64 rfl ?_
          refine lv_iload hx hb dX0_bestChanged_67 (lv_at hl 6 rfl) ?_
          obtain ⟨g15, hf⟩ := hf
          refine g_iald K hM 12 rfl rfl rfl g15 dX0_bestChanged_69 ?_
          refine lv_aload_n hx hb dX0_bestChanged_70 rfl (lv_at hl 1 rfl) ?_
          refine g_geta K kX hM 12 rfl q175 rfl dX0_bestChanged_71 rfl ?_
          refine lv_iload_n hx hb dX0_bestChanged_74 rfl (lv_at hl 4 rfl) ?_
          obtain ⟨g16, hf⟩ := hf
          refine g_iald K hM 12 rfl rfl rfl g16 dX0_bestChanged_75 ?_
          refine lv_icmp_eq (tgt := 96) hx hb dX0_bestChanged_76 (by decide) (fun b17 => ?_) (fun b17 => ?_)
          · replace hf := hf.1 b17
            refine lv_iload hx hb dX0_bestChanged_96 (lv_at hl 0 rfl) ?_
            refine lv_iload hx hb dX0_bestChanged_98 (lv_at hl 5 rfl) ?_
            refine lv_icmp_eq (tgt := 111) hx hb dX0_bestChanged_100 (by decide) (fun b18 => ?_) (fun b18 => ?_)
            · replace hf := hf.1 b18
              refine lv_aload_n hx hb dX0_bestChanged_111 rfl (lv_at hl 1 rfl) ?_
              refine g_geta K kX hM 14 rfl q177 rfl dX0_bestChanged_112 rfl ?_
              refine lv_iload_n hx hb dX0_bestChanged_115 rfl (lv_at hl 4 rfl) ?_
              obtain ⟨g19, hf⟩ := hf
              refine g_iald K hM 14 rfl rfl rfl g19 dX0_bestChanged_116 ?_
              refine lv_aload_n hx hb dX0_bestChanged_117 rfl (lv_at hl 1 rfl) ?_
              refine g_geta K kX hM 14 rfl q177 rfl dX0_bestChanged_118 rfl ?_
              refine lv_iload hx hb dX0_bestChanged_121 (lv_at hl 6 rfl) ?_
              obtain ⟨g20, hf⟩ := hf
              refine g_iald K hM 14 rfl rfl rfl g20 dX0_bestChanged_123 ?_
              refine lv_isub hx hb dX0_bestChanged_124 ?_
              exact w_X0_bestChanged_125 K hr ih _ _ _ _ _ _ _ _ hf _ _ _ hM (lv_sub hl [1, 2, 3, 4, 5, 6, 0] rfl)
            · replace hf := hf.2 b18
              refine lv_iload hx hb dX0_bestChanged_103 (lv_at hl 5 rfl) ?_
              refine lv_iload hx hb dX0_bestChanged_105 (lv_at hl 0 rfl) ?_
              refine lv_isub hx hb dX0_bestChanged_107 ?_
              refine lv_goto (tgt := 125) hx hb dX0_bestChanged_108 (by decide) ?_
              exact w_X0_bestChanged_125 K hr ih _ _ _ _ _ _ _ _ hf _ _ _ hM (lv_sub hl [1, 2, 3, 4, 5, 6, 0] rfl)
          · replace hf := hf.2 b17
            refine lv_aload_n hx hb dX0_bestChanged_79 rfl (lv_at hl 1 rfl) ?_
            refine g_geta K kX hM 12 rfl q175 rfl dX0_bestChanged_80 rfl ?_
            refine lv_iload hx hb dX0_bestChanged_83 (lv_at hl 6 rfl) ?_
            obtain ⟨g21, hf⟩ := hf
            refine g_iald K hM 12 rfl rfl rfl g21 dX0_bestChanged_85 ?_
            refine lv_aload_n hx hb dX0_bestChanged_86 rfl (lv_at hl 1 rfl) ?_
            refine g_geta K kX hM 12 rfl q175 rfl dX0_bestChanged_87 rfl ?_
            refine lv_iload_n hx hb dX0_bestChanged_90 rfl (lv_at hl 4 rfl) ?_
            obtain ⟨g22, hf⟩ := hf
            refine g_iald K hM 12 rfl rfl rfl g22 dX0_bestChanged_91 ?_
            refine lv_isub hx hb dX0_bestChanged_92 ?_
            refine lv_goto (tgt := 125) hx hb dX0_bestChanged_93 (by decide) ?_
            exact w_X0_bestChanged_125 K hr ih _ _ _ _ _ _ _ _ hf _ _ _ hM (lv_sub hl [1, 2, 3, 4, 5, 6, 0] rfl)
        · replace hf := hf.2 b14
          refine lv_iconst (v := 1) hx hb dX0_bestChanged_59 rfl ?_
          refine lv_goto (tgt := 125) hx hb dX0_bestChanged_60 (by decide) ?_
          exact w_X0_bestChanged_125 K hr ih _ _ _ _ _ _ _ _ hf _ _ _ hM (lv_sub hl [1, 2, 3, 4, 5, 6, 0] rfl)
      · replace hf := hf.2 b13
        refine lv_goto (tgt := 142) hx hb dX0_bestChanged_52 (by decide) ?_
        exact w_X0_bestChanged_142 K hr ih _ _ _ _ _ _ hf _ _ _ hM (lv_sub hl [1, 2, 3, 4, 5, 6] rfl)
theorem c_X0_bestChanged (l : Launch) (r : GR) (A : Nat → Prop) (σ : GS) (x1 : Nat) (x2 : Int32) (P : GS → Int32 → Prop) (hf : f_X0_bestChanged r σ x1 x2 P) : gMet dX l yX0_bestChanged cX0_bestChanged 8 (some .int) 1 20 0 0 r A σ [.ref r.2.1, .ref x1, .int x2] (zI P) := by
  refine g_enter (lv := [(0, .ref r.2.1), (1, .ref x1), (2, .int x2)]) (by decide) (Nat.le_of_ble_eq_true rfl) rfl ?_
  intro p e s m below meth c ls K hr hM hl hi
  obtain ⟨hx, hb, hml, hown, hts, hlk, hKK, hA⟩ := id K
  unfold f_X0_bestChanged at hf
  refine lv_iconst (v := -1) hx hb dX0_bestChanged_0 rfl ?_
  refine lv_istore_n (lv' := [(3, .int (-1 : Int32)), (0, .ref r.2.1), (1, .ref x1), (2, .int x2)]) hx hb dX0_bestChanged_1 rfl hl (by decide) rfl (fun ls hl => ?_)
  refine lv_iconst (v := 0) hx hb dX0_bestChanged_2 rfl ?_
  refine lv_istore (lv' := [(4, .int (0 : Int32)), (3, .int (-1 : Int32)), (0, .ref r.2.1), (1, .ref x1), (2, .int x2)]) hx hb dX0_bestChanged_3 hl (by decide) rfl (fun ls hl => ?_)
  refine lv_iconst (v := 0) hx hb dX0_bestChanged_5 rfl ?_
  refine lv_istore (lv' := [(5, .int (0 : Int32)), (4, .int (0 : Int32)), (3, .int (-1 : Int32)), (0, .ref r.2.1), (1, .ref x1), (2, .int x2)]) hx hb dX0_bestChanged_6 hl (by decide) rfl (fun ls hl => ?_)
  obtain ⟨n_, hf⟩ := hf
  exact w_X0_bestChanged_8 K hr n_ _ _ _ _ _ _ hf _ _ _ hM (lv_sub hl [3, 4, 5, 2, 1, 0] rfl)
theorem c_X0_bestWorth (l : Launch) (r : GR) (A : Nat → Prop) (σ : GS) (x1 : Int32) (P : GS → Int32 → Prop) (hf : f_X0_bestWorth r σ x1 P) : gMet dX l yX0_bestWorth cX0_bestWorth 2 (some .int) 206 8142 0 0 r A σ [.ref r.2.1, .int x1] (zI P) := by
  refine g_enter (lv := [(0, .ref r.2.1), (1, .int x1)]) (by decide) (Nat.le_of_ble_eq_true rfl) rfl ?_
  intro p e s m below meth c ls K hr hM hl hi
  obtain ⟨hx, hb, hml, hown, hts, hlk, hKK, hA⟩ := id K
  unfold f_X0_bestWorth at hf
  refine lv_aload_n hx hb dX0_bestWorth_0 rfl (lv_at hl 0 rfl) ?_
  refine g_geta K kX hM 12 rfl q175 rfl dX0_bestWorth_1 rfl ?_
  refine lv_aload_n hx hb dX0_bestWorth_4 rfl (lv_at hl 0 rfl) ?_
  refine lv_iload_n hx hb dX0_bestWorth_5 rfl (lv_at hl 1 rfl) ?_
  refine g_runi (rV [.int x1] [.ref (r.2.2.1 12)] K kX hM hl (c_X0_bestOf l r A _ _ _ hf) q816 q818 qs20 q82 q819 hdX0_bestOf ⟨Nat.le_of_ble_eq_true rfl, Nat.le_of_ble_eq_true rfl⟩ ⟨Nat.le_refl _, Nat.le_refl _⟩ rfl (Nat.le_of_ble_eq_true rfl) dX0_bestWorth_6) hM (fun σ1 v2 H locs hf hM => ?_)
  obtain ⟨g3, hf⟩ := hf
  refine g_iald K hM 12 rfl rfl rfl g3 dX0_bestWorth_9 ?_
  exact g_reti K hr hM ⟨Nat.le_refl _, Nat.le_refl _⟩ hf dX0_bestWorth_10
theorem c_X0_changed (l : Launch) (r : GR) (A : Nat → Prop) (σ : GS) (x1 : Int32) (x2 : Int32) (x3 : Int32) (P : GS → Int32 → Prop) (hf : f_X0_changed r σ x1 x2 x3 P) : gMet dX l yX0_changed cX0_changed 6 (some .int) 207 8163 0 0 r A σ [.ref r.2.1, .int x1, .int x2, .int x3] (zI P) := by
  refine g_enter (lv := [(0, .ref r.2.1), (1, .int x1), (2, .int x2), (3, .int x3)]) (by decide) (Nat.le_of_ble_eq_true rfl) rfl ?_
  intro p e s m below meth c ls K hr hM hl hi
  obtain ⟨hx, hb, hml, hown, hts, hlk, hKK, hA⟩ := id K
  unfold f_X0_changed at hf
  refine lv_aload_n hx hb dX0_changed_0 rfl (lv_at hl 0 rfl) ?_
  refine lv_iload_n hx hb dX0_changed_1 rfl (lv_at hl 1 rfl) ?_
  refine g_runi (rV [.int x1] [] K kX hM hl (c_X0_isSort l r A _ _ _ hf) q463 q465 qs2 q82 q466 hdX0_isSort ⟨Nat.le_of_ble_eq_true rfl, Nat.le_of_ble_eq_true rfl⟩ ⟨Nat.le_refl _, Nat.le_refl _⟩ rfl (Nat.le_of_ble_eq_true rfl) dX0_changed_2) hM (fun σ1 v2 H locs hf hM => ?_)
  refine lv_if_eq (tgt := 27) hx hb dX0_changed_5 (by decide) (fun b3 => ?_) (fun b3 => ?_)
  · replace hf := hf.1 b3
    refine lv_iconst (v := -1) hx hb dX0_changed_27 rfl ?_
    exact g_reti K hr hM ⟨Nat.le_refl _, Nat.le_refl _⟩ hf dX0_changed_28
  · replace hf := hf.2 b3
    refine lv_iload_n hx hb dX0_changed_8 rfl (lv_at hl 2 rfl) ?_
    refine lv_iconst (v := 1) hx hb dX0_changed_9 rfl ?_
    refine lv_bipush (v := 99) hx hb dX0_changed_10 rfl ?_
    refine g_runi (rS [.int x2, .int (1 : Int32), .int (99 : Int32)] [] K hM hl (c_X0_in l r A _ _ _ _ _ hf) q261 q262 q82 q263 hdX0_in ⟨Nat.le_of_ble_eq_true rfl, Nat.le_of_ble_eq_true rfl⟩ ⟨Nat.le_refl _, Nat.le_refl _⟩ rfl (Nat.le_of_ble_eq_true rfl) dX0_changed_12) hM (fun σ4 v5 H locs hf hM => ?_)
    refine lv_if_eq (tgt := 27) hx hb dX0_changed_15 (by decide) (fun b6 => ?_) (fun b6 => ?_)
    · replace hf := hf.1 b6
      refine lv_iconst (v := -1) hx hb dX0_changed_27 rfl ?_
      exact g_reti K hr hM ⟨Nat.le_refl _, Nat.le_refl _⟩ hf dX0_changed_28
    · replace hf := hf.2 b6
      refine lv_iload_n hx hb dX0_changed_18 rfl (lv_at hl 3 rfl) ?_
      refine lv_iconst (v := 0) hx hb dX0_changed_19 rfl ?_
      refine lv_iconst (v := 1) hx hb dX0_changed_20 rfl ?_
      refine g_runi (rS [.int x3, .int (0 : Int32), .int (1 : Int32)] [] K hM hl (c_X0_in l r A _ _ _ _ _ hf) q261 q262 q82 q263 hdX0_in ⟨Nat.le_of_ble_eq_true rfl, Nat.le_of_ble_eq_true rfl⟩ ⟨Nat.le_refl _, Nat.le_refl _⟩ rfl (Nat.le_of_ble_eq_true rfl) dX0_changed_21) hM (fun σ7 v8 H locs hf hM => ?_)
      refine lv_if_ne (tgt := 29) hx hb dX0_changed_24 (by decide) (fun b9 => ?_) (fun b9 => ?_)
      · replace hf := hf.2 b9
        refine lv_aload_n hx hb dX0_changed_29 rfl (lv_at hl 0 rfl) ?_
        refine lv_iload_n hx hb dX0_changed_30 rfl (lv_at hl 1 rfl) ?_
        refine g_runi (rV [.int x1] [] K kX hM hl (c_X0_bestWorth l r A _ _ _ hf) q900 q902 qs33 q82 q903 hdX0_bestWorth ⟨Nat.le_of_ble_eq_true rfl, Nat.le_of_ble_eq_true rfl⟩ ⟨Nat.le_refl _, Nat.le_refl _⟩ rfl (Nat.le_of_ble_eq_true rfl) dX0_changed_31) hM (fun σ10 v11 H locs hf hM => ?_)
        refine lv_istore (lv' := [(4, .int v11), (0, .ref r.2.1), (1, .int x1), (2, .int x2), (3, .int x3)]) hx hb dX0_changed_34 hl (by decide) rfl (fun ls hl => ?_)
        refine lv_aload_n hx hb dX0_changed_36 rfl (lv_at hl 1 rfl) ?_
        refine g_geta K kX hM 12 rfl q175 rfl dX0_changed_37 rfl ?_
        refine lv_aload_n hx hb dX0_changed_40 rfl (lv_at hl 1 rfl) ?_
        refine lv_aload_n hx hb dX0_changed_41 rfl (lv_at hl 1 rfl) ?_
        refine g_geta K kX hM 1 rfl q162 rfl dX0_changed_42 rfl ?_
        refine lv_iload_n hx hb dX0_changed_45 rfl (lv_at hl 2 rfl) ?_
        obtain ⟨g12, hf⟩ := hf
        obtain ⟨a13, h14, hf⟩ := hf
        refine g_aaldS K hM 1 rfl rfl rfl rfl g12 h14 dX0_changed_46 ?_
        refine lv_iload_n hx hb dX0_changed_47 rfl (lv_at hl 3 rfl) ?_
        refine g_runi (rV [.ref a13, .int x2] [.ref (r.2.2.1 12)] K kX hM hl (c_X0_bestChanged l r A _ _ _ _ hf) q904 q906 qs34 q82 q907 hdX0_bestChanged ⟨Nat.le_of_ble_eq_true rfl, Nat.le_of_ble_eq_true rfl⟩ ⟨Nat.le_refl _, Nat.le_refl _⟩ rfl (Nat.le_of_ble_eq_true rfl) dX0_changed_48) hM (fun σ15 v16 H locs hf hM => ?_)
        obtain ⟨g17, hf⟩ := hf
        refine g_iald K hM 12 rfl rfl rfl g17 dX0_changed_51 ?_
        refine lv_istore (lv' := [(5, .int (gA σ15 12 v16.toNatClampNeg)), (4, .int v11), (0, .ref r.2.1), (1, .int x1), (2, .int x2), (3, .int x3)]) hx hb dX0_changed_52 hl (by decide) rfl (fun ls hl => ?_)
        refine lv_iload_n hx hb dX0_changed_54 rfl (lv_at hl 5 rfl) ?_
        refine lv_if_ne (tgt := 63) hx hb dX0_changed_55 (by decide) (fun b18 => ?_) (fun b18 => ?_)
        · replace hf := hf.2 b18
          refine lv_iload hx hb dX0_changed_63 (lv_at hl 0 rfl) ?_
          refine lv_iload hx hb dX0_changed_65 (lv_at hl 1 rfl) ?_
          refine lv_isub hx hb dX0_changed_67 ?_
          exact g_reti K hr hM ⟨Nat.le_refl _, Nat.le_refl _⟩ hf dX0_changed_68
        · replace hf := hf.1 b18
          refine lv_iload hx hb dX0_changed_58 (lv_at hl 0 rfl) ?_
          refine lv_goto (tgt := 68) hx hb dX0_changed_60 (by decide) ?_
          exact g_reti K hr hM ⟨Nat.le_refl _, Nat.le_refl _⟩ hf dX0_changed_68
      · replace hf := hf.1 b9
        refine lv_iconst (v := -1) hx hb dX0_changed_27 rfl ?_
        exact g_reti K hr hM ⟨Nat.le_refl _, Nat.le_refl _⟩ hf dX0_changed_28
theorem w_X0_free_15 {p : Program} {l : Launch} {e : Env} {s : State} {m : MethodId} {args : Array Value} {below : List Frame} {meth : Method} {c : Code} {r : GR} {A : Nat → Prop} {P : GS → Int32 → Prop} {k2 : GS → Int32 → Prop} (K : gC p s m args meth c cX0_free 5 RX0 r A) (hr : meth.sig.returnType = (some .int)) (H2 : ∀ (σ : GS) (x1 : Int32), k2 σ x1 → gW dX p l e (gRm 205 8121 0 0) s m args below meth c r A (zI P) 0 0 5 2 [(0, .ref r.2.1), (1, .int x1)] [] 0 0 σ) : ∀ (n : Nat) (σ : GS) (x1 : Int32) (x2 : Int32) (x3 : Int32) (x4 : Int32), f_X0_free_15 r k2 P n σ x1 x2 x3 x4 → gW dX p l e (gRm 205 8121 0 0) s m args below meth c r A (zI P) 0 0 5 15 [(0, .ref r.2.1), (1, .int x1), (2, .int x2), (3, .int x3), (4, .int x4)] [] 0 0 σ := by
  obtain ⟨hx, hb, hml, hown, hts, hlk, hKK, hA⟩ := id K
  intro n
  induction n with
  | zero =>
    intro σ x1 x2 x3 x4 hf
    exact absurd hf (fun h => h)
  | succ n ih =>
    intro σ x1 x2 x3 x4 hf H locs ls hM hl
    rw [f_X0_free_15] at hf
    refine lv_iload hx hb dX0_free_15 (lv_at hl 4 rfl) ?_
    refine lv_aload_n hx hb dX0_free_17 rfl (lv_at hl 0 rfl) ?_
    refine g_geti K kX hM 3 rfl q164 rfl dX0_free_18 rfl ?_
    refine lv_icmp_ge (tgt := 91) hx hb dX0_free_21 (by decide) (fun b1 => ?_) (fun b1 => ?_)
    · replace hf := hf.1 b1
      refine lv_iload_n hx hb dX0_free_91 rfl (lv_at hl 2 rfl) ?_
      refine lv_iload_n hx hb dX0_free_92 rfl (lv_at hl 3 rfl) ?_
      refine lv_icmp_gt (tgt := 98) hx hb dX0_free_93 (by decide) (fun b2 => ?_) (fun b2 => ?_)
      · replace hf := hf.1 b2
        refine lv_iinc (v := x1 + 1) (lv' := [(1, .int (x1 + 1)), (0, .ref r.2.1), (2, .int x2), (3, .int x3), (4, .int x4)]) hx hb dX0_free_98 hl (k := 1) rfl rfl (by decide) rfl (fun ls hl => ?_)
        refine lv_goto (tgt := 2) hx hb dX0_free_101 (by decide) ?_
        exact H2 _ _ hf _ _ _ hM (lv_sub hl [1, 0] rfl)
      · replace hf := hf.2 b2
        refine lv_iload_n hx hb dX0_free_96 rfl (lv_at hl 1 rfl) ?_
        exact g_reti K hr hM ⟨Nat.le_refl _, Nat.le_refl _⟩ hf dX0_free_97
    · replace hf := hf.2 b1
      refine lv_aload_n hx hb dX0_free_24 rfl (lv_at hl 0 rfl) ?_
      refine lv_iload hx hb dX0_free_25 (lv_at hl 4 rfl) ?_
      refine g_runv (rV [.int x4] [] K kX hM hl (c_X0_look l r A _ _ _ hf) q820 q822 qs21 q82 q823 hdX0_look ⟨Nat.le_of_ble_eq_true rfl, Nat.le_of_ble_eq_true rfl⟩ ⟨Nat.le_refl _, Nat.le_refl _⟩ rfl (Nat.le_of_ble_eq_true rfl) dX0_free_27) hM (fun σ3 H locs hf hM => ?_)
      refine lv_iload_n hx hb dX0_free_30 rfl (lv_at hl 2 rfl) ?_
      refine lv_aload_n hx hb dX0_free_31 rfl (lv_at hl 0 rfl) ?_
      refine g_geta K kX hM 1 rfl q162 rfl dX0_free_32 rfl ?_
      refine lv_iload hx hb dX0_free_35 (lv_at hl 4 rfl) ?_
      obtain ⟨g5, hf⟩ := hf
      obtain ⟨a6, h7, hf⟩ := hf
      refine g_aaldS K hM 1 rfl rfl rfl rfl g5 h7 dX0_free_37 ?_
      obtain ⟨v9, h8, hf⟩ := hf
      refine p_getN K kY5 hM 0 rfl q436 rfl dX0_free_38 h8 ?_
      refine lv_aload_n hx hb dX0_free_41 rfl (lv_at hl 0 rfl) ?_
      refine g_geta K kX hM 14 rfl q177 rfl dX0_free_42 rfl ?_
      refine lv_aload_n hx hb dX0_free_45 rfl (lv_at hl 0 rfl) ?_
      refine lv_aload_n hx hb dX0_free_46 rfl (lv_at hl 0 rfl) ?_
      refine g_geta K kX hM 1 rfl q162 rfl dX0_free_47 rfl ?_
      refine lv_iload hx hb dX0_free_50 (lv_at hl 4 rfl) ?_
      obtain ⟨g10, hf⟩ := hf
      obtain ⟨a11, h12, hf⟩ := hf
      refine g_aaldS K hM 1 rfl rfl rfl rfl g10 h12 dX0_free_52 ?_
      refine lv_iload_n hx hb dX0_free_53 rfl (lv_at hl 1 rfl) ?_
      refine g_runi (rV [.ref a11, .int x1] [.ref (r.2.2.1 14), .int v9, .int x2] K kX hM hl (c_X0_bestChanged l r A _ _ _ _ hf) q904 q906 qs34 q82 q907 hdX0_bestChanged ⟨Nat.le_of_ble_eq_true rfl, Nat.le_of_ble_eq_true rfl⟩ ⟨Nat.le_refl _, Nat.le_refl _⟩ rfl (Nat.le_of_ble_eq_true rfl) dX0_free_54) hM (fun σ13 v14 H locs hf hM => ?_)
      obtain ⟨g15, hf⟩ := hf
      refine g_iald K hM 14 rfl rfl rfl g15 dX0_free_57 ?_
      refine lv_imul hx hb dX0_free_58 ?_
      refine lv_iadd hx hb dX0_free_59 ?_
      refine lv_topi (fun z16 hz16 => ?_)
      have hf := hf z16 hz16
      refine lv_istore_n (lv' := [(2, .int z16), (0, .ref r.2.1), (1, .int x1), (3, .int x3), (4, .int x4)]) hx hb dX0_free_60 rfl hl (by decide) rfl (fun ls hl => ?_)
      refine lv_iload_n hx hb dX0_free_61 rfl (lv_at hl 3 rfl) ?_
      refine lv_aload_n hx hb dX0_free_62 rfl (lv_at hl 1 rfl) ?_
      refine g_geta K kX hM 1 rfl q162 rfl dX0_free_63 rfl ?_
      refine lv_iload hx hb dX0_free_66 (lv_at hl 4 rfl) ?_
      obtain ⟨g17, hf⟩ := hf
      obtain ⟨a18, h19, hf⟩ := hf
      refine g_aaldS K hM 1 rfl rfl rfl rfl g17 h19 dX0_free_68 ?_
      obtain ⟨v21, h20, hf⟩ := hf
      refine p_getN K kY5 hM 0 rfl q436 rfl dX0_free_69 h20 ?_
      refine lv_aload_n hx hb dX0_free_72 rfl (lv_at hl 1 rfl) ?_
      refine g_geta K kX hM 1 rfl q162 rfl dX0_free_73 rfl ?_
      refine lv_iload hx hb dX0_free_76 (lv_at hl 4 rfl) ?_
      obtain ⟨g22, hf⟩ := hf
      obtain ⟨a23, h24, hf⟩ := hf
      refine g_aaldS K hM 1 rfl rfl rfl rfl g22 h24 dX0_free_78 ?_
      obtain ⟨f27, h28, hf⟩ := hf
      refine g_runi (rP [] [.int v21, .int x3] K kY5 hM hl h28 (c_X5_points l r A _ _ _ hf) q467 q468 q469 q95 q470 hdX5_points ⟨Nat.le_of_ble_eq_true rfl, Nat.le_of_ble_eq_true rfl⟩ ⟨Nat.le_refl _, Nat.le_refl _⟩ rfl (Nat.le_of_ble_eq_true rfl) dX0_free_79) hM (fun σ25 v26 H locs hf hM => ?_)
      refine lv_imul hx hb dX0_free_82 ?_
      refine lv_iadd hx hb dX0_free_83 ?_
      refine lv_istore_n (lv' := [(3, .int (x3 + (v21 * v26))), (2, .int z16), (0, .ref r.2.1), (1, .int x1), (4, .int x4)]) hx hb dX0_free_84 rfl hl (by decide) rfl (fun ls hl => ?_)
      refine lv_iinc (v := x4 + 1) (lv' := [(4, .int (x4 + 1)), (3, .int (x3 + (v21 * v26))), (2, .int z16), (0, .ref r.2.1), (1, .int x1)]) hx hb dX0_free_85 hl (k := 4) rfl rfl (by decide) rfl (fun ls hl => ?_)
      refine lv_goto (tgt := 15) hx hb dX0_free_88 (by decide) ?_
      exact ih _ _ _ _ _ hf _ _ _ hM (lv_sub hl [3, 4, 2, 1, 0] rfl)
theorem w_X0_free_2 {p : Program} {l : Launch} {e : Env} {s : State} {m : MethodId} {args : Array Value} {below : List Frame} {meth : Method} {c : Code} {r : GR} {A : Nat → Prop} {P : GS → Int32 → Prop} (K : gC p s m args meth c cX0_free 5 RX0 r A) (hr : meth.sig.returnType = (some .int)) : ∀ (n : Nat) (σ : GS) (x1 : Int32), f_X0_free_2 r P n σ x1 → gW dX p l e (gRm 205 8121 0 0) s m args below meth c r A (zI P) 0 0 5 2 [(0, .ref r.2.1), (1, .int x1)] [] 0 0 σ := by
  obtain ⟨hx, hb, hml, hown, hts, hlk, hKK, hA⟩ := id K
  intro n
  induction n with
  | zero =>
    intro σ x1 hf
    exact absurd hf (fun h => h)
  | succ n ih =>
    intro σ x1 hf H locs ls hM hl
    rw [f_X0_free_2] at hf
    refine lv_iload_n hx hb dX0_free_2 rfl (lv_at hl 1 rfl) ?_
    refine lv_bipush (v := 99) hx hb dX0_free_3 rfl ?_
    refine lv_icmp_gt (tgt := 104) hx hb dX0_free_5 (by decide) (fun b1 => ?_) (fun b1 => ?_)
    · replace hf := hf.1 b1
      refine lv_bipush (v := -2) hx hb dX0_free_104 rfl ?_
      exact g_reti K hr hM ⟨Nat.le_refl _, Nat.le_refl _⟩ hf dX0_free_106
    · replace hf := hf.2 b1
      refine lv_iconst (v := 0) hx hb dX0_free_8 rfl ?_
      refine lv_istore_n (lv' := [(2, .int (0 : Int32)), (0, .ref r.2.1), (1, .int x1)]) hx hb dX0_free_9 rfl hl (by decide) rfl (fun ls hl => ?_)
      refine lv_iconst (v := 0) hx hb dX0_free_10 rfl ?_
      refine lv_istore_n (lv' := [(3, .int (0 : Int32)), (2, .int (0 : Int32)), (0, .ref r.2.1), (1, .int x1)]) hx hb dX0_free_11 rfl hl (by decide) rfl (fun ls hl => ?_)
      refine lv_iconst (v := 0) hx hb dX0_free_12 rfl ?_
      refine lv_istore (lv' := [(4, .int (0 : Int32)), (3, .int (0 : Int32)), (2, .int (0 : Int32)), (0, .ref r.2.1), (1, .int x1)]) hx hb dX0_free_13 hl (by decide) rfl (fun ls hl => ?_)
      obtain ⟨n_, hf⟩ := hf
      exact w_X0_free_15 K hr ih n_ _ _ _ _ _ hf _ _ _ hM (lv_sub hl [3, 4, 2, 1, 0] rfl)
theorem c_X0_free (l : Launch) (r : GR) (A : Nat → Prop) (σ : GS) (P : GS → Int32 → Prop) (hf : f_X0_free r σ P) : gMet dX l yX0_free cX0_free 5 (some .int) 205 8121 0 0 r A σ [.ref r.2.1] (zI P) := by
  refine g_enter (lv := [(0, .ref r.2.1)]) (by decide) (Nat.le_of_ble_eq_true rfl) rfl ?_
  intro p e s m below meth c ls K hr hM hl hi
  obtain ⟨hx, hb, hml, hown, hts, hlk, hKK, hA⟩ := id K
  unfold f_X0_free at hf
  refine lv_iconst (v := 1) hx hb dX0_free_0 rfl ?_
  refine lv_istore_n (lv' := [(1, .int (1 : Int32)), (0, .ref r.2.1)]) hx hb dX0_free_1 rfl hl (by decide) rfl (fun ls hl => ?_)
  obtain ⟨n_, hf⟩ := hf
  exact w_X0_free_2 K hr n_ _ _ hf _ _ _ hM (lv_sub hl [1, 0] rfl)
theorem w_X0_black_134 {p : Program} {l : Launch} {e : Env} {s : State} {m : MethodId} {args : Array Value} {below : List Frame} {meth : Method} {c : Code} {r : GR} {A : Nat → Prop} {P : GS → Int32 → Prop} {k75 : GS → Nat → Int32 → Int32 → Int32 → Prop} (K : gC p s m args meth c cX0_black 8 RX0 r A) (hr : meth.sig.returnType = (some .int)) (H75 : ∀ (σ : GS) (x4 : Nat) (x5 : Int32) (x6 : Int32) (x7 : Int32), k75 σ x4 x5 x6 x7 → gW dX p l e (gRm 205 8121 0 0) s m args below meth c r A (zI P) 0 0 8 75 [(0, .ref r.2.1), (4, .ref x4), (5, .int x5), (6, .int x6), (7, .int x7)] [] 0 0 σ) : ∀ (σ : GS) (x4 : Nat) (x5 : Int32) (x6 : Int32) (x7 : Int32), f_X0_black_134 r k75 P σ x4 x5 x6 x7 → gW dX p l e (gRm 205 8121 0 0) s m args below meth c r A (zI P) 0 0 8 134 [(0, .ref r.2.1), (4, .ref x4), (5, .int x5), (6, .int x6), (7, .int x7)] [] 0 0 σ := by
  obtain ⟨hx, hb, hml, hown, hts, hlk, hKK, hA⟩ := id K
  intro σ x4 x5 x6 x7 hf H locs ls hM hl
  unfold f_X0_black_134 at hf
  refine lv_iinc (v := x7 + 1) (lv' := [(7, .int (x7 + 1)), (0, .ref r.2.1), (4, .ref x4), (5, .int x5), (6, .int x6)]) hx hb dX0_black_134 hl (k := 4) rfl rfl (by decide) rfl (fun ls hl => ?_)
  refine lv_goto (tgt := 75) hx hb dX0_black_137 (by decide) ?_
  exact H75 _ _ _ _ _ hf _ _ _ hM (lv_sub hl [1, 2, 3, 4, 0] rfl)
theorem w_X0_black_75 {p : Program} {l : Launch} {e : Env} {s : State} {m : MethodId} {args : Array Value} {below : List Frame} {meth : Method} {c : Code} {r : GR} {A : Nat → Prop} {P : GS → Int32 → Prop} (K : gC p s m args meth c cX0_black 8 RX0 r A) (hr : meth.sig.returnType = (some .int)) : ∀ (n : Nat) (σ : GS) (x4 : Nat) (x5 : Int32) (x6 : Int32) (x7 : Int32), f_X0_black_75 r P n σ x4 x5 x6 x7 → gW dX p l e (gRm 205 8121 0 0) s m args below meth c r A (zI P) 0 0 8 75 [(0, .ref r.2.1), (4, .ref x4), (5, .int x5), (6, .int x6), (7, .int x7)] [] 0 0 σ := by
  obtain ⟨hx, hb, hml, hown, hts, hlk, hKK, hA⟩ := id K
  intro n
  induction n with
  | zero =>
    intro σ x4 x5 x6 x7 hf
    exact absurd hf (fun h => h)
  | succ n ih =>
    intro σ x4 x5 x6 x7 hf H locs ls hM hl
    rw [f_X0_black_75] at hf
    refine lv_iload hx hb dX0_black_75 (lv_at hl 4 rfl) ?_
    refine lv_aload_n hx hb dX0_black_77 rfl (lv_at hl 0 rfl) ?_
    refine g_runi (rV [] [.int x7] K kX hM hl (c_X0_basketMany l r A _ _ hf) q824 q826 qs22 q82 q827 hdX0_basketMany ⟨Nat.le_of_ble_eq_true rfl, Nat.le_of_ble_eq_true rfl⟩ ⟨Nat.le_refl _, Nat.le_refl _⟩ rfl (Nat.le_of_ble_eq_true rfl) dX0_black_78) hM (fun σ1 v2 H locs hf hM => ?_)
    refine lv_icmp_ge (tgt := 140) hx hb dX0_black_81 (by decide) (fun b3 => ?_) (fun b3 => ?_)
    · replace hf := hf.1 b3
      refine lv_iload hx hb dX0_black_140 (lv_at hl 3 rfl) ?_
      exact g_reti K hr hM ⟨Nat.le_refl _, Nat.le_refl _⟩ hf dX0_black_142
    · replace hf := hf.2 b3
      refine lv_aload_n hx hb dX0_black_84 rfl (lv_at hl 0 rfl) ?_
      refine g_geta K kX hM 13 rfl q176 rfl dX0_black_85 rfl ?_
      refine lv_iload hx hb dX0_black_88 (lv_at hl 4 rfl) ?_
      obtain ⟨g4, hf⟩ := hf
      refine g_iald K hM 13 rfl rfl rfl g4 dX0_black_90 ?_
      refine lv_iload hx hb dX0_black_91 (lv_at hl 2 rfl) ?_
      refine lv_iconst (v := 0) hx hb dX0_black_93 rfl ?_
      refine lv_aload_n hx hb dX0_black_94 rfl (lv_at hl 0 rfl) ?_
      refine g_geta K kX hM 14 rfl q177 rfl dX0_black_95 rfl ?_
      refine lv_iload hx hb dX0_black_98 (lv_at hl 4 rfl) ?_
      obtain ⟨g5, hf⟩ := hf
      refine g_iald K hM 14 rfl rfl rfl g5 dX0_black_100 ?_
      refine lv_aload hx hb dX0_black_101 (lv_at hl 1 rfl) ?_
      obtain ⟨f8, h9, hf⟩ := hf
      refine g_runi (rP [] [.int (gA σ1 14 x7.toNatClampNeg), .int (0 : Int32), .int x5, .int (gA σ1 13 x7.toNatClampNeg)] K kY5 hM hl h9 (c_X5_points l r A _ _ _ hf) q467 q468 q469 q95 q470 hdX5_points ⟨Nat.le_of_ble_eq_true rfl, Nat.le_of_ble_eq_true rfl⟩ ⟨Nat.le_refl _, Nat.le_refl _⟩ rfl (Nat.le_of_ble_eq_true rfl) dX0_black_103) hM (fun σ6 v7 H locs hf hM => ?_)
      refine lv_isub hx hb dX0_black_106 ?_
      refine va_mmax hx hb (hml.trans hl.1.symm) hown (hts _ q811) (hts _ q642) (hts _ q99) (hts _ q643) (Nat.le_of_ble_eq_true rfl) (Nat.le_of_ble_eq_true rfl) (Nat.zero_le _) (Nat.zero_le _) dX0_black_107 ?_
      refine lv_imul hx hb dX0_black_110 ?_
      refine lv_iadd hx hb dX0_black_111 ?_
      refine lv_aload hx hb dX0_black_112 (lv_at hl 1 rfl) ?_
      obtain ⟨v11, h10, hf⟩ := hf
      refine p_getN K kY5 hM 3 rfl q442 rfl dX0_black_114 h10 ?_
      refine lv_icmp_gt (tgt := 134) hx hb dX0_black_117 (by decide) (fun b12 => ?_) (fun b12 => ?_)
      · replace hf := hf.1 b12
        exact w_X0_black_134 K hr ih _ _ _ _ _ hf _ _ _ hM (lv_sub hl [0, 1, 2, 3, 4] rfl)
      · replace hf := hf.2 b12
        refine lv_iload hx hb dX0_black_120 (lv_at hl 3 rfl) ?_
        refine lv_aload_n hx hb dX0_black_122 rfl (lv_at hl 0 rfl) ?_
        refine g_geta K kX hM 12 rfl q175 rfl dX0_black_123 rfl ?_
        refine lv_iload hx hb dX0_black_126 (lv_at hl 4 rfl) ?_
        obtain ⟨g13, hf⟩ := hf
        refine g_iald K hM 12 rfl rfl rfl g13 dX0_black_128 ?_
        refine va_mmax hx hb (hml.trans hl.1.symm) hown (hts _ q811) (hts _ q642) (hts _ q99) (hts _ q643) (Nat.le_of_ble_eq_true rfl) (Nat.le_of_ble_eq_true rfl) (Nat.zero_le _) (Nat.zero_le _) dX0_black_129 ?_
        refine lv_topi (fun z14 hz14 => ?_)
        have hf := hf z14 hz14
        refine lv_istore (lv' := [(6, .int z14), (0, .ref r.2.1), (4, .ref x4), (5, .int x5), (7, .int x7)]) hx hb dX0_black_132 hl (by decide) rfl (fun ls hl => ?_)
        exact w_X0_black_134 K hr ih _ _ _ _ _ hf _ _ _ hM (lv_sub hl [1, 2, 3, 0, 4] rfl)
theorem c_X0_black (l : Launch) (r : GR) (A : Nat → Prop) (σ : GS) (x1 : Int32) (x2 : Int32) (x3 : Int32) (P : GS → Int32 → Prop) (hf : f_X0_black r σ x1 x2 x3 P) : gMet dX l yX0_black cX0_black 8 (some .int) 205 8121 0 0 r A σ [.ref r.2.1, .int x1, .int x2, .int x3] (zI P) := by
  refine g_enter (lv := [(0, .ref r.2.1), (1, .int x1), (2, .int x2), (3, .int x3)]) (by decide) (Nat.le_of_ble_eq_true rfl) rfl ?_
  intro p e s m below meth c ls K hr hM hl hi
  obtain ⟨hx, hb, hml, hown, hts, hlk, hKK, hA⟩ := id K
  unfold f_X0_black at hf
  refine lv_aload_n hx hb dX0_black_0 rfl (lv_at hl 0 rfl) ?_
  refine lv_iload_n hx hb dX0_black_1 rfl (lv_at hl 1 rfl) ?_
  refine g_runi (rV [.int x1] [] K kX hM hl (c_X0_isSort l r A _ _ _ hf) q463 q465 qs2 q82 q466 hdX0_isSort ⟨Nat.le_of_ble_eq_true rfl, Nat.le_of_ble_eq_true rfl⟩ ⟨Nat.le_refl _, Nat.le_refl _⟩ rfl (Nat.le_of_ble_eq_true rfl) dX0_black_2) hM (fun σ1 v2 H locs hf hM => ?_)
  refine lv_if_eq (tgt := 35) hx hb dX0_black_5 (by decide) (fun b3 => ?_) (fun b3 => ?_)
  · replace hf := hf.1 b3
    refine lv_iconst (v := -1) hx hb dX0_black_35 rfl ?_
    exact g_reti K hr hM ⟨Nat.le_refl _, Nat.le_refl _⟩ hf dX0_black_36
  · replace hf := hf.2 b3
    refine lv_iload_n hx hb dX0_black_8 rfl (lv_at hl 2 rfl) ?_
    refine lv_if_lt (tgt := 35) hx hb dX0_black_9 (by decide) (fun b4 => ?_) (fun b4 => ?_)
    · replace hf := hf.1 b4
      refine lv_iconst (v := -1) hx hb dX0_black_35 rfl ?_
      exact g_reti K hr hM ⟨Nat.le_refl _, Nat.le_refl _⟩ hf dX0_black_36
    · replace hf := hf.2 b4
      refine lv_iload_n hx hb dX0_black_12 rfl (lv_at hl 2 rfl) ?_
      refine lv_bipush (v := 100) hx hb dX0_black_13 rfl ?_
      refine lv_idiv hx hb dX0_black_15 (by decide) ?_
      refine lv_iconst (v := 1) hx hb dX0_black_16 rfl ?_
      refine lv_bipush (v := 99) hx hb dX0_black_17 rfl ?_
      refine g_runi (rS [.int (x2 / (100 : Int32)), .int (1 : Int32), .int (99 : Int32)] [] K hM hl (c_X0_in l r A _ _ _ _ _ hf) q261 q262 q82 q263 hdX0_in ⟨Nat.le_of_ble_eq_true rfl, Nat.le_of_ble_eq_true rfl⟩ ⟨Nat.le_refl _, Nat.le_refl _⟩ rfl (Nat.le_of_ble_eq_true rfl) dX0_black_19) hM (fun σ5 v6 H locs hf hM => ?_)
      refine lv_if_eq (tgt := 35) hx hb dX0_black_22 (by decide) (fun b7 => ?_) (fun b7 => ?_)
      · replace hf := hf.1 b7
        refine lv_iconst (v := -1) hx hb dX0_black_35 rfl ?_
        exact g_reti K hr hM ⟨Nat.le_refl _, Nat.le_refl _⟩ hf dX0_black_36
      · replace hf := hf.2 b7
        refine lv_iload_n hx hb dX0_black_25 rfl (lv_at hl 3 rfl) ?_
        refine lv_iconst (v := 0) hx hb dX0_black_26 rfl ?_
        refine lv_bipush (v := 100) hx hb dX0_black_27 rfl ?_
        refine g_runi (rS [.int x3, .int (0 : Int32), .int (100 : Int32)] [] K hM hl (c_X0_in l r A _ _ _ _ _ hf) q261 q262 q82 q263 hdX0_in ⟨Nat.le_of_ble_eq_true rfl, Nat.le_of_ble_eq_true rfl⟩ ⟨Nat.le_refl _, Nat.le_refl _⟩ rfl (Nat.le_of_ble_eq_true rfl) dX0_black_29) hM (fun σ8 v9 H locs hf hM => ?_)
        refine lv_if_ne (tgt := 37) hx hb dX0_black_32 (by decide) (fun b10 => ?_) (fun b10 => ?_)
        · replace hf := hf.2 b10
          refine lv_aload_n hx hb dX0_black_37 rfl (lv_at hl 0 rfl) ?_
          refine g_geta K kX hM 1 rfl q162 rfl dX0_black_38 rfl ?_
          refine lv_iload_n hx hb dX0_black_41 rfl (lv_at hl 1 rfl) ?_
          obtain ⟨g11, hf⟩ := hf
          obtain ⟨a12, h13, hf⟩ := hf
          refine g_aaldS K hM 1 rfl rfl rfl rfl g11 h13 dX0_black_42 ?_
          refine lv_astore (lv' := [(4, .ref a12), (0, .ref r.2.1), (1, .int x1), (2, .int x2), (3, .int x3)]) hx hb dX0_black_43 hl (by decide) rfl (fun ls hl => ?_)
          refine lv_aload_n hx hb dX0_black_45 rfl (lv_at hl 1 rfl) ?_
          refine lv_iload_n hx hb dX0_black_46 rfl (lv_at hl 2 rfl) ?_
          refine g_runv (rV [.int x1] [] K kX hM hl (c_X0_look l r A _ _ _ hf) q820 q822 qs21 q82 q823 hdX0_look ⟨Nat.le_of_ble_eq_true rfl, Nat.le_of_ble_eq_true rfl⟩ ⟨Nat.le_refl _, Nat.le_refl _⟩ rfl (Nat.le_of_ble_eq_true rfl) dX0_black_47) hM (fun σ14 H locs hf hM => ?_)
          refine lv_iload_n hx hb dX0_black_50 rfl (lv_at hl 3 rfl) ?_
          refine lv_bipush (v := 100) hx hb dX0_black_51 rfl ?_
          refine lv_idiv hx hb dX0_black_53 (by decide) ?_
          refine lv_iload_n hx hb dX0_black_54 rfl (lv_at hl 3 rfl) ?_
          refine lv_bipush (v := 100) hx hb dX0_black_55 rfl ?_
          refine lv_irem hx hb dX0_black_57 (by decide) ?_
          refine lv_iload_n hx hb dX0_black_58 rfl (lv_at hl 4 rfl) ?_
          refine lv_imul hx hb dX0_black_59 ?_
          refine lv_bipush (v := 99) hx hb dX0_black_60 rfl ?_
          refine lv_iadd hx hb dX0_black_62 ?_
          refine lv_bipush (v := 100) hx hb dX0_black_63 rfl ?_
          refine lv_idiv hx hb dX0_black_65 (by decide) ?_
          refine lv_iadd hx hb dX0_black_66 ?_
          refine lv_topi (fun z16 hz16 => ?_)
          have hf := hf z16 hz16
          refine lv_istore (lv' := [(5, .int z16), (4, .ref a12), (0, .ref r.2.1), (1, .int x1), (2, .int x2), (3, .int x3)]) hx hb dX0_black_67 hl (by decide) rfl (fun ls hl => ?_)
          refine lv_iconst (v := 0) hx hb dX0_black_69 rfl ?_
          refine lv_istore (lv' := [(6, .int (0 : Int32)), (5, .int z16), (4, .ref a12), (0, .ref r.2.1), (1, .int x1), (2, .int x2), (3, .int x3)]) hx hb dX0_black_70 hl (by decide) rfl (fun ls hl => ?_)
          refine lv_iconst (v := 0) hx hb dX0_black_72 rfl ?_
          refine lv_istore (lv' := [(7, .int (0 : Int32)), (6, .int (0 : Int32)), (5, .int z16), (4, .ref a12), (0, .ref r.2.1), (1, .int x1), (2, .int x2), (3, .int x3)]) hx hb dX0_black_73 hl (by decide) rfl (fun ls hl => ?_)
          obtain ⟨n_, hf⟩ := hf
          exact w_X0_black_75 K hr n_ _ _ _ _ _ hf _ _ _ hM (lv_sub hl [4, 3, 2, 1, 0] rfl)
        · replace hf := hf.1 b10
          refine lv_iconst (v := -1) hx hb dX0_black_35 rfl ?_
          exact g_reti K hr hM ⟨Nat.le_refl _, Nat.le_refl _⟩ hf dX0_black_36
theorem w_X0_allHeads_4 {p : Program} {l : Launch} {e : Env} {s : State} {m : MethodId} {args : Array Value} {below : List Frame} {meth : Method} {c : Code} {r : GR} {A : Nat → Prop} {P : GS → Int32 → Prop} (K : gC p s m args meth c cX0_allHeads 3 RX0 r A) (hr : meth.sig.returnType = (some .int)) : ∀ (n : Nat) (σ : GS) (x1 : Int32) (x2 : Int32), f_X0_allHeads_4 r P n σ x1 x2 → gW dX p l e (gRm 0 0 0 0) s m args below meth c r A (zI P) 0 0 3 4 [(0, .ref r.2.1), (1, .int x1), (2, .int x2)] [] 0 0 σ := by
  obtain ⟨hx, hb, hml, hown, hts, hlk, hKK, hA⟩ := id K
  intro n
  induction n with
  | zero =>
    intro σ x1 x2 hf
    exact absurd hf (fun h => h)
  | succ n ih =>
    intro σ x1 x2 hf H locs ls hM hl
    rw [f_X0_allHeads_4] at hf
    refine lv_iload_n hx hb dX0_allHeads_4 rfl (lv_at hl 2 rfl) ?_
    refine lv_aload_n hx hb dX0_allHeads_5 rfl (lv_at hl 0 rfl) ?_
    refine g_geti K kX hM 3 rfl q164 rfl dX0_allHeads_6 rfl ?_
    refine lv_icmp_ge (tgt := 30) hx hb dX0_allHeads_9 (by decide) (fun b1 => ?_) (fun b1 => ?_)
    · replace hf := hf.1 b1
      refine lv_iload_n hx hb dX0_allHeads_30 rfl (lv_at hl 1 rfl) ?_
      exact g_reti K hr hM ⟨Nat.le_refl _, Nat.le_refl _⟩ hf dX0_allHeads_31
    · replace hf := hf.2 b1
      refine lv_iload_n hx hb dX0_allHeads_12 rfl (lv_at hl 1 rfl) ?_
      refine lv_aload_n hx hb dX0_allHeads_13 rfl (lv_at hl 0 rfl) ?_
      refine g_geta K kX hM 1 rfl q162 rfl dX0_allHeads_14 rfl ?_
      refine lv_iload_n hx hb dX0_allHeads_17 rfl (lv_at hl 2 rfl) ?_
      obtain ⟨g2, hf⟩ := hf
      obtain ⟨a3, h4, hf⟩ := hf
      refine g_aaldS K hM 1 rfl rfl rfl rfl g2 h4 dX0_allHeads_18 ?_
      obtain ⟨v6, h5, hf⟩ := hf
      refine p_getN K kY5 hM 0 rfl q436 rfl dX0_allHeads_19 h5 ?_
      refine lv_iadd hx hb dX0_allHeads_22 ?_
      refine lv_istore_n (lv' := [(1, .int (x1 + v6)), (0, .ref r.2.1), (2, .int x2)]) hx hb dX0_allHeads_23 rfl hl (by decide) rfl (fun ls hl => ?_)
      refine lv_iinc (v := x2 + 1) (lv' := [(2, .int (x2 + 1)), (1, .int (x1 + v6)), (0, .ref r.2.1)]) hx hb dX0_allHeads_24 hl (k := 2) rfl rfl (by decide) rfl (fun ls hl => ?_)
      refine lv_goto (tgt := 4) hx hb dX0_allHeads_27 (by decide) ?_
      exact ih _ _ _ hf _ _ _ hM (lv_sub hl [2, 1, 0] rfl)
theorem c_X0_allHeads (l : Launch) (r : GR) (A : Nat → Prop) (σ : GS) (P : GS → Int32 → Prop) (hf : f_X0_allHeads r σ P) : gMet dX l yX0_allHeads cX0_allHeads 3 (some .int) 0 0 0 0 r A σ [.ref r.2.1] (zI P) := by
  refine g_enter (lv := [(0, .ref r.2.1)]) (by decide) (Nat.le_of_ble_eq_true rfl) rfl ?_
  intro p e s m below meth c ls K hr hM hl hi
  obtain ⟨hx, hb, hml, hown, hts, hlk, hKK, hA⟩ := id K
  unfold f_X0_allHeads at hf
  refine lv_iconst (v := 0) hx hb dX0_allHeads_0 rfl ?_
  refine lv_istore_n (lv' := [(1, .int (0 : Int32)), (0, .ref r.2.1)]) hx hb dX0_allHeads_1 rfl hl (by decide) rfl (fun ls hl => ?_)
  refine lv_iconst (v := 0) hx hb dX0_allHeads_2 rfl ?_
  refine lv_istore_n (lv' := [(2, .int (0 : Int32)), (1, .int (0 : Int32)), (0, .ref r.2.1)]) hx hb dX0_allHeads_3 rfl hl (by decide) rfl (fun ls hl => ?_)
  obtain ⟨n_, hf⟩ := hf
  exact w_X0_allHeads_4 K hr n_ _ _ _ hf _ _ _ hM (lv_sub hl [2, 1, 0] rfl)
theorem w_X0_besideOf_151 {p : Program} {l : Launch} {e : Env} {s : State} {m : MethodId} {args : Array Value} {below : List Frame} {meth : Method} {c : Code} {r : GR} {A : Nat → Prop} {P : GS → Int32 → Prop} {k66 : GS → Int32 → Int32 → Int32 → Int32 → Prop} (K : gC p s m args meth c cX0_besideOf 7 RX0 r A) (hr : meth.sig.returnType = (some .int)) (H66 : ∀ (σ : GS) (x1 : Int32) (x2 : Int32) (x3 : Int32) (x4 : Int32), k66 σ x1 x2 x3 x4 → gW dX p l e (gRm 205 8121 0 0) s m args below meth c r A (zI P) 0 0 7 66 [(0, .ref r.2.1), (1, .int x1), (2, .int x2), (3, .int x3), (4, .int x4)] [] 0 0 σ) : ∀ (σ : GS) (x1 : Int32) (x2 : Int32) (x3 : Int32) (x4 : Int32), f_X0_besideOf_151 r k66 P σ x1 x2 x3 x4 → gW dX p l e (gRm 205 8121 0 0) s m args below meth c r A (zI P) 0 0 7 151 [(0, .ref r.2.1), (1, .int x1), (2, .int x2), (3, .int x3), (4, .int x4)] [] 0 0 σ := by
  obtain ⟨hx, hb, hml, hown, hts, hlk, hKK, hA⟩ := id K
  intro σ x1 x2 x3 x4 hf H locs ls hM hl
  unfold f_X0_besideOf_151 at hf
  refine lv_iinc (v := x4 + 1) (lv' := [(4, .int (x4 + 1)), (0, .ref r.2.1), (1, .int x1), (2, .int x2), (3, .int x3)]) hx hb dX0_besideOf_151 hl (k := 4) rfl rfl (by decide) rfl (fun ls hl => ?_)
  refine lv_goto (tgt := 66) hx hb dX0_besideOf_154 (by decide) ?_
  exact H66 _ _ _ _ _ hf _ _ _ hM (lv_sub hl [1, 2, 3, 4, 0] rfl)
theorem w_X0_besideOf_81 {p : Program} {l : Launch} {e : Env} {s : State} {m : MethodId} {args : Array Value} {below : List Frame} {meth : Method} {c : Code} {r : GR} {A : Nat → Prop} {P : GS → Int32 → Prop} {k66 : GS → Int32 → Int32 → Int32 → Int32 → Prop} (K : gC p s m args meth c cX0_besideOf 7 RX0 r A) (hr : meth.sig.returnType = (some .int)) (H66 : ∀ (σ : GS) (x1 : Int32) (x2 : Int32) (x3 : Int32) (x4 : Int32), k66 σ x1 x2 x3 x4 → gW dX p l e (gRm 205 8121 0 0) s m args below meth c r A (zI P) 0 0 7 66 [(0, .ref r.2.1), (1, .int x1), (2, .int x2), (3, .int x3), (4, .int x4)] [] 0 0 σ) : ∀ (n : Nat) (σ : GS) (x1 : Int32) (x2 : Int32) (x3 : Int32) (x4 : Int32) (x5 : Int32) (x6 : Int32), f_X0_besideOf_81 r k66 P n σ x1 x2 x3 x4 x5 x6 → gW dX p l e (gRm 205 8121 0 0) s m args below meth c r A (zI P) 0 0 7 81 [(0, .ref r.2.1), (1, .int x1), (2, .int x2), (3, .int x3), (4, .int x4), (5, .int x5), (6, .int x6)] [] 0 0 σ := by
  obtain ⟨hx, hb, hml, hown, hts, hlk, hKK, hA⟩ := id K
  intro n
  induction n with
  | zero =>
    intro σ x1 x2 x3 x4 x5 x6 hf
    exact absurd hf (fun h => h)
  | succ n ih =>
    intro σ x1 x2 x3 x4 x5 x6 hf H locs ls hM hl
    rw [f_X0_besideOf_81] at hf
    refine lv_iload hx hb dX0_besideOf_81 (lv_at hl 6 rfl) ?_
    refine lv_aload_n hx hb dX0_besideOf_83 rfl (lv_at hl 0 rfl) ?_
    refine g_geti K kX hM 2 rfl q163 rfl dX0_besideOf_84 rfl ?_
    refine lv_icmp_ge (tgt := 125) hx hb dX0_besideOf_87 (by decide) (fun b1 => ?_) (fun b1 => ?_)
    · replace hf := hf.1 b1
      refine lv_iload hx hb dX0_besideOf_125 (lv_at hl 5 rfl) ?_
      refine lv_aload_n hx hb dX0_besideOf_127 rfl (lv_at hl 0 rfl) ?_
      refine g_geta K kX hM 1 rfl q162 rfl dX0_besideOf_128 rfl ?_
      refine lv_iload_n hx hb dX0_besideOf_131 rfl (lv_at hl 1 rfl) ?_
      obtain ⟨g2, hf⟩ := hf
      obtain ⟨a3, h4, hf⟩ := hf
      refine g_aaldS K hM 1 rfl rfl rfl rfl g2 h4 dX0_besideOf_132 ?_
      obtain ⟨v6, h5, hf⟩ := hf
      refine p_getN K kY5 hM 3 rfl q442 rfl dX0_besideOf_133 h5 ?_
      refine lv_icmp_gt (tgt := 151) hx hb dX0_besideOf_136 (by decide) (fun b7 => ?_) (fun b7 => ?_)
      · replace hf := hf.1 b7
        exact w_X0_besideOf_151 K hr H66 _ _ _ _ _ hf _ _ _ hM (lv_sub hl [0, 1, 2, 3, 4] rfl)
      · replace hf := hf.2 b7
        refine lv_iload_n hx hb dX0_besideOf_139 rfl (lv_at hl 3 rfl) ?_
        refine lv_aload_n hx hb dX0_besideOf_140 rfl (lv_at hl 0 rfl) ?_
        refine g_geta K kX hM 12 rfl q175 rfl dX0_besideOf_141 rfl ?_
        refine lv_iload hx hb dX0_besideOf_144 (lv_at hl 4 rfl) ?_
        obtain ⟨g8, hf⟩ := hf
        refine g_iald K hM 12 rfl rfl rfl g8 dX0_besideOf_146 ?_
        refine va_mmax hx hb (hml.trans hl.1.symm) hown (hts _ q811) (hts _ q642) (hts _ q99) (hts _ q643) (Nat.le_of_ble_eq_true rfl) (Nat.le_of_ble_eq_true rfl) (Nat.zero_le _) (Nat.zero_le _) dX0_besideOf_147 ?_
        refine lv_topi (fun z9 hz9 => ?_)
        have hf := hf z9 hz9
        refine lv_istore_n (lv' := [(3, .int z9), (0, .ref r.2.1), (1, .int x1), (2, .int x2), (4, .int x4), (5, .int x5), (6, .int x6)]) hx hb dX0_besideOf_150 rfl hl (by decide) rfl (fun ls hl => ?_)
        exact w_X0_besideOf_151 K hr H66 _ _ _ _ _ hf _ _ _ hM (lv_sub hl [1, 2, 3, 0, 4] rfl)
    · replace hf := hf.2 b1
      refine lv_iload hx hb dX0_besideOf_90 (lv_at hl 5 rfl) ?_
      refine lv_aload_n hx hb dX0_besideOf_92 rfl (lv_at hl 0 rfl) ?_
      refine lv_iload hx hb dX0_besideOf_93 (lv_at hl 4 rfl) ?_
      refine lv_iload hx hb dX0_besideOf_95 (lv_at hl 6 rfl) ?_
      refine g_runi (rV [.int x4, .int x6] [.int x5] K kX hM hl (c_X0_inBasket l r A _ _ _ _ hf) q828 q830 qs23 q82 q831 hdX0_inBasket ⟨Nat.le_of_ble_eq_true rfl, Nat.le_of_ble_eq_true rfl⟩ ⟨Nat.le_refl _, Nat.le_refl _⟩ rfl (Nat.le_of_ble_eq_true rfl) dX0_besideOf_97) hM (fun σ10 v11 H locs hf hM => ?_)
      refine lv_aload_n hx hb dX0_besideOf_100 rfl (lv_at hl 0 rfl) ?_
      refine g_geta K kX hM 0 rfl q161 rfl dX0_besideOf_101 rfl ?_
      refine lv_iload hx hb dX0_besideOf_104 (lv_at hl 6 rfl) ?_
      obtain ⟨g12, hf⟩ := hf
      obtain ⟨a13, h14, hf⟩ := hf
      refine g_aaldS K hM 0 rfl rfl rfl rfl g12 h14 dX0_besideOf_106 ?_
      obtain ⟨v16, h15, hf⟩ := hf
      refine p_getN K kY3 hM 2 rfl q274 rfl dX0_besideOf_107 h15 ?_
      refine lv_iload_n hx hb dX0_besideOf_110 rfl (lv_at hl 2 rfl) ?_
      refine lv_imul hx hb dX0_besideOf_111 ?_
      refine lv_bipush (v := 100) hx hb dX0_besideOf_112 rfl ?_
      refine lv_idiv hx hb dX0_besideOf_114 (by decide) ?_
      refine lv_imul hx hb dX0_besideOf_115 ?_
      refine lv_iadd hx hb dX0_besideOf_116 ?_
      refine lv_topi (fun z17 hz17 => ?_)
      have hf := hf z17 hz17
      refine lv_istore (lv' := [(5, .int z17), (0, .ref r.2.1), (1, .int x1), (2, .int x2), (3, .int x3), (4, .int x4), (6, .int x6)]) hx hb dX0_besideOf_117 hl (by decide) rfl (fun ls hl => ?_)
      refine lv_iinc (v := x6 + 1) (lv' := [(6, .int (x6 + 1)), (5, .int z17), (0, .ref r.2.1), (1, .int x1), (2, .int x2), (3, .int x3), (4, .int x4)]) hx hb dX0_besideOf_119 hl (k := 6) rfl rfl (by decide) rfl (fun ls hl => ?_)
      refine lv_goto (tgt := 81) hx hb dX0_besideOf_122 (by decide) ?_
      exact ih _ _ _ _ _ _ _ hf _ _ _ hM (lv_sub hl [2, 3, 4, 5, 6, 1, 0] rfl)
theorem w_X0_besideOf_66 {p : Program} {l : Launch} {e : Env} {s : State} {m : MethodId} {args : Array Value} {below : List Frame} {meth : Method} {c : Code} {r : GR} {A : Nat → Prop} {P : GS → Int32 → Prop} (K : gC p s m args meth c cX0_besideOf 7 RX0 r A) (hr : meth.sig.returnType = (some .int)) : ∀ (n : Nat) (σ : GS) (x1 : Int32) (x2 : Int32) (x3 : Int32) (x4 : Int32), f_X0_besideOf_66 r P n σ x1 x2 x3 x4 → gW dX p l e (gRm 205 8121 0 0) s m args below meth c r A (zI P) 0 0 7 66 [(0, .ref r.2.1), (1, .int x1), (2, .int x2), (3, .int x3), (4, .int x4)] [] 0 0 σ := by
  obtain ⟨hx, hb, hml, hown, hts, hlk, hKK, hA⟩ := id K
  intro n
  induction n with
  | zero =>
    intro σ x1 x2 x3 x4 hf
    exact absurd hf (fun h => h)
  | succ n ih =>
    intro σ x1 x2 x3 x4 hf H locs ls hM hl
    rw [f_X0_besideOf_66] at hf
    refine lv_iload hx hb dX0_besideOf_66 (lv_at hl 4 rfl) ?_
    refine lv_aload_n hx hb dX0_besideOf_68 rfl (lv_at hl 0 rfl) ?_
    refine g_runi (rV [] [.int x4] K kX hM hl (c_X0_basketMany l r A _ _ hf) q824 q826 qs22 q82 q827 hdX0_basketMany ⟨Nat.le_of_ble_eq_true rfl, Nat.le_of_ble_eq_true rfl⟩ ⟨Nat.le_refl _, Nat.le_refl _⟩ rfl (Nat.le_of_ble_eq_true rfl) dX0_besideOf_69) hM (fun σ1 v2 H locs hf hM => ?_)
    refine lv_icmp_ge (tgt := 157) hx hb dX0_besideOf_72 (by decide) (fun b3 => ?_) (fun b3 => ?_)
    · replace hf := hf.1 b3
      refine lv_iload_n hx hb dX0_besideOf_157 rfl (lv_at hl 3 rfl) ?_
      exact g_reti K hr hM ⟨Nat.le_refl _, Nat.le_refl _⟩ hf dX0_besideOf_158
    · replace hf := hf.2 b3
      refine lv_iconst (v := 0) hx hb dX0_besideOf_75 rfl ?_
      refine lv_istore (lv' := [(5, .int (0 : Int32)), (0, .ref r.2.1), (1, .int x1), (2, .int x2), (3, .int x3), (4, .int x4)]) hx hb dX0_besideOf_76 hl (by decide) rfl (fun ls hl => ?_)
      refine lv_iconst (v := 0) hx hb dX0_besideOf_78 rfl ?_
      refine lv_istore (lv' := [(6, .int (0 : Int32)), (5, .int (0 : Int32)), (0, .ref r.2.1), (1, .int x1), (2, .int x2), (3, .int x3), (4, .int x4)]) hx hb dX0_besideOf_79 hl (by decide) rfl (fun ls hl => ?_)
      obtain ⟨n_, hf⟩ := hf
      exact w_X0_besideOf_81 K hr ih n_ _ _ _ _ _ _ _ hf _ _ _ hM (lv_sub hl [2, 3, 4, 5, 6, 1, 0] rfl)
theorem w_X0_besideOf_14 {p : Program} {l : Launch} {e : Env} {s : State} {m : MethodId} {args : Array Value} {below : List Frame} {meth : Method} {c : Code} {r : GR} {A : Nat → Prop} {P : GS → Int32 → Prop} (K : gC p s m args meth c cX0_besideOf 7 RX0 r A) (hr : meth.sig.returnType = (some .int)) : ∀ (n : Nat) (σ : GS) (x3 : Int32) (x4 : Int32), f_X0_besideOf_14 r P n σ x3 x4 → gW dX p l e (gRm 205 8121 0 0) s m args below meth c r A (zI P) 0 0 7 14 [(0, .ref r.2.1), (3, .int x3), (4, .int x4)] [] 0 0 σ := by
  obtain ⟨hx, hb, hml, hown, hts, hlk, hKK, hA⟩ := id K
  intro n
  induction n with
  | zero =>
    intro σ x3 x4 hf
    exact absurd hf (fun h => h)
  | succ n ih =>
    intro σ x3 x4 hf H locs ls hM hl
    rw [f_X0_besideOf_14] at hf
    refine lv_iload hx hb dX0_besideOf_14 (lv_at hl 2 rfl) ?_
    refine lv_aload_n hx hb dX0_besideOf_16 rfl (lv_at hl 0 rfl) ?_
    refine g_geti K kX hM 2 rfl q163 rfl dX0_besideOf_17 rfl ?_
    refine lv_icmp_ge (tgt := 61) hx hb dX0_besideOf_20 (by decide) (fun b1 => ?_) (fun b1 => ?_)
    · replace hf := hf.1 b1
      refine lv_iload_n hx hb dX0_besideOf_61 rfl (lv_at hl 1 rfl) ?_
      exact g_reti K hr hM ⟨Nat.le_refl _, Nat.le_refl _⟩ hf dX0_besideOf_62
    · replace hf := hf.2 b1
      refine lv_iload_n hx hb dX0_besideOf_23 rfl (lv_at hl 1 rfl) ?_
      refine lv_aload_n hx hb dX0_besideOf_24 rfl (lv_at hl 0 rfl) ?_
      refine g_geta K kX hM 15 rfl q178 rfl dX0_besideOf_25 rfl ?_
      refine lv_iconst (v := 4) hx hb dX0_besideOf_28 rfl ?_
      refine lv_iload hx hb dX0_besideOf_29 (lv_at hl 2 rfl) ?_
      refine lv_imul hx hb dX0_besideOf_31 ?_
      refine lv_iconst (v := 3) hx hb dX0_besideOf_32 rfl ?_
      refine lv_aload_n hx hb dX0_besideOf_33 rfl (lv_at hl 0 rfl) ?_
      refine g_geta K kX hM 0 rfl q161 rfl dX0_besideOf_34 rfl ?_
      refine lv_iload hx hb dX0_besideOf_37 (lv_at hl 2 rfl) ?_
      obtain ⟨g2, hf⟩ := hf
      obtain ⟨a3, h4, hf⟩ := hf
      refine g_aaldS K hM 0 rfl rfl rfl rfl g2 h4 dX0_besideOf_39 ?_
      obtain ⟨v6, h5, hf⟩ := hf
      refine p_getN K kY3 hM 1 rfl q272 rfl dX0_besideOf_40 h5 ?_
      refine lv_aload_n hx hb dX0_besideOf_43 rfl (lv_at hl 0 rfl) ?_
      refine g_runi (rV [] [.int v6, .int (3 : Int32), .int ((4 : Int32) * x4), .ref (r.2.2.1 15), .int x3] K kX hM hl (c_X0_allHeads l r A _ _ hf) q927 q929 qs36 q82 q930 hdX0_allHeads ⟨Nat.le_of_ble_eq_true rfl, Nat.le_of_ble_eq_true rfl⟩ ⟨Nat.le_refl _, Nat.le_refl _⟩ rfl (Nat.le_of_ble_eq_true rfl) dX0_besideOf_44) hM (fun σ7 v8 H locs hf hM => ?_)
      obtain ⟨g9, hf⟩ := hf
      refine lv_idiv hx hb dX0_besideOf_47 g9 ?_
      refine va_mmin hx hb (hml.trans hl.1.symm) hown (hts _ q810) (hts _ q645) (hts _ q99) (hts _ q646) (Nat.le_of_ble_eq_true rfl) (Nat.le_of_ble_eq_true rfl) (Nat.zero_le _) (Nat.zero_le _) dX0_besideOf_48 ?_
      refine lv_iadd hx hb dX0_besideOf_51 ?_
      obtain ⟨g10, hf⟩ := hf
      refine g_iald K hM 15 rfl rfl rfl g10 dX0_besideOf_52 ?_
      refine lv_iadd hx hb dX0_besideOf_53 ?_
      refine lv_topi (fun z11 hz11 => ?_)
      have hf := hf z11 hz11
      refine lv_istore_n (lv' := [(3, .int z11), (0, .ref r.2.1), (4, .int x4)]) hx hb dX0_besideOf_54 rfl hl (by decide) rfl (fun ls hl => ?_)
      refine lv_iinc (v := x4 + 1) (lv' := [(4, .int (x4 + 1)), (3, .int z11), (0, .ref r.2.1)]) hx hb dX0_besideOf_55 hl (k := 2) rfl rfl (by decide) rfl (fun ls hl => ?_)
      refine lv_goto (tgt := 14) hx hb dX0_besideOf_58 (by decide) ?_
      exact ih _ _ _ hf _ _ _ hM (lv_sub hl [2, 1, 0] rfl)
theorem c_X0_besideOf (l : Launch) (r : GR) (A : Nat → Prop) (σ : GS) (x1 : Int32) (x2 : Int32) (P : GS → Int32 → Prop) (hf : f_X0_besideOf r σ x1 x2 P) : gMet dX l yX0_besideOf cX0_besideOf 7 (some .int) 205 8121 0 0 r A σ [.ref r.2.1, .int x1, .int x2] (zI P) := by
  refine g_enter (lv := [(0, .ref r.2.1), (1, .int x1), (2, .int x2)]) (by decide) (Nat.le_of_ble_eq_true rfl) rfl ?_
  intro p e s m below meth c ls K hr hM hl hi
  obtain ⟨hx, hb, hml, hown, hts, hlk, hKK, hA⟩ := id K
  unfold f_X0_besideOf at hf
  refine lv_aload_n hx hb dX0_besideOf_0 rfl (lv_at hl 0 rfl) ?_
  refine lv_iload_n hx hb dX0_besideOf_1 rfl (lv_at hl 1 rfl) ?_
  refine g_runv (rV [.int x1] [] K kX hM hl (c_X0_look l r A _ _ _ hf) q820 q822 qs21 q82 q823 hdX0_look ⟨Nat.le_of_ble_eq_true rfl, Nat.le_of_ble_eq_true rfl⟩ ⟨Nat.le_refl _, Nat.le_refl _⟩ rfl (Nat.le_of_ble_eq_true rfl) dX0_besideOf_2) hM (fun σ1 H locs hf hM => ?_)
  refine lv_iconst (v := 0) hx hb dX0_besideOf_5 rfl ?_
  refine lv_istore_n (lv' := [(3, .int (0 : Int32)), (0, .ref r.2.1), (1, .int x1), (2, .int x2)]) hx hb dX0_besideOf_6 rfl hl (by decide) rfl (fun ls hl => ?_)
  refine lv_iload_n hx hb dX0_besideOf_7 rfl (lv_at hl 3 rfl) ?_
  refine lv_if_ne (tgt := 63) hx hb dX0_besideOf_8 (by decide) (fun b3 => ?_) (fun b3 => ?_)
  · replace hf := hf.2 b3
    refine lv_iconst (v := 0) hx hb dX0_besideOf_63 rfl ?_
    refine lv_istore (lv' := [(4, .int (0 : Int32)), (3, .int (0 : Int32)), (0, .ref r.2.1), (1, .int x1), (2, .int x2)]) hx hb dX0_besideOf_64 hl (by decide) rfl (fun ls hl => ?_)
    obtain ⟨n_, hf⟩ := hf
    exact w_X0_besideOf_66 K hr n_ _ _ _ _ _ hf _ _ _ hM (lv_sub hl [2, 3, 4, 1, 0] rfl)
  · replace hf := hf.1 b3
    refine lv_iconst (v := 0) hx hb dX0_besideOf_11 rfl ?_
    refine lv_istore (lv' := [(4, .int (0 : Int32)), (3, .int (0 : Int32)), (0, .ref r.2.1), (1, .int x1), (2, .int x2)]) hx hb dX0_besideOf_12 hl (by decide) rfl (fun ls hl => ?_)
    obtain ⟨n_, hf⟩ := hf
    exact w_X0_besideOf_14 K hr n_ _ _ _ hf _ _ _ hM (lv_sub hl [2, 1, 0] rfl)
theorem w_X0_isDear_16 {p : Program} {l : Launch} {e : Env} {s : State} {m : MethodId} {args : Array Value} {below : List Frame} {meth : Method} {c : Code} {r : GR} {A : Nat → Prop} {P : GS → Int32 → Prop} (K : gC p s m args meth c cX0_isDear 1 RX0 r A) (hr : meth.sig.returnType = (some .boolean)) : ∀ (σ : GS), f_X0_isDear_16 r P σ → gW dX p l e (gRm 1 22 0 0) s m args below meth c r A (zI P) 0 0 1 16 [] [] 0 0 σ := by
  obtain ⟨hx, hb, hml, hown, hts, hlk, hKK, hA⟩ := id K
  intro σ hf H locs ls hM hl
  unfold f_X0_isDear_16 at hf
  refine lv_iconst (v := 1) hx hb dX0_isDear_16 rfl ?_
  refine lv_goto (tgt := 21) hx hb dX0_isDear_17 (by decide) ?_
  exact g_retz K hr hM ⟨Nat.le_refl _, Nat.le_refl _⟩ gZ_1 hf dX0_isDear_21
theorem c_X0_isDear (l : Launch) (r : GR) (A : Nat → Prop) (σ : GS) (x0 : Int32) (P : GS → Int32 → Prop) (hf : f_X0_isDear r σ x0 P) : gMet dX l yX0_isDear cX0_isDear 1 (some .boolean) 1 22 0 0 r A σ [.int x0] (zI P) := by
  refine g_enter (lv := [(0, .int x0)]) (by decide) (Nat.le_of_ble_eq_true rfl) rfl ?_
  intro p e s m below meth c ls K hr hM hl hi
  obtain ⟨hx, hb, hml, hown, hts, hlk, hKK, hA⟩ := id K
  unfold f_X0_isDear at hf
  refine lv_iload_n hx hb dX0_isDear_0 rfl (lv_at hl 0 rfl) ?_
  refine lv_if_eq (tgt := 16) hx hb dX0_isDear_1 (by decide) (fun b1 => ?_) (fun b1 => ?_)
  · replace hf := hf.1 b1
    exact w_X0_isDear_16 K hr _ hf _ _ _ hM (lv_sub hl [] rfl)
  · replace hf := hf.2 b1
    refine lv_iload_n hx hb dX0_isDear_4 rfl (lv_at hl 0 rfl) ?_
    refine lv_bipush (v := 100) hx hb dX0_isDear_5 rfl ?_
    refine lv_sipush (v := 900) hx hb dX0_isDear_7 rfl ?_
    refine g_runi (rS [.int x0, .int (100 : Int32), .int (900 : Int32)] [] K hM hl (c_X0_in l r A _ _ _ _ _ hf) q261 q262 q82 q263 hdX0_in ⟨Nat.le_of_ble_eq_true rfl, Nat.le_of_ble_eq_true rfl⟩ ⟨Nat.le_refl _, Nat.le_refl _⟩ rfl (Nat.le_of_ble_eq_true rfl) dX0_isDear_10) hM (fun σ2 v3 H locs hf hM => ?_)
    refine lv_if_eq (tgt := 20) hx hb dX0_isDear_13 (by decide) (fun b4 => ?_) (fun b4 => ?_)
    · replace hf := hf.1 b4
      refine lv_iconst (v := 0) hx hb dX0_isDear_20 rfl ?_
      exact g_retz K hr hM ⟨Nat.le_refl _, Nat.le_refl _⟩ gZ_0 hf dX0_isDear_21
    · replace hf := hf.2 b4
      exact w_X0_isDear_16 K hr _ hf _ _ _ hM (lv_sub hl [] rfl)
theorem c_X0_beside (l : Launch) (r : GR) (A : Nat → Prop) (σ : GS) (x1 : Int32) (x2 : Int32) (P : GS → Int32 → Prop) (hf : f_X0_beside r σ x1 x2 P) : gMet dX l yX0_beside cX0_beside 3 (some .int) 206 8147 0 0 r A σ [.ref r.2.1, .int x1, .int x2] (zI P) := by
  refine g_enter (lv := [(0, .ref r.2.1), (1, .int x1), (2, .int x2)]) (by decide) (Nat.le_of_ble_eq_true rfl) rfl ?_
  intro p e s m below meth c ls K hr hM hl hi
  obtain ⟨hx, hb, hml, hown, hts, hlk, hKK, hA⟩ := id K
  unfold f_X0_beside at hf
  refine lv_aload_n hx hb dX0_beside_0 rfl (lv_at hl 0 rfl) ?_
  refine lv_iload_n hx hb dX0_beside_1 rfl (lv_at hl 1 rfl) ?_
  refine g_runi (rV [.int x1] [] K kX hM hl (c_X0_isSort l r A _ _ _ hf) q463 q465 qs2 q82 q466 hdX0_isSort ⟨Nat.le_of_ble_eq_true rfl, Nat.le_of_ble_eq_true rfl⟩ ⟨Nat.le_refl _, Nat.le_refl _⟩ rfl (Nat.le_of_ble_eq_true rfl) dX0_beside_2) hM (fun σ1 v2 H locs hf hM => ?_)
  refine lv_if_eq (tgt := 24) hx hb dX0_beside_5 (by decide) (fun b3 => ?_) (fun b3 => ?_)
  · replace hf := hf.1 b3
    refine lv_iconst (v := -1) hx hb dX0_beside_24 rfl ?_
    exact g_reti K hr hM ⟨Nat.le_refl _, Nat.le_refl _⟩ hf dX0_beside_25
  · replace hf := hf.2 b3
    refine lv_iload_n hx hb dX0_beside_8 rfl (lv_at hl 2 rfl) ?_
    refine g_runi (rS [.int x2] [] K hM hl (c_X0_isDear l r A _ _ _ hf) q920 q921 q82 q922 hdX0_isDear ⟨Nat.le_of_ble_eq_true rfl, Nat.le_of_ble_eq_true rfl⟩ ⟨Nat.le_refl _, Nat.le_refl _⟩ rfl (Nat.le_of_ble_eq_true rfl) dX0_beside_9) hM (fun σ4 v5 H locs hf hM => ?_)
    refine lv_if_eq (tgt := 24) hx hb dX0_beside_12 (by decide) (fun b6 => ?_) (fun b6 => ?_)
    · replace hf := hf.1 b6
      refine lv_iconst (v := -1) hx hb dX0_beside_24 rfl ?_
      exact g_reti K hr hM ⟨Nat.le_refl _, Nat.le_refl _⟩ hf dX0_beside_25
    · replace hf := hf.2 b6
      refine lv_aload_n hx hb dX0_beside_15 rfl (lv_at hl 0 rfl) ?_
      refine lv_iload_n hx hb dX0_beside_16 rfl (lv_at hl 1 rfl) ?_
      refine lv_iload_n hx hb dX0_beside_17 rfl (lv_at hl 2 rfl) ?_
      refine g_runi (rV [.int x1, .int x2] [] K kX hM hl (c_X0_besideOf l r A _ _ _ _ hf) q923 q925 qs35 q82 q926 hdX0_besideOf ⟨Nat.le_of_ble_eq_true rfl, Nat.le_of_ble_eq_true rfl⟩ ⟨Nat.le_refl _, Nat.le_refl _⟩ rfl (Nat.le_of_ble_eq_true rfl) dX0_beside_18) hM (fun σ7 v8 H locs hf hM => ?_)
      refine lv_goto (tgt := 25) hx hb dX0_beside_21 (by decide) ?_
      exact g_reti K hr hM ⟨Nat.le_refl _, Nat.le_refl _⟩ hf dX0_beside_25
theorem w_X0_loses_41 {p : Program} {l : Launch} {e : Env} {s : State} {m : MethodId} {args : Array Value} {below : List Frame} {meth : Method} {c : Code} {r : GR} {A : Nat → Prop} {P : GS → Int32 → Prop} {k13 : GS → Int32 → Int32 → Int32 → Prop} (K : gC p s m args meth c cX0_loses 4 RX0 r A) (hr : meth.sig.returnType = (some .int)) (H13 : ∀ (σ : GS) (x1 : Int32) (x2 : Int32) (x3 : Int32), k13 σ x1 x2 x3 → gW dX p l e (gRm 207 8163 0 0) s m args below meth c r A (zI P) 0 0 4 13 [(0, .ref r.2.1), (1, .int x1), (2, .int x2), (3, .int x3)] [] 0 0 σ) : ∀ (σ : GS) (x1 : Int32) (x2 : Int32) (x3 : Int32), f_X0_loses_41 r k13 P σ x1 x2 x3 → gW dX p l e (gRm 207 8163 0 0) s m args below meth c r A (zI P) 0 0 4 41 [(0, .ref r.2.1), (1, .int x1), (2, .int x2), (3, .int x3)] [] 0 0 σ := by
  obtain ⟨hx, hb, hml, hown, hts, hlk, hKK, hA⟩ := id K
  intro σ x1 x2 x3 hf H locs ls hM hl
  unfold f_X0_loses_41 at hf
  refine lv_iinc (v := x3 + 1) (lv' := [(3, .int (x3 + 1)), (0, .ref r.2.1), (1, .int x1), (2, .int x2)]) hx hb dX0_loses_41 hl (k := 3) rfl rfl (by decide) rfl (fun ls hl => ?_)
  refine lv_goto (tgt := 13) hx hb dX0_loses_44 (by decide) ?_
  exact H13 _ _ _ _ hf _ _ _ hM (lv_sub hl [1, 2, 3, 0] rfl)
theorem w_X0_loses_13 {p : Program} {l : Launch} {e : Env} {s : State} {m : MethodId} {args : Array Value} {below : List Frame} {meth : Method} {c : Code} {r : GR} {A : Nat → Prop} {P : GS → Int32 → Prop} (K : gC p s m args meth c cX0_loses 4 RX0 r A) (hr : meth.sig.returnType = (some .int)) : ∀ (n : Nat) (σ : GS) (x1 : Int32) (x2 : Int32) (x3 : Int32), f_X0_loses_13 r P n σ x1 x2 x3 → gW dX p l e (gRm 207 8163 0 0) s m args below meth c r A (zI P) 0 0 4 13 [(0, .ref r.2.1), (1, .int x1), (2, .int x2), (3, .int x3)] [] 0 0 σ := by
  obtain ⟨hx, hb, hml, hown, hts, hlk, hKK, hA⟩ := id K
  intro n
  induction n with
  | zero =>
    intro σ x1 x2 x3 hf
    exact absurd hf (fun h => h)
  | succ n ih =>
    intro σ x1 x2 x3 hf H locs ls hM hl
    rw [f_X0_loses_13] at hf
    refine lv_iload_n hx hb dX0_loses_13 rfl (lv_at hl 3 rfl) ?_
    refine lv_aload_n hx hb dX0_loses_14 rfl (lv_at hl 0 rfl) ?_
    refine g_geti K kX hM 3 rfl q164 rfl dX0_loses_15 rfl ?_
    refine lv_icmp_ge (tgt := 47) hx hb dX0_loses_18 (by decide) (fun b1 => ?_) (fun b1 => ?_)
    · replace hf := hf.1 b1
      refine lv_iload_n hx hb dX0_loses_47 rfl (lv_at hl 2 rfl) ?_
      exact g_reti K hr hM ⟨Nat.le_refl _, Nat.le_refl _⟩ hf dX0_loses_48
    · replace hf := hf.2 b1
      refine lv_aload_n hx hb dX0_loses_21 rfl (lv_at hl 0 rfl) ?_
      refine lv_iload_n hx hb dX0_loses_22 rfl (lv_at hl 3 rfl) ?_
      refine g_runi (rV [.int x3] [] K kX hM hl (c_X0_bestWorth l r A _ _ _ hf) q900 q902 qs33 q82 q903 hdX0_bestWorth ⟨Nat.le_of_ble_eq_true rfl, Nat.le_of_ble_eq_true rfl⟩ ⟨Nat.le_refl _, Nat.le_refl _⟩ rfl (Nat.le_of_ble_eq_true rfl) dX0_loses_23) hM (fun σ2 v3 H locs hf hM => ?_)
      refine lv_aload_n hx hb dX0_loses_26 rfl (lv_at hl 0 rfl) ?_
      refine lv_iload_n hx hb dX0_loses_27 rfl (lv_at hl 3 rfl) ?_
      refine lv_iload_n hx hb dX0_loses_28 rfl (lv_at hl 1 rfl) ?_
      refine g_runi (rV [.int x3, .int x1] [.int v3] K kX hM hl (c_X0_besideOf l r A _ _ _ _ hf) q923 q925 qs35 q82 q926 hdX0_besideOf ⟨Nat.le_of_ble_eq_true rfl, Nat.le_of_ble_eq_true rfl⟩ ⟨Nat.le_refl _, Nat.le_refl _⟩ rfl (Nat.le_of_ble_eq_true rfl) dX0_loses_29) hM (fun σ4 v5 H locs hf hM => ?_)
      refine lv_icmp_ge (tgt := 41) hx hb dX0_loses_32 (by decide) (fun b6 => ?_) (fun b6 => ?_)
      · replace hf := hf.1 b6
        exact w_X0_loses_41 K hr ih _ _ _ _ hf _ _ _ hM (lv_sub hl [0, 1, 2, 3] rfl)
      · replace hf := hf.2 b6
        refine lv_iload_n hx hb dX0_loses_35 rfl (lv_at hl 2 rfl) ?_
        refine lv_iconst (v := 1) hx hb dX0_loses_36 rfl ?_
        refine lv_iload_n hx hb dX0_loses_37 rfl (lv_at hl 3 rfl) ?_
        refine lv_ishl hx hb dX0_loses_38 ?_
        refine lv_ior hx hb dX0_loses_39 ?_
        refine lv_istore_n (lv' := [(2, .int (x2 ||| ((1 : Int32) <<< (x3 &&& 31)))), (0, .ref r.2.1), (1, .int x1), (3, .int x3)]) hx hb dX0_loses_40 rfl hl (by decide) rfl (fun ls hl => ?_)
        exact w_X0_loses_41 K hr ih _ _ _ _ hf _ _ _ hM (lv_sub hl [1, 2, 0, 3] rfl)
theorem c_X0_loses (l : Launch) (r : GR) (A : Nat → Prop) (σ : GS) (x1 : Int32) (P : GS → Int32 → Prop) (hf : f_X0_loses r σ x1 P) : gMet dX l yX0_loses cX0_loses 4 (some .int) 207 8163 0 0 r A σ [.ref r.2.1, .int x1] (zI P) := by
  refine g_enter (lv := [(0, .ref r.2.1), (1, .int x1)]) (by decide) (Nat.le_of_ble_eq_true rfl) rfl ?_
  intro p e s m below meth c ls K hr hM hl hi
  obtain ⟨hx, hb, hml, hown, hts, hlk, hKK, hA⟩ := id K
  unfold f_X0_loses at hf
  refine lv_iload_n hx hb dX0_loses_0 rfl (lv_at hl 1 rfl) ?_
  refine g_runi (rS [.int x1] [] K hM hl (c_X0_isDear l r A _ _ _ hf) q920 q921 q82 q922 hdX0_isDear ⟨Nat.le_of_ble_eq_true rfl, Nat.le_of_ble_eq_true rfl⟩ ⟨Nat.le_refl _, Nat.le_refl _⟩ rfl (Nat.le_of_ble_eq_true rfl) dX0_loses_1) hM (fun σ1 v2 H locs hf hM => ?_)
  refine lv_if_ne (tgt := 9) hx hb dX0_loses_4 (by decide) (fun b3 => ?_) (fun b3 => ?_)
  · replace hf := hf.2 b3
    refine lv_iconst (v := 0) hx hb dX0_loses_9 rfl ?_
    refine lv_istore_n (lv' := [(2, .int (0 : Int32)), (0, .ref r.2.1), (1, .int x1)]) hx hb dX0_loses_10 rfl hl (by decide) rfl (fun ls hl => ?_)
    refine lv_iconst (v := 0) hx hb dX0_loses_11 rfl ?_
    refine lv_istore_n (lv' := [(3, .int (0 : Int32)), (2, .int (0 : Int32)), (0, .ref r.2.1), (1, .int x1)]) hx hb dX0_loses_12 rfl hl (by decide) rfl (fun ls hl => ?_)
    obtain ⟨n_, hf⟩ := hf
    exact w_X0_loses_13 K hr n_ _ _ _ _ hf _ _ _ hM (lv_sub hl [2, 3, 1, 0] rfl)
  · replace hf := hf.1 b3
    refine lv_iconst (v := -1) hx hb dX0_loses_7 rfl ?_
    exact g_reti K hr hM ⟨Nat.le_refl _, Nat.le_refl _⟩ hf dX0_loses_8
theorem c_J13_bitCount (l : Launch) (r : GR) (A : Nat → Prop) (σ : GS) (x0 : Int32) (P : GS → Int32 → Prop) (hf : f_J13_bitCount r σ x0 P) : gMet dX l yJ13_bitCount cJ13_bitCount 1 (some .int) 0 0 0 0 r A σ [.int x0] (zI P) := by
  refine g_enter (lv := [(0, .int x0)]) (by decide) (Nat.le_of_ble_eq_true rfl) rfl ?_
  intro p e s m below meth c ls K hr hM hl hi
  obtain ⟨hx, hb, hml, hown, hts, hlk, hKK, hA⟩ := id K
  unfold f_J13_bitCount at hf
  refine lv_iload_n hx hb dJ13_bitCount_0 rfl (lv_at hl 0 rfl) ?_
  refine lv_iload_n hx hb dJ13_bitCount_1 rfl (lv_at hl 0 rfl) ?_
  refine lv_iconst (v := 1) hx hb dJ13_bitCount_2 rfl ?_
  refine lv_iushr hx hb dJ13_bitCount_3 rfl ?_
  refine lv_ldcw hx hb hown (hts _ q942) dJ13_bitCount_4 ?_
  refine lv_iand hx hb dJ13_bitCount_7 ?_
  refine lv_isub hx hb dJ13_bitCount_8 ?_
  refine lv_topi (fun z1 hz1 => ?_)
  have hf := hf z1 hz1
  refine lv_istore_n (lv' := [(0, .int z1)]) hx hb dJ13_bitCount_9 rfl hl (by decide) rfl (fun ls hl => ?_)
  refine lv_iload_n hx hb dJ13_bitCount_10 rfl (lv_at hl 0 rfl) ?_
  refine lv_ldcw hx hb hown (hts _ q943) dJ13_bitCount_11 ?_
  refine lv_iand hx hb dJ13_bitCount_14 ?_
  refine lv_iload_n hx hb dJ13_bitCount_15 rfl (lv_at hl 0 rfl) ?_
  refine lv_iconst (v := 2) hx hb dJ13_bitCount_16 rfl ?_
  refine lv_iushr hx hb dJ13_bitCount_17 rfl ?_
  refine lv_ldcw hx hb hown (hts _ q943) dJ13_bitCount_18 ?_
  refine lv_iand hx hb dJ13_bitCount_21 ?_
  refine lv_iadd hx hb dJ13_bitCount_22 ?_
  refine lv_topi (fun z2 hz2 => ?_)
  have hf := hf z2 hz2
  refine lv_istore_n (lv' := [(0, .int z2)]) hx hb dJ13_bitCount_23 rfl hl (by decide) rfl (fun ls hl => ?_)
  refine lv_iload_n hx hb dJ13_bitCount_24 rfl (lv_at hl 0 rfl) ?_
  refine lv_iload_n hx hb dJ13_bitCount_25 rfl (lv_at hl 0 rfl) ?_
  refine lv_iconst (v := 4) hx hb dJ13_bitCount_26 rfl ?_
  refine lv_iushr hx hb dJ13_bitCount_27 rfl ?_
  refine lv_iadd hx hb dJ13_bitCount_28 ?_
  refine lv_ldcw hx hb hown (hts _ q944) dJ13_bitCount_29 ?_
  refine lv_iand hx hb dJ13_bitCount_32 ?_
  refine lv_topi (fun z3 hz3 => ?_)
  have hf := hf z3 hz3
  refine lv_istore_n (lv' := [(0, .int z3)]) hx hb dJ13_bitCount_33 rfl hl (by decide) rfl (fun ls hl => ?_)
  refine lv_iload_n hx hb dJ13_bitCount_34 rfl (lv_at hl 0 rfl) ?_
  refine lv_iload_n hx hb dJ13_bitCount_35 rfl (lv_at hl 0 rfl) ?_
  refine lv_bipush (v := 8) hx hb dJ13_bitCount_36 rfl ?_
  refine lv_iushr hx hb dJ13_bitCount_38 rfl ?_
  refine lv_iadd hx hb dJ13_bitCount_39 ?_
  refine lv_topi (fun z4 hz4 => ?_)
  have hf := hf z4 hz4
  refine lv_istore_n (lv' := [(0, .int z4)]) hx hb dJ13_bitCount_40 rfl hl (by decide) rfl (fun ls hl => ?_)
  refine lv_iload_n hx hb dJ13_bitCount_41 rfl (lv_at hl 0 rfl) ?_
  refine lv_iload_n hx hb dJ13_bitCount_42 rfl (lv_at hl 0 rfl) ?_
  refine lv_bipush (v := 16) hx hb dJ13_bitCount_43 rfl ?_
  refine lv_iushr hx hb dJ13_bitCount_45 rfl ?_
  refine lv_iadd hx hb dJ13_bitCount_46 ?_
  refine lv_topi (fun z5 hz5 => ?_)
  have hf := hf z5 hz5
  refine lv_istore_n (lv' := [(0, .int z5)]) hx hb dJ13_bitCount_47 rfl hl (by decide) rfl (fun ls hl => ?_)
  refine lv_iload_n hx hb dJ13_bitCount_48 rfl (lv_at hl 0 rfl) ?_
  refine lv_bipush (v := 63) hx hb dJ13_bitCount_49 rfl ?_
  refine lv_iand hx hb dJ13_bitCount_51 ?_
  exact g_reti K hr hM ⟨Nat.le_refl _, Nat.le_refl _⟩ hf dJ13_bitCount_52
theorem w_X0_fewest_163 {p : Program} {l : Launch} {e : Env} {s : State} {m : MethodId} {args : Array Value} {below : List Frame} {meth : Method} {c : Code} {r : GR} {A : Nat → Prop} {P : GS → Int32 → Prop} (K : gC p s m args meth c cX0_fewest 5 RX0 r A) (hr : meth.sig.returnType = (some .int)) : ∀ (n : Nat) (σ : GS) (x1 : Int32) (x2 : Int32), f_X0_fewest_163 r P n σ x1 x2 → gW dX p l e (gRm 207 8165 0 0) s m args below meth c r A (zI P) 0 0 5 163 [(0, .ref r.2.1), (1, .int x1), (2, .int x2)] [] 0 0 σ := by
  obtain ⟨hx, hb, hml, hown, hts, hlk, hKK, hA⟩ := id K
  intro n
  induction n with
  | zero =>
    intro σ x1 x2 hf
    exact absurd hf (fun h => h)
  | succ n ih =>
    intro σ x1 x2 hf H locs ls hM hl
    rw [f_X0_fewest_163] at hf
    refine lv_iload_n hx hb dX0_fewest_163 rfl (lv_at hl 2 rfl) ?_
    refine lv_aload_n hx hb dX0_fewest_164 rfl (lv_at hl 0 rfl) ?_
    refine g_geti K kX hM 2 rfl q163 rfl dX0_fewest_165 rfl ?_
    refine lv_icmp_ge (tgt := 192) hx hb dX0_fewest_168 (by decide) (fun b1 => ?_) (fun b1 => ?_)
    · replace hf := hf.1 b1
      refine lv_iload_n hx hb dX0_fewest_192 rfl (lv_at hl 1 rfl) ?_
      exact g_reti K hr hM ⟨Nat.le_refl _, Nat.le_refl _⟩ hf dX0_fewest_193
    · replace hf := hf.2 b1
      refine lv_aload_n hx hb dX0_fewest_171 rfl (lv_at hl 0 rfl) ?_
      refine g_geta K kX hM 0 rfl q161 rfl dX0_fewest_172 rfl ?_
      refine lv_iload_n hx hb dX0_fewest_175 rfl (lv_at hl 2 rfl) ?_
      obtain ⟨g2, hf⟩ := hf
      obtain ⟨a3, h4, hf⟩ := hf
      refine g_aaldS K hM 0 rfl rfl rfl rfl g2 h4 dX0_fewest_176 ?_
      refine lv_aload_n hx hb dX0_fewest_177 rfl (lv_at hl 0 rfl) ?_
      refine g_geta K kX hM 17 rfl q180 rfl dX0_fewest_178 rfl ?_
      refine lv_iload_n hx hb dX0_fewest_181 rfl (lv_at hl 2 rfl) ?_
      obtain ⟨g5, hf⟩ := hf
      refine g_iald K hM 17 rfl rfl rfl g5 dX0_fewest_182 ?_
      refine p_putN K kY3 nmX3 hM 3 rfl q276 rfl dX0_fewest_183 rfl rfl rfl hf (fun H locs σ6 hf hM => ?_)
      refine lv_iinc (v := x2 + 1) (lv' := [(2, .int (x2 + 1)), (0, .ref r.2.1), (1, .int x1)]) hx hb dX0_fewest_186 hl (k := 2) rfl rfl (by decide) rfl (fun ls hl => ?_)
      refine lv_goto (tgt := 163) hx hb dX0_fewest_189 (by decide) ?_
      exact ih _ _ _ hf _ _ _ hM (lv_sub hl [1, 2, 0] rfl)
theorem w_X0_fewest_155 {p : Program} {l : Launch} {e : Env} {s : State} {m : MethodId} {args : Array Value} {below : List Frame} {meth : Method} {c : Code} {r : GR} {A : Nat → Prop} {P : GS → Int32 → Prop} {k36 : GS → Int32 → Int32 → Prop} (K : gC p s m args meth c cX0_fewest 5 RX0 r A) (hr : meth.sig.returnType = (some .int)) (H36 : ∀ (σ : GS) (x1 : Int32) (x2 : Int32), k36 σ x1 x2 → gW dX p l e (gRm 207 8165 0 0) s m args below meth c r A (zI P) 0 0 5 36 [(0, .ref r.2.1), (1, .int x1), (2, .int x2)] [] 0 0 σ) : ∀ (σ : GS) (x1 : Int32) (x2 : Int32), f_X0_fewest_155 r k36 P σ x1 x2 → gW dX p l e (gRm 207 8165 0 0) s m args below meth c r A (zI P) 0 0 5 155 [(0, .ref r.2.1), (1, .int x1), (2, .int x2)] [] 0 0 σ := by
  obtain ⟨hx, hb, hml, hown, hts, hlk, hKK, hA⟩ := id K
  intro σ x1 x2 hf H locs ls hM hl
  unfold f_X0_fewest_155 at hf
  refine lv_iinc (v := x2 + 1) (lv' := [(2, .int (x2 + 1)), (0, .ref r.2.1), (1, .int x1)]) hx hb dX0_fewest_155 hl (k := 2) rfl rfl (by decide) rfl (fun ls hl => ?_)
  refine lv_goto (tgt := 36) hx hb dX0_fewest_158 (by decide) ?_
  exact H36 _ _ _ hf _ _ _ hM (lv_sub hl [1, 2, 0] rfl)
theorem w_X0_fewest_141 {p : Program} {l : Launch} {e : Env} {s : State} {m : MethodId} {args : Array Value} {below : List Frame} {meth : Method} {c : Code} {r : GR} {A : Nat → Prop} {P : GS → Int32 → Prop} {k36 : GS → Int32 → Int32 → Prop} {k117 : GS → Int32 → Int32 → Int32 → Int32 → Prop} (K : gC p s m args meth c cX0_fewest 5 RX0 r A) (hr : meth.sig.returnType = (some .int)) (H36 : ∀ (σ : GS) (x1 : Int32) (x2 : Int32), k36 σ x1 x2 → gW dX p l e (gRm 207 8165 0 0) s m args below meth c r A (zI P) 0 0 5 36 [(0, .ref r.2.1), (1, .int x1), (2, .int x2)] [] 0 0 σ) (H117 : ∀ (σ : GS) (x1 : Int32) (x2 : Int32) (x3 : Int32) (x4 : Int32), k117 σ x1 x2 x3 x4 → gW dX p l e (gRm 207 8165 0 0) s m args below meth c r A (zI P) 0 0 5 117 [(0, .ref r.2.1), (1, .int x1), (2, .int x2), (3, .int x3), (4, .int x4)] [] 0 0 σ) : ∀ (σ : GS) (x1 : Int32) (x2 : Int32) (x4 : Int32) (t1 : Int32) (t0 : Int32), f_X0_fewest_141 r k36 k117 P σ x1 x2 x4 t1 t0 → gW dX p l e (gRm 207 8165 0 0) s m args below meth c r A (zI P) 0 0 5 141 [(0, .ref r.2.1), (1, .int x1), (2, .int x2), (4, .int x4)] [.int t1, .int t0] 0 0 σ := by
  obtain ⟨hx, hb, hml, hown, hts, hlk, hKK, hA⟩ := id K
  intro σ x1 x2 x4 t1 t0 hf H locs ls hM hl
  unfold f_X0_fewest_141 at hf
  refine lv_iand hx hb dX0_fewest_141 ?_
  refine lv_istore_n (lv' := [(3, .int (t0 &&& t1)), (0, .ref r.2.1), (1, .int x1), (2, .int x2), (4, .int x4)]) hx hb dX0_fewest_142 rfl hl (by decide) rfl (fun ls hl => ?_)
  refine lv_iinc (v := x4 + 1) (lv' := [(4, .int (x4 + 1)), (3, .int (t0 &&& t1)), (0, .ref r.2.1), (1, .int x1), (2, .int x2)]) hx hb dX0_fewest_143 hl (k := 4) rfl rfl (by decide) rfl (fun ls hl => ?_)
  refine lv_goto (tgt := 117) hx hb dX0_fewest_146 (by decide) ?_
  exact H117 _ _ _ _ _ hf _ _ _ hM (lv_sub hl [2, 3, 4, 1, 0] rfl)
theorem w_X0_fewest_117 {p : Program} {l : Launch} {e : Env} {s : State} {m : MethodId} {args : Array Value} {below : List Frame} {meth : Method} {c : Code} {r : GR} {A : Nat → Prop} {P : GS → Int32 → Prop} {k36 : GS → Int32 → Int32 → Prop} (K : gC p s m args meth c cX0_fewest 5 RX0 r A) (hr : meth.sig.returnType = (some .int)) (H36 : ∀ (σ : GS) (x1 : Int32) (x2 : Int32), k36 σ x1 x2 → gW dX p l e (gRm 207 8165 0 0) s m args below meth c r A (zI P) 0 0 5 36 [(0, .ref r.2.1), (1, .int x1), (2, .int x2)] [] 0 0 σ) : ∀ (n : Nat) (σ : GS) (x1 : Int32) (x2 : Int32) (x3 : Int32) (x4 : Int32), f_X0_fewest_117 r k36 P n σ x1 x2 x3 x4 → gW dX p l e (gRm 207 8165 0 0) s m args below meth c r A (zI P) 0 0 5 117 [(0, .ref r.2.1), (1, .int x1), (2, .int x2), (3, .int x3), (4, .int x4)] [] 0 0 σ := by
  obtain ⟨hx, hb, hml, hown, hts, hlk, hKK, hA⟩ := id K
  intro n
  induction n with
  | zero =>
    intro σ x1 x2 x3 x4 hf
    exact absurd hf (fun h => h)
  | succ n ih =>
    intro σ x1 x2 x3 x4 hf H locs ls hM hl
    rw [f_X0_fewest_117] at hf
    refine lv_iload hx hb dX0_fewest_117 (lv_at hl 4 rfl) ?_
    refine lv_aload_n hx hb dX0_fewest_119 rfl (lv_at hl 0 rfl) ?_
    refine g_geti K kX hM 2 rfl q163 rfl dX0_fewest_120 rfl ?_
    refine lv_icmp_ge (tgt := 149) hx hb dX0_fewest_123 (by decide) (fun b1 => ?_) (fun b1 => ?_)
    · replace hf := hf.1 b1
      refine lv_iload_n hx hb dX0_fewest_149 rfl (lv_at hl 3 rfl) ?_
      refine lv_if_eq (tgt := 155) hx hb dX0_fewest_150 (by decide) (fun b2 => ?_) (fun b2 => ?_)
      · replace hf := hf.1 b2
        exact w_X0_fewest_155 K hr H36 _ _ _ hf _ _ _ hM (lv_sub hl [0, 1, 2] rfl)
      · replace hf := hf.2 b2
        refine lv_iload_n hx hb dX0_fewest_153 rfl (lv_at hl 2 rfl) ?_
        refine lv_istore_n (lv' := [(1, .int x2), (0, .ref r.2.1), (2, .int x2), (3, .int x3), (4, .int x4)]) hx hb dX0_fewest_154 rfl hl (by decide) rfl (fun ls hl => ?_)
        exact w_X0_fewest_155 K hr H36 _ _ _ hf _ _ _ hM (lv_sub hl [1, 0, 2] rfl)
    · replace hf := hf.2 b1
      refine lv_iload_n hx hb dX0_fewest_126 rfl (lv_at hl 3 rfl) ?_
      refine lv_aload_n hx hb dX0_fewest_127 rfl (lv_at hl 0 rfl) ?_
      refine lv_iload hx hb dX0_fewest_128 (lv_at hl 4 rfl) ?_
      refine g_runi (rV [.int x4] [.int x3] K kX hM hl (c_X0_over l r A _ _ _ hf) q853 q855 qs28 q82 q856 hdX0_over ⟨Nat.le_of_ble_eq_true rfl, Nat.le_of_ble_eq_true rfl⟩ ⟨Nat.le_refl _, Nat.le_refl _⟩ rfl (Nat.le_of_ble_eq_true rfl) dX0_fewest_130) hM (fun σ3 v4 H locs hf hM => ?_)
      refine lv_if_lt (tgt := 140) hx hb dX0_fewest_133 (by decide) (fun b5 => ?_) (fun b5 => ?_)
      · replace hf := hf.1 b5
        refine lv_iconst (v := 0) hx hb dX0_fewest_140 rfl ?_
        exact w_X0_fewest_141 K hr H36 ih _ _ _ _ _ _ hf _ _ _ hM (lv_sub hl [0, 1, 2, 4] rfl)
      · replace hf := hf.2 b5
        refine lv_iconst (v := 1) hx hb dX0_fewest_136 rfl ?_
        refine lv_goto (tgt := 141) hx hb dX0_fewest_137 (by decide) ?_
        exact w_X0_fewest_141 K hr H36 ih _ _ _ _ _ _ hf _ _ _ hM (lv_sub hl [0, 1, 2, 4] rfl)
theorem w_X0_fewest_99 {p : Program} {l : Launch} {e : Env} {s : State} {m : MethodId} {args : Array Value} {below : List Frame} {meth : Method} {c : Code} {r : GR} {A : Nat → Prop} {P : GS → Int32 → Prop} {k36 : GS → Int32 → Int32 → Prop} {k66 : GS → Int32 → Int32 → Int32 → Prop} (K : gC p s m args meth c cX0_fewest 5 RX0 r A) (hr : meth.sig.returnType = (some .int)) (H36 : ∀ (σ : GS) (x1 : Int32) (x2 : Int32), k36 σ x1 x2 → gW dX p l e (gRm 207 8165 0 0) s m args below meth c r A (zI P) 0 0 5 36 [(0, .ref r.2.1), (1, .int x1), (2, .int x2)] [] 0 0 σ) (H66 : ∀ (σ : GS) (x1 : Int32) (x2 : Int32) (x3 : Int32), k66 σ x1 x2 x3 → gW dX p l e (gRm 207 8165 0 0) s m args below meth c r A (zI P) 0 0 5 66 [(0, .ref r.2.1), (1, .int x1), (2, .int x2), (3, .int x3)] [] 0 0 σ) : ∀ (σ : GS) (x1 : Int32) (x2 : Int32) (x3 : Int32) (t1 : Int32) (t0 : Nat), f_X0_fewest_99 r k36 k66 P σ x1 x2 x3 t1 t0 → gW dX p l e (gRm 207 8165 0 0) s m args below meth c r A (zI P) 0 0 5 99 [(0, .ref r.2.1), (1, .int x1), (2, .int x2), (3, .int x3)] [.int t1, .ref t0] 0 0 σ := by
  obtain ⟨hx, hb, hml, hown, hts, hlk, hKK, hA⟩ := id K
  intro σ x1 x2 x3 t1 t0 hf H locs ls hM hl
  unfold f_X0_fewest_99 at hf
  refine p_putN K kY3 nmX3 hM 3 rfl q276 rfl dX0_fewest_99 rfl rfl rfl hf (fun H locs σ1 hf hM => ?_)
  refine lv_iinc (v := x3 + 1) (lv' := [(3, .int (x3 + 1)), (0, .ref r.2.1), (1, .int x1), (2, .int x2)]) hx hb dX0_fewest_102 hl (k := 3) rfl rfl (by decide) rfl (fun ls hl => ?_)
  refine lv_goto (tgt := 66) hx hb dX0_fewest_105 (by decide) ?_
  exact H66 _ _ _ _ hf _ _ _ hM (lv_sub hl [1, 2, 3, 0] rfl)
theorem w_X0_fewest_66 {p : Program} {l : Launch} {e : Env} {s : State} {m : MethodId} {args : Array Value} {below : List Frame} {meth : Method} {c : Code} {r : GR} {A : Nat → Prop} {P : GS → Int32 → Prop} {k36 : GS → Int32 → Int32 → Prop} (K : gC p s m args meth c cX0_fewest 5 RX0 r A) (hr : meth.sig.returnType = (some .int)) (H36 : ∀ (σ : GS) (x1 : Int32) (x2 : Int32), k36 σ x1 x2 → gW dX p l e (gRm 207 8165 0 0) s m args below meth c r A (zI P) 0 0 5 36 [(0, .ref r.2.1), (1, .int x1), (2, .int x2)] [] 0 0 σ) : ∀ (n : Nat) (σ : GS) (x1 : Int32) (x2 : Int32) (x3 : Int32), f_X0_fewest_66 r k36 P n σ x1 x2 x3 → gW dX p l e (gRm 207 8165 0 0) s m args below meth c r A (zI P) 0 0 5 66 [(0, .ref r.2.1), (1, .int x1), (2, .int x2), (3, .int x3)] [] 0 0 σ := by
  obtain ⟨hx, hb, hml, hown, hts, hlk, hKK, hA⟩ := id K
  intro n
  induction n with
  | zero =>
    intro σ x1 x2 x3 hf
    exact absurd hf (fun h => h)
  | succ n ih =>
    intro σ x1 x2 x3 hf H locs ls hM hl
    rw [f_X0_fewest_66] at hf
    refine lv_iload_n hx hb dX0_fewest_66 rfl (lv_at hl 3 rfl) ?_
    refine lv_aload_n hx hb dX0_fewest_67 rfl (lv_at hl 0 rfl) ?_
    refine g_geti K kX hM 2 rfl q163 rfl dX0_fewest_68 rfl ?_
    refine lv_icmp_ge (tgt := 108) hx hb dX0_fewest_71 (by decide) (fun b1 => ?_) (fun b1 => ?_)
    · replace hf := hf.1 b1
      refine lv_aload_n hx hb dX0_fewest_108 rfl (lv_at hl 0 rfl) ?_
      refine g_runv (rV [] [] K kX hM hl (c_X0_findWanted l r A _ _ hf) q845 q847 qs26 q82 q848 hdX0_findWanted ⟨Nat.le_of_ble_eq_true rfl, Nat.le_of_ble_eq_true rfl⟩ ⟨Nat.le_refl _, Nat.le_refl _⟩ rfl (Nat.le_of_ble_eq_true rfl) dX0_fewest_109) hM (fun σ2 H locs hf hM => ?_)
      refine lv_iconst (v := 1) hx hb dX0_fewest_112 rfl ?_
      refine lv_istore_n (lv' := [(3, .int (1 : Int32)), (0, .ref r.2.1), (1, .int x1), (2, .int x2)]) hx hb dX0_fewest_113 rfl hl (by decide) rfl (fun ls hl => ?_)
      refine lv_iconst (v := 0) hx hb dX0_fewest_114 rfl ?_
      refine lv_istore (lv' := [(4, .int (0 : Int32)), (3, .int (1 : Int32)), (0, .ref r.2.1), (1, .int x1), (2, .int x2)]) hx hb dX0_fewest_115 hl (by decide) rfl (fun ls hl => ?_)
      obtain ⟨n_, hf⟩ := hf
      exact w_X0_fewest_117 K hr H36 n_ _ _ _ _ _ hf _ _ _ hM (lv_sub hl [2, 3, 4, 1, 0] rfl)
    · replace hf := hf.2 b1
      refine lv_aload_n hx hb dX0_fewest_74 rfl (lv_at hl 0 rfl) ?_
      refine g_geta K kX hM 0 rfl q161 rfl dX0_fewest_75 rfl ?_
      refine lv_iload_n hx hb dX0_fewest_78 rfl (lv_at hl 3 rfl) ?_
      obtain ⟨g4, hf⟩ := hf
      obtain ⟨a5, h6, hf⟩ := hf
      refine g_aaldS K hM 0 rfl rfl rfl rfl g4 h6 dX0_fewest_79 ?_
      refine lv_iload_n hx hb dX0_fewest_80 rfl (lv_at hl 2 rfl) ?_
      refine lv_iload_n hx hb dX0_fewest_81 rfl (lv_at hl 3 rfl) ?_
      refine lv_ishr hx hb dX0_fewest_82 ?_
      refine lv_iconst (v := 1) hx hb dX0_fewest_83 rfl ?_
      refine lv_iand hx hb dX0_fewest_84 ?_
      refine lv_iconst (v := 1) hx hb dX0_fewest_85 rfl ?_
      refine lv_icmp_ne (tgt := 98) hx hb dX0_fewest_86 (by decide) (fun b7 => ?_) (fun b7 => ?_)
      · replace hf := hf.2 b7
        refine lv_iconst (v := 0) hx hb dX0_fewest_98 rfl ?_
        exact w_X0_fewest_99 K hr H36 ih _ _ _ _ _ _ hf _ _ _ hM (lv_sub hl [0, 1, 2, 3] rfl)
      · replace hf := hf.1 b7
        refine lv_aload_n hx hb dX0_fewest_89 rfl (lv_at hl 0 rfl) ?_
        refine g_geta K kX hM 17 rfl q180 rfl dX0_fewest_90 rfl ?_
        refine lv_iload_n hx hb dX0_fewest_93 rfl (lv_at hl 3 rfl) ?_
        obtain ⟨g8, hf⟩ := hf
        refine g_iald K hM 17 rfl rfl rfl g8 dX0_fewest_94 ?_
        refine lv_goto (tgt := 99) hx hb dX0_fewest_95 (by decide) ?_
        exact w_X0_fewest_99 K hr H36 ih _ _ _ _ _ _ hf _ _ _ hM (lv_sub hl [0, 1, 2, 3] rfl)
theorem w_X0_fewest_64 {p : Program} {l : Launch} {e : Env} {s : State} {m : MethodId} {args : Array Value} {below : List Frame} {meth : Method} {c : Code} {r : GR} {A : Nat → Prop} {P : GS → Int32 → Prop} {k36 : GS → Int32 → Int32 → Prop} (K : gC p s m args meth c cX0_fewest 5 RX0 r A) (hr : meth.sig.returnType = (some .int)) (H36 : ∀ (σ : GS) (x1 : Int32) (x2 : Int32), k36 σ x1 x2 → gW dX p l e (gRm 207 8165 0 0) s m args below meth c r A (zI P) 0 0 5 36 [(0, .ref r.2.1), (1, .int x1), (2, .int x2)] [] 0 0 σ) : ∀ (σ : GS) (x1 : Int32) (x2 : Int32), f_X0_fewest_64 r k36 P σ x1 x2 → gW dX p l e (gRm 207 8165 0 0) s m args below meth c r A (zI P) 0 0 5 64 [(0, .ref r.2.1), (1, .int x1), (2, .int x2)] [] 0 0 σ := by
  obtain ⟨hx, hb, hml, hown, hts, hlk, hKK, hA⟩ := id K
  intro σ x1 x2 hf H locs ls hM hl
  unfold f_X0_fewest_64 at hf
  refine lv_iconst (v := 0) hx hb dX0_fewest_64 rfl ?_
  refine lv_istore_n (lv' := [(3, .int (0 : Int32)), (0, .ref r.2.1), (1, .int x1), (2, .int x2)]) hx hb dX0_fewest_65 rfl hl (by decide) rfl (fun ls hl => ?_)
  obtain ⟨n_, hf⟩ := hf
  exact w_X0_fewest_66 K hr H36 n_ _ _ _ _ hf _ _ _ hM (lv_sub hl [1, 2, 3, 0] rfl)
theorem w_X0_fewest_36 {p : Program} {l : Launch} {e : Env} {s : State} {m : MethodId} {args : Array Value} {below : List Frame} {meth : Method} {c : Code} {r : GR} {A : Nat → Prop} {P : GS → Int32 → Prop} (K : gC p s m args meth c cX0_fewest 5 RX0 r A) (hr : meth.sig.returnType = (some .int)) : ∀ (n : Nat) (σ : GS) (x1 : Int32) (x2 : Int32), f_X0_fewest_36 r P n σ x1 x2 → gW dX p l e (gRm 207 8165 0 0) s m args below meth c r A (zI P) 0 0 5 36 [(0, .ref r.2.1), (1, .int x1), (2, .int x2)] [] 0 0 σ := by
  obtain ⟨hx, hb, hml, hown, hts, hlk, hKK, hA⟩ := id K
  intro n
  induction n with
  | zero =>
    intro σ x1 x2 hf
    exact absurd hf (fun h => h)
  | succ n ih =>
    intro σ x1 x2 hf H locs ls hM hl
    rw [f_X0_fewest_36] at hf
    refine lv_iload_n hx hb dX0_fewest_36 rfl (lv_at hl 2 rfl) ?_
    refine lv_iconst (v := 1) hx hb dX0_fewest_37 rfl ?_
    refine lv_aload_n hx hb dX0_fewest_38 rfl (lv_at hl 0 rfl) ?_
    refine g_geti K kX hM 2 rfl q163 rfl dX0_fewest_39 rfl ?_
    refine lv_ishl hx hb dX0_fewest_42 ?_
    refine lv_icmp_ge (tgt := 161) hx hb dX0_fewest_43 (by decide) (fun b1 => ?_) (fun b1 => ?_)
    · replace hf := hf.1 b1
      refine lv_iconst (v := 0) hx hb dX0_fewest_161 rfl ?_
      refine lv_istore_n (lv' := [(2, .int (0 : Int32)), (0, .ref r.2.1), (1, .int x1)]) hx hb dX0_fewest_162 rfl hl (by decide) rfl (fun ls hl => ?_)
      obtain ⟨n_, hf⟩ := hf
      exact w_X0_fewest_163 K hr n_ _ _ _ hf _ _ _ hM (lv_sub hl [1, 2, 0] rfl)
    · replace hf := hf.2 b1
      refine lv_iload_n hx hb dX0_fewest_46 rfl (lv_at hl 1 rfl) ?_
      refine lv_if_lt (tgt := 64) hx hb dX0_fewest_47 (by decide) (fun b2 => ?_) (fun b2 => ?_)
      · replace hf := hf.1 b2
        exact w_X0_fewest_64 K hr ih _ _ _ hf _ _ _ hM (lv_sub hl [0, 1, 2] rfl)
      · replace hf := hf.2 b2
        refine lv_iload_n hx hb dX0_fewest_50 rfl (lv_at hl 2 rfl) ?_
        refine g_runi (rS [.int x2] [] K hM hl (c_J13_bitCount l r A _ _ _ hf) q939 q940 q109 q941 hdJ13_bitCount ⟨Nat.le_of_ble_eq_true rfl, Nat.le_of_ble_eq_true rfl⟩ ⟨Nat.le_refl _, Nat.le_refl _⟩ rfl (Nat.le_of_ble_eq_true rfl) dX0_fewest_51) hM (fun σ3 v4 H locs hf hM => ?_)
        refine lv_iload_n hx hb dX0_fewest_54 rfl (lv_at hl 1 rfl) ?_
        refine g_runi (rS [.int x1] [.int v4] K hM hl (c_J13_bitCount l r A _ _ _ hf) q939 q940 q109 q941 hdJ13_bitCount ⟨Nat.le_of_ble_eq_true rfl, Nat.le_of_ble_eq_true rfl⟩ ⟨Nat.le_refl _, Nat.le_refl _⟩ rfl (Nat.le_of_ble_eq_true rfl) dX0_fewest_55) hM (fun σ5 v6 H locs hf hM => ?_)
        refine lv_icmp_lt (tgt := 64) hx hb dX0_fewest_58 (by decide) (fun b7 => ?_) (fun b7 => ?_)
        · replace hf := hf.1 b7
          exact w_X0_fewest_64 K hr ih _ _ _ hf _ _ _ hM (lv_sub hl [0, 1, 2] rfl)
        · replace hf := hf.2 b7
          refine lv_goto (tgt := 155) hx hb dX0_fewest_61 (by decide) ?_
          exact w_X0_fewest_155 K hr ih _ _ _ hf _ _ _ hM (lv_sub hl [0, 1, 2] rfl)
theorem w_X0_fewest_2 {p : Program} {l : Launch} {e : Env} {s : State} {m : MethodId} {args : Array Value} {below : List Frame} {meth : Method} {c : Code} {r : GR} {A : Nat → Prop} {P : GS → Int32 → Prop} (K : gC p s m args meth c cX0_fewest 5 RX0 r A) (hr : meth.sig.returnType = (some .int)) : ∀ (n : Nat) (σ : GS) (x1 : Int32), f_X0_fewest_2 r P n σ x1 → gW dX p l e (gRm 207 8165 0 0) s m args below meth c r A (zI P) 0 0 5 2 [(0, .ref r.2.1), (1, .int x1)] [] 0 0 σ := by
  obtain ⟨hx, hb, hml, hown, hts, hlk, hKK, hA⟩ := id K
  intro n
  induction n with
  | zero =>
    intro σ x1 hf
    exact absurd hf (fun h => h)
  | succ n ih =>
    intro σ x1 hf H locs ls hM hl
    rw [f_X0_fewest_2] at hf
    refine lv_iload_n hx hb dX0_fewest_2 rfl (lv_at hl 1 rfl) ?_
    refine lv_aload_n hx hb dX0_fewest_3 rfl (lv_at hl 0 rfl) ?_
    refine g_geti K kX hM 2 rfl q163 rfl dX0_fewest_4 rfl ?_
    refine lv_icmp_ge (tgt := 31) hx hb dX0_fewest_7 (by decide) (fun b1 => ?_) (fun b1 => ?_)
    · replace hf := hf.1 b1
      refine lv_bipush (v := -2) hx hb dX0_fewest_31 rfl ?_
      refine lv_istore_n (lv' := [(1, .int (-2 : Int32)), (0, .ref r.2.1)]) hx hb dX0_fewest_33 rfl hl (by decide) rfl (fun ls hl => ?_)
      refine lv_iconst (v := 0) hx hb dX0_fewest_34 rfl ?_
      refine lv_istore_n (lv' := [(2, .int (0 : Int32)), (1, .int (-2 : Int32)), (0, .ref r.2.1)]) hx hb dX0_fewest_35 rfl hl (by decide) rfl (fun ls hl => ?_)
      obtain ⟨n_, hf⟩ := hf
      exact w_X0_fewest_36 K hr n_ _ _ _ hf _ _ _ hM (lv_sub hl [2, 1, 0] rfl)
    · replace hf := hf.2 b1
      refine lv_aload_n hx hb dX0_fewest_10 rfl (lv_at hl 0 rfl) ?_
      refine g_geta K kX hM 17 rfl q180 rfl dX0_fewest_11 rfl ?_
      refine lv_iload_n hx hb dX0_fewest_14 rfl (lv_at hl 1 rfl) ?_
      refine lv_aload_n hx hb dX0_fewest_15 rfl (lv_at hl 0 rfl) ?_
      refine g_geta K kX hM 0 rfl q161 rfl dX0_fewest_16 rfl ?_
      refine lv_iload_n hx hb dX0_fewest_19 rfl (lv_at hl 1 rfl) ?_
      obtain ⟨g2, hf⟩ := hf
      obtain ⟨a3, h4, hf⟩ := hf
      refine g_aaldS K hM 0 rfl rfl rfl rfl g2 h4 dX0_fewest_20 ?_
      obtain ⟨v6, h5, hf⟩ := hf
      refine p_getN K kY3 hM 3 rfl q276 rfl dX0_fewest_21 h5 ?_
      obtain ⟨g7, hf⟩ := hf
      refine g_iastN K hM 17 rfl rfl rfl g7 dX0_fewest_24 (fun H locs σ8 hσ8 hM => ?_)
      have hf := hf σ8 hσ8
      refine lv_iinc (v := x1 + 1) (lv' := [(1, .int (x1 + 1)), (0, .ref r.2.1)]) hx hb dX0_fewest_25 hl (k := 1) rfl rfl (by decide) rfl (fun ls hl => ?_)
      refine lv_goto (tgt := 2) hx hb dX0_fewest_28 (by decide) ?_
      exact ih _ _ hf _ _ _ hM (lv_sub hl [1, 0] rfl)
theorem c_X0_fewest (l : Launch) (r : GR) (A : Nat → Prop) (σ : GS) (P : GS → Int32 → Prop) (hf : f_X0_fewest r σ P) : gMet dX l yX0_fewest cX0_fewest 5 (some .int) 207 8165 0 0 r A σ [.ref r.2.1] (zI P) := by
  refine g_enter (lv := [(0, .ref r.2.1)]) (by decide) (Nat.le_of_ble_eq_true rfl) rfl ?_
  intro p e s m below meth c ls K hr hM hl hi
  obtain ⟨hx, hb, hml, hown, hts, hlk, hKK, hA⟩ := id K
  unfold f_X0_fewest at hf
  refine lv_iconst (v := 0) hx hb dX0_fewest_0 rfl ?_
  refine lv_istore_n (lv' := [(1, .int (0 : Int32)), (0, .ref r.2.1)]) hx hb dX0_fewest_1 rfl hl (by decide) rfl (fun ls hl => ?_)
  obtain ⟨n_, hf⟩ := hf
  exact w_X0_fewest_2 K hr n_ _ _ hf _ _ _ hM (lv_sub hl [1, 0] rfl)
theorem w_X0_least_41 {p : Program} {l : Launch} {e : Env} {s : State} {m : MethodId} {args : Array Value} {below : List Frame} {meth : Method} {c : Code} {r : GR} {A : Nat → Prop} {P : GS → Int32 → Prop} {k14 : GS → Int32 → Int32 → Int32 → Prop} (K : gC p s m args meth c cX0_least 4 RX0 r A) (hr : meth.sig.returnType = (some .int)) (H14 : ∀ (σ : GS) (x1 : Int32) (x2 : Int32) (x3 : Int32), k14 σ x1 x2 x3 → gW dX p l e (gRm 206 8142 0 0) s m args below meth c r A (zI P) 0 0 4 14 [(0, .ref r.2.1), (1, .int x1), (2, .int x2), (3, .int x3)] [] 0 0 σ) : ∀ (σ : GS) (x1 : Int32) (x2 : Int32) (x3 : Int32), f_X0_least_41 r k14 P σ x1 x2 x3 → gW dX p l e (gRm 206 8142 0 0) s m args below meth c r A (zI P) 0 0 4 41 [(0, .ref r.2.1), (1, .int x1), (2, .int x2), (3, .int x3)] [] 0 0 σ := by
  obtain ⟨hx, hb, hml, hown, hts, hlk, hKK, hA⟩ := id K
  intro σ x1 x2 x3 hf H locs ls hM hl
  unfold f_X0_least_41 at hf
  refine lv_iinc (v := x3 + 1) (lv' := [(3, .int (x3 + 1)), (0, .ref r.2.1), (1, .int x1), (2, .int x2)]) hx hb dX0_least_41 hl (k := 3) rfl rfl (by decide) rfl (fun ls hl => ?_)
  refine lv_goto (tgt := 14) hx hb dX0_least_44 (by decide) ?_
  exact H14 _ _ _ _ hf _ _ _ hM (lv_sub hl [1, 2, 3, 0] rfl)
theorem w_X0_least_14 {p : Program} {l : Launch} {e : Env} {s : State} {m : MethodId} {args : Array Value} {below : List Frame} {meth : Method} {c : Code} {r : GR} {A : Nat → Prop} {P : GS → Int32 → Prop} (K : gC p s m args meth c cX0_least 4 RX0 r A) (hr : meth.sig.returnType = (some .int)) : ∀ (n : Nat) (σ : GS) (x1 : Int32) (x2 : Int32) (x3 : Int32), f_X0_least_14 r P n σ x1 x2 x3 → gW dX p l e (gRm 206 8142 0 0) s m args below meth c r A (zI P) 0 0 4 14 [(0, .ref r.2.1), (1, .int x1), (2, .int x2), (3, .int x3)] [] 0 0 σ := by
  obtain ⟨hx, hb, hml, hown, hts, hlk, hKK, hA⟩ := id K
  intro n
  induction n with
  | zero =>
    intro σ x1 x2 x3 hf
    exact absurd hf (fun h => h)
  | succ n ih =>
    intro σ x1 x2 x3 hf H locs ls hM hl
    rw [f_X0_least_14] at hf
    refine lv_iload_n hx hb dX0_least_14 rfl (lv_at hl 3 rfl) ?_
    refine lv_aload_n hx hb dX0_least_15 rfl (lv_at hl 0 rfl) ?_
    refine g_geti K kX hM 3 rfl q164 rfl dX0_least_16 rfl ?_
    refine lv_icmp_ge (tgt := 47) hx hb dX0_least_19 (by decide) (fun b1 => ?_) (fun b1 => ?_)
    · replace hf := hf.1 b1
      refine lv_iload_n hx hb dX0_least_47 rfl (lv_at hl 2 rfl) ?_
      exact g_reti K hr hM ⟨Nat.le_refl _, Nat.le_refl _⟩ hf dX0_least_48
    · replace hf := hf.2 b1
      refine lv_aload_n hx hb dX0_least_22 rfl (lv_at hl 0 rfl) ?_
      refine lv_aload_n hx hb dX0_least_23 rfl (lv_at hl 0 rfl) ?_
      refine lv_iload_n hx hb dX0_least_24 rfl (lv_at hl 3 rfl) ?_
      refine g_runi (rV [.int x3] [.ref r.2.1] K kX hM hl (c_X0_bestOf l r A _ _ _ hf) q816 q818 qs20 q82 q819 hdX0_bestOf ⟨Nat.le_of_ble_eq_true rfl, Nat.le_of_ble_eq_true rfl⟩ ⟨Nat.le_refl _, Nat.le_refl _⟩ rfl (Nat.le_of_ble_eq_true rfl) dX0_least_25) hM (fun σ2 v3 H locs hf hM => ?_)
      refine lv_iload_n hx hb dX0_least_28 rfl (lv_at hl 1 rfl) ?_
      refine g_runi (rV [.int v3, .int x1] [] K kX hM hl (c_X0_inBasket l r A _ _ _ _ hf) q828 q830 qs23 q82 q831 hdX0_inBasket ⟨Nat.le_of_ble_eq_true rfl, Nat.le_of_ble_eq_true rfl⟩ ⟨Nat.le_refl _, Nat.le_refl _⟩ rfl (Nat.le_of_ble_eq_true rfl) dX0_least_29) hM (fun σ4 v5 H locs hf hM => ?_)
      refine lv_if_le (tgt := 41) hx hb dX0_least_32 (by decide) (fun b6 => ?_) (fun b6 => ?_)
      · replace hf := hf.1 b6
        exact w_X0_least_41 K hr ih _ _ _ _ hf _ _ _ hM (lv_sub hl [0, 1, 2, 3] rfl)
      · replace hf := hf.2 b6
        refine lv_iload_n hx hb dX0_least_35 rfl (lv_at hl 2 rfl) ?_
        refine lv_iconst (v := 1) hx hb dX0_least_36 rfl ?_
        refine lv_iload_n hx hb dX0_least_37 rfl (lv_at hl 3 rfl) ?_
        refine lv_ishl hx hb dX0_least_38 ?_
        refine lv_ior hx hb dX0_least_39 ?_
        refine lv_istore_n (lv' := [(2, .int (x2 ||| ((1 : Int32) <<< (x3 &&& 31)))), (0, .ref r.2.1), (1, .int x1), (3, .int x3)]) hx hb dX0_least_40 rfl hl (by decide) rfl (fun ls hl => ?_)
        exact w_X0_least_41 K hr ih _ _ _ _ hf _ _ _ hM (lv_sub hl [1, 2, 0, 3] rfl)
theorem c_X0_least (l : Launch) (r : GR) (A : Nat → Prop) (σ : GS) (x1 : Int32) (P : GS → Int32 → Prop) (hf : f_X0_least r σ x1 P) : gMet dX l yX0_least cX0_least 4 (some .int) 206 8142 0 0 r A σ [.ref r.2.1, .int x1] (zI P) := by
  refine g_enter (lv := [(0, .ref r.2.1), (1, .int x1)]) (by decide) (Nat.le_of_ble_eq_true rfl) rfl ?_
  intro p e s m below meth c ls K hr hM hl hi
  obtain ⟨hx, hb, hml, hown, hts, hlk, hKK, hA⟩ := id K
  unfold f_X0_least at hf
  refine lv_aload_n hx hb dX0_least_0 rfl (lv_at hl 0 rfl) ?_
  refine lv_iload_n hx hb dX0_least_1 rfl (lv_at hl 1 rfl) ?_
  refine g_runi (rV [.int x1] [] K kX hM hl (c_X0_isThing l r A _ _ _ hf) q471 q473 qs3 q82 q474 hdX0_isThing ⟨Nat.le_of_ble_eq_true rfl, Nat.le_of_ble_eq_true rfl⟩ ⟨Nat.le_refl _, Nat.le_refl _⟩ rfl (Nat.le_of_ble_eq_true rfl) dX0_least_2) hM (fun σ1 v2 H locs hf hM => ?_)
  refine lv_if_ne (tgt := 10) hx hb dX0_least_5 (by decide) (fun b3 => ?_) (fun b3 => ?_)
  · replace hf := hf.2 b3
    refine lv_iconst (v := 0) hx hb dX0_least_10 rfl ?_
    refine lv_istore_n (lv' := [(2, .int (0 : Int32)), (0, .ref r.2.1), (1, .int x1)]) hx hb dX0_least_11 rfl hl (by decide) rfl (fun ls hl => ?_)
    refine lv_iconst (v := 0) hx hb dX0_least_12 rfl ?_
    refine lv_istore_n (lv' := [(3, .int (0 : Int32)), (2, .int (0 : Int32)), (0, .ref r.2.1), (1, .int x1)]) hx hb dX0_least_13 rfl hl (by decide) rfl (fun ls hl => ?_)
    obtain ⟨n_, hf⟩ := hf
    exact w_X0_least_14 K hr n_ _ _ _ _ hf _ _ _ hM (lv_sub hl [2, 3, 1, 0] rfl)
  · replace hf := hf.1 b3
    refine lv_iconst (v := -1) hx hb dX0_least_8 rfl ?_
    exact g_reti K hr hM ⟨Nat.le_refl _, Nat.le_refl _⟩ hf dX0_least_9

set_option maxRecDepth 100000
set_option maxHeartbeats 4000000
theorem wo_X2_product_85 {p : Program} {l : Launch} {e : Env} {s : State} {m : MethodId} {args : Array Value} {below : List Frame} {meth : Method} {c : Code} {r : GR} {A : Nat → Prop} {fr lo : Nat} {c_one : GS → (GS → Int32 → Prop) → Prop} {P : GS → Int32 → Prop} {k10 : GS → Int32 → Int32 → Prop} (K : gC p s m args meth c cX2_product 4 RX2 r A) (hr : meth.sig.returnType = (some .int)) (hB : 1 ≤ fr ∧ 20 ≤ lo) {f_one_ l_one_ : Nat} (H_one : ∀ (σ : GS) (P : GS → Int32 → Prop), c_one σ P → gMet dM l yX2_one cX2_one 5 (some .int) f_one_ l_one_ 0 0 r A σ [.ref r.2.1] (zI P)) (hR_one : f_one_ + 1 ≤ fr ∧ 8 + (5 + 11) + l_one_ ≤ lo) (H10 : ∀ (σ : GS) (x1 : Int32) (x2 : Int32), k10 σ x1 x2 → gW dM p l e (gRm fr lo 0 0) s m args below meth c r A (zI P) 0 0 4 10 [(0, .ref r.2.1), (1, .int x1), (2, .int x2)] [] 0 0 σ) : ∀ (σ : GS) (t0 : Int32), o_X2_product_85 c_one k10 P σ t0 → gW dM p l e (gRm fr lo 0 0) s m args below meth c r A (zI P) 0 0 4 85 [(0, .ref r.2.1)] [.int t0] 0 0 σ := by
  obtain ⟨hx, hb, hml, hown, hts, hlk, hKK, hA⟩ := id K
  intro σ t0 hf H locs ls hM hl
  unfold o_X2_product_85 at hf
  refine lv_istore_n (lv' := [(1, .int t0), (0, .ref r.2.1)]) hx hb dX2_product_85 rfl hl (by decide) rfl (fun ls hl => ?_)
  refine lv_aload_n hx hb dX2_product_86 rfl (lv_at hl 1 rfl) ?_
  refine g_cVi [] [] K kM hM hl (c_X2_byteAt l r A _ _ hf) q1728 q1730 qs53 q84 q1731 hdX2_byteAt ⟨Nat.le_trans (Nat.le_of_ble_eq_true rfl) hB.1, Nat.le_trans (Nat.le_of_ble_eq_true rfl) hB.2⟩ ⟨Nat.le_refl _, Nat.le_refl _⟩ rfl (Nat.le_of_ble_eq_true rfl) dX2_product_87 (fun σ1 v2 H locs hf hM => ?_)
  refine lv_istore_n (lv' := [(2, .int v2), (1, .int t0), (0, .ref r.2.1)]) hx hb dX2_product_90 rfl hl (by decide) rfl (fun ls hl => ?_)
  refine lv_goto (tgt := 10) hx hb dX2_product_91 (by decide) ?_
  exact H10 _ _ _ hf _ _ _ hM (lv_sub hl [2, 1, 0] rfl)
theorem wo_X2_product_35 {p : Program} {l : Launch} {e : Env} {s : State} {m : MethodId} {args : Array Value} {below : List Frame} {meth : Method} {c : Code} {r : GR} {A : Nat → Prop} {fr lo : Nat} {c_one : GS → (GS → Int32 → Prop) → Prop} {P : GS → Int32 → Prop} {k10 : GS → Int32 → Int32 → Prop} (K : gC p s m args meth c cX2_product 4 RX2 r A) (hr : meth.sig.returnType = (some .int)) (hB : 1 ≤ fr ∧ 20 ≤ lo) {f_one_ l_one_ : Nat} (H_one : ∀ (σ : GS) (P : GS → Int32 → Prop), c_one σ P → gMet dM l yX2_one cX2_one 5 (some .int) f_one_ l_one_ 0 0 r A σ [.ref r.2.1] (zI P)) (hR_one : f_one_ + 1 ≤ fr ∧ 8 + (5 + 11) + l_one_ ≤ lo) (H10 : ∀ (σ : GS) (x1 : Int32) (x2 : Int32), k10 σ x1 x2 → gW dM p l e (gRm fr lo 0 0) s m args below meth c r A (zI P) 0 0 4 10 [(0, .ref r.2.1), (1, .int x1), (2, .int x2)] [] 0 0 σ) : ∀ (σ : GS) (x1 : Int32) (x2 : Int32), o_X2_product_35 c_one k10 P σ x1 x2 → gW dM p l e (gRm fr lo 0 0) s m args below meth c r A (zI P) 0 0 4 35 [(0, .ref r.2.1), (1, .int x1), (2, .int x2)] [] 0 0 σ := by
  obtain ⟨hx, hb, hml, hown, hts, hlk, hKK, hA⟩ := id K
  intro σ x1 x2 hf H locs ls hM hl
  unfold o_X2_product_35 at hf
  refine lv_aload_n hx hb dX2_product_35 rfl (lv_at hl 0 rfl) ?_
  refine lv_dup hx hb dX2_product_36 rfl ?_
  refine g_geti K kM hM 19 rfl q1472 rfl dX2_product_37 rfl ?_
  refine lv_iconst (v := 1) hx hb dX2_product_40 rfl ?_
  refine lv_iadd hx hb dX2_product_41 ?_
  refine g_putiN K kM hM 19 rfl q1472 rfl dX2_product_42 rfl rfl rfl (fun H locs σ1 hσ1 hM => ?_)
  have hf := hf σ1 hσ1
  refine lv_aload_n hx hb dX2_product_45 rfl (lv_at hl 0 rfl) ?_
  refine g_cVi [] [] K kM hM hl (H_one _ _ hf) q1724 q1726 qs52 q84 q1727 hdX2_one ⟨hR_one.1, hR_one.2⟩ ⟨Nat.le_refl _, Nat.le_refl _⟩ rfl (Nat.le_of_ble_eq_true rfl) dX2_product_46 (fun σ2 v3 H locs hf hM => ?_)
  refine lv_istore_n (lv' := [(3, .int v3), (0, .ref r.2.1), (1, .int x1), (2, .int x2)]) hx hb dX2_product_49 rfl hl (by decide) rfl (fun ls hl => ?_)
  refine lv_iload_n hx hb dX2_product_50 rfl (lv_at hl 3 rfl) ?_
  refine lv_bipush (v := 42) hx hb dX2_product_51 rfl ?_
  refine lv_icmp_ne (tgt := 62) hx hb dX2_product_53 (by decide) (fun b4 => ?_) (fun b4 => ?_)
  · replace hf := hf.2 b4
    refine lv_iload_n hx hb dX2_product_62 rfl (lv_at hl 0 rfl) ?_
    refine lv_if_ne (tgt := 70) hx hb dX2_product_63 (by decide) (fun b5 => ?_) (fun b5 => ?_)
    · replace hf := hf.2 b5
      refine lv_iload_n hx hb dX2_product_70 rfl (lv_at hl 3 rfl) ?_
      refine lv_bipush (v := 47) hx hb dX2_product_71 rfl ?_
      refine lv_icmp_ne (tgt := 82) hx hb dX2_product_73 (by decide) (fun b6 => ?_) (fun b6 => ?_)
      · replace hf := hf.2 b6
        refine lv_iload_n hx hb dX2_product_82 rfl (lv_at hl 2 rfl) ?_
        refine lv_iload_n hx hb dX2_product_83 rfl (lv_at hl 0 rfl) ?_
        obtain ⟨g7, hf⟩ := hf
        refine lv_irem hx hb dX2_product_84 g7 ?_
        exact wo_X2_product_85 K hr hB H_one hR_one H10 _ _ hf _ _ _ hM (lv_sub hl [1] rfl)
      · replace hf := hf.1 b6
        refine lv_iload_n hx hb dX2_product_76 rfl (lv_at hl 2 rfl) ?_
        refine lv_iload_n hx hb dX2_product_77 rfl (lv_at hl 0 rfl) ?_
        obtain ⟨g8, hf⟩ := hf
        refine lv_idiv hx hb dX2_product_78 g8 ?_
        refine lv_goto (tgt := 85) hx hb dX2_product_79 (by decide) ?_
        exact wo_X2_product_85 K hr hB H_one hR_one H10 _ _ hf _ _ _ hM (lv_sub hl [1] rfl)
    · replace hf := hf.1 b5
      refine lv_iconst (v := 0) hx hb dX2_product_66 rfl ?_
      refine lv_goto (tgt := 85) hx hb dX2_product_67 (by decide) ?_
      exact wo_X2_product_85 K hr hB H_one hR_one H10 _ _ hf _ _ _ hM (lv_sub hl [1] rfl)
  · replace hf := hf.1 b4
    refine lv_iload_n hx hb dX2_product_56 rfl (lv_at hl 2 rfl) ?_
    refine lv_iload_n hx hb dX2_product_57 rfl (lv_at hl 0 rfl) ?_
    refine lv_imul hx hb dX2_product_58 ?_
    refine lv_goto (tgt := 85) hx hb dX2_product_59 (by decide) ?_
    exact wo_X2_product_85 K hr hB H_one hR_one H10 _ _ hf _ _ _ hM (lv_sub hl [1] rfl)
theorem wo_X2_product_10 {p : Program} {l : Launch} {e : Env} {s : State} {m : MethodId} {args : Array Value} {below : List Frame} {meth : Method} {c : Code} {r : GR} {A : Nat → Prop} {fr lo : Nat} {c_one : GS → (GS → Int32 → Prop) → Prop} {P : GS → Int32 → Prop} (K : gC p s m args meth c cX2_product 4 RX2 r A) (hr : meth.sig.returnType = (some .int)) (hB : 1 ≤ fr ∧ 20 ≤ lo) {f_one_ l_one_ : Nat} (H_one : ∀ (σ : GS) (P : GS → Int32 → Prop), c_one σ P → gMet dM l yX2_one cX2_one 5 (some .int) f_one_ l_one_ 0 0 r A σ [.ref r.2.1] (zI P)) (hR_one : f_one_ + 1 ≤ fr ∧ 8 + (5 + 11) + l_one_ ≤ lo) : ∀ (n : Nat) (σ : GS) (x1 : Int32) (x2 : Int32), o_X2_product_10 c_one P n σ x1 x2 → gW dM p l e (gRm fr lo 0 0) s m args below meth c r A (zI P) 0 0 4 10 [(0, .ref r.2.1), (1, .int x1), (2, .int x2)] [] 0 0 σ := by
  obtain ⟨hx, hb, hml, hown, hts, hlk, hKK, hA⟩ := id K
  intro n
  induction n with
  | zero =>
    intro σ x1 x2 hf
    exact absurd hf (fun h => h)
  | succ n ih =>
    intro σ x1 x2 hf H locs ls hM hl
    rw [o_X2_product_10] at hf
    refine lv_aload_n hx hb dX2_product_10 rfl (lv_at hl 0 rfl) ?_
    refine g_geti K kM hM 21 rfl q1474 rfl dX2_product_11 rfl ?_
    refine lv_if_ge (tgt := 94) hx hb dX2_product_14 (by decide) (fun b1 => ?_) (fun b1 => ?_)
    · replace hf := hf.1 b1
      refine lv_iload_n hx hb dX2_product_94 rfl (lv_at hl 1 rfl) ?_
      exact g_reti K hr hM ⟨Nat.le_refl _, Nat.le_refl _⟩ hf dX2_product_95
    · replace hf := hf.2 b1
      refine lv_iload_n hx hb dX2_product_17 rfl (lv_at hl 2 rfl) ?_
      refine lv_bipush (v := 42) hx hb dX2_product_18 rfl ?_
      refine lv_icmp_eq (tgt := 35) hx hb dX2_product_20 (by decide) (fun b2 => ?_) (fun b2 => ?_)
      · replace hf := hf.1 b2
        exact wo_X2_product_35 K hr hB H_one hR_one ih _ _ _ hf _ _ _ hM (lv_sub hl [0, 1, 2] rfl)
      · replace hf := hf.2 b2
        refine lv_iload_n hx hb dX2_product_23 rfl (lv_at hl 2 rfl) ?_
        refine lv_bipush (v := 47) hx hb dX2_product_24 rfl ?_
        refine lv_icmp_eq (tgt := 35) hx hb dX2_product_26 (by decide) (fun b3 => ?_) (fun b3 => ?_)
        · replace hf := hf.1 b3
          exact wo_X2_product_35 K hr hB H_one hR_one ih _ _ _ hf _ _ _ hM (lv_sub hl [0, 1, 2] rfl)
        · replace hf := hf.2 b3
          refine lv_iload_n hx hb dX2_product_29 rfl (lv_at hl 2 rfl) ?_
          refine lv_bipush (v := 37) hx hb dX2_product_30 rfl ?_
          refine lv_icmp_ne (tgt := 94) hx hb dX2_product_32 (by decide) (fun b4 => ?_) (fun b4 => ?_)
          · replace hf := hf.2 b4
            refine lv_iload_n hx hb dX2_product_94 rfl (lv_at hl 1 rfl) ?_
            exact g_reti K hr hM ⟨Nat.le_refl _, Nat.le_refl _⟩ hf dX2_product_95
          · replace hf := hf.1 b4
            exact wo_X2_product_35 K hr hB H_one hR_one ih _ _ _ hf _ _ _ hM (lv_sub hl [0, 1, 2] rfl)
theorem co_X2_product (l : Launch) (r : GR) (A : Nat → Prop) {fr lo : Nat} {c_one : GS → (GS → Int32 → Prop) → Prop} (hB : 1 ≤ fr ∧ 20 ≤ lo) {f_one_ l_one_ : Nat} (H_one : ∀ (σ : GS) (P : GS → Int32 → Prop), c_one σ P → gMet dM l yX2_one cX2_one 5 (some .int) f_one_ l_one_ 0 0 r A σ [.ref r.2.1] (zI P)) (hR_one : f_one_ + 1 ≤ fr ∧ 8 + (5 + 11) + l_one_ ≤ lo) (σ : GS) (P : GS → Int32 → Prop) (hf : o_X2_product c_one σ P) : gMet dM l yX2_product cX2_product 4 (some .int) fr lo 0 0 r A σ [.ref r.2.1] (zI P) := by
  refine g_enter (lv := [(0, .ref r.2.1)]) (by decide) (Nat.le_of_ble_eq_true rfl) rfl ?_
  intro p e s m below meth c ls K hr hM hl _
  obtain ⟨hx, hb, hml, hown, hts, hlk, hKK, hA⟩ := id K
  unfold o_X2_product at hf
  refine lv_aload_n hx hb dX2_product_0 rfl (lv_at hl 0 rfl) ?_
  refine g_cVi [] [] K kM hM hl (H_one _ _ hf) q1724 q1726 qs52 q84 q1727 hdX2_one ⟨hR_one.1, hR_one.2⟩ ⟨Nat.le_refl _, Nat.le_refl _⟩ rfl (Nat.le_of_ble_eq_true rfl) dX2_product_1 (fun σ1 v2 H locs hf hM => ?_)
  refine lv_istore_n (lv' := [(1, .int v2), (0, .ref r.2.1)]) hx hb dX2_product_4 rfl hl (by decide) rfl (fun ls hl => ?_)
  refine lv_aload_n hx hb dX2_product_5 rfl (lv_at hl 1 rfl) ?_
  refine g_cVi [] [] K kM hM hl (c_X2_byteAt l r A _ _ hf) q1728 q1730 qs53 q84 q1731 hdX2_byteAt ⟨Nat.le_trans (Nat.le_of_ble_eq_true rfl) hB.1, Nat.le_trans (Nat.le_of_ble_eq_true rfl) hB.2⟩ ⟨Nat.le_refl _, Nat.le_refl _⟩ rfl (Nat.le_of_ble_eq_true rfl) dX2_product_6 (fun σ3 v4 H locs hf hM => ?_)
  refine lv_istore_n (lv' := [(2, .int v4), (1, .int v2), (0, .ref r.2.1)]) hx hb dX2_product_9 rfl hl (by decide) rfl (fun ls hl => ?_)
  obtain ⟨n_, hf⟩ := hf
  exact wo_X2_product_10 K hr hB H_one hR_one n_ _ _ _ hf _ _ _ hM (lv_sub hl [2, 1, 0] rfl)
theorem wo_X2_one_229 {p : Program} {l : Launch} {e : Env} {s : State} {m : MethodId} {args : Array Value} {below : List Frame} {meth : Method} {c : Code} {r : GR} {A : Nat → Prop} {fr lo : Nat} {c_either : GS → (GS → Int32 → Prop) → Prop} {c_one : GS → (GS → Int32 → Prop) → Prop} {P : GS → Int32 → Prop} (K : gC p s m args meth c cX2_one 5 RX2 r A) (hr : meth.sig.returnType = (some .int)) (hB : 2 ≤ fr ∧ 41 ≤ lo) {f_either_ l_either_ : Nat} (H_either : ∀ (σ : GS) (P : GS → Int32 → Prop), c_either σ P → gMet dM l yX2_either cX2_either 3 (some .int) f_either_ l_either_ 0 0 r A σ [.ref r.2.1] (zI P)) (hR_either : f_either_ + 1 ≤ fr ∧ 8 + (3 + 11) + l_either_ ≤ lo) {f_one_ l_one_ : Nat} (H_one : ∀ (σ : GS) (P : GS → Int32 → Prop), c_one σ P → gMet dM l yX2_one cX2_one 5 (some .int) f_one_ l_one_ 0 0 r A σ [.ref r.2.1] (zI P)) (hR_one : f_one_ + 1 ≤ fr ∧ 8 + (5 + 11) + l_one_ ≤ lo) : ∀ (σ : GS) (x3 : Int32) (x4 : Int32), o_X2_one_229 c_either c_one P σ x3 x4 → gW dM p l e (gRm fr lo 0 0) s m args below meth c r A (zI P) 0 0 5 229 [(0, .ref r.2.1), (3, .int x3), (4, .int x4)] [] 0 0 σ := by
  obtain ⟨hx, hb, hml, hown, hts, hlk, hKK, hA⟩ := id K
  intro σ x3 x4 hf H locs ls hM hl
  unfold o_X2_one_229 at hf
  refine lv_iload hx hb dX2_one_229 (lv_at hl 2 rfl) ?_
  refine lv_if_ne (tgt := 241) hx hb dX2_one_231 (by decide) (fun b1 => ?_) (fun b1 => ?_)
  · replace hf := hf.2 b1
    refine lv_iload_n hx hb dX2_one_241 rfl (lv_at hl 1 rfl) ?_
    exact g_reti K hr hM ⟨Nat.le_refl _, Nat.le_refl _⟩ hf dX2_one_242
  · replace hf := hf.1 b1
    refine lv_aload_n hx hb dX2_one_234 rfl (lv_at hl 0 rfl) ?_
    refine g_cVi [] [] K kM hM hl (c_X2_fails l r A _ _ hf) q1732 q1734 qs54 q84 q1735 hdX2_fails ⟨Nat.le_trans (Nat.le_of_ble_eq_true rfl) hB.1, Nat.le_trans (Nat.le_of_ble_eq_true rfl) hB.2⟩ ⟨Nat.le_refl _, Nat.le_refl _⟩ rfl (Nat.le_of_ble_eq_true rfl) dX2_one_235 (fun σ2 v3 H locs hf hM => ?_)
    refine lv_goto (tgt := 242) hx hb dX2_one_238 (by decide) ?_
    exact g_reti K hr hM ⟨Nat.le_refl _, Nat.le_refl _⟩ hf dX2_one_242
theorem wo_X2_one_176 {p : Program} {l : Launch} {e : Env} {s : State} {m : MethodId} {args : Array Value} {below : List Frame} {meth : Method} {c : Code} {r : GR} {A : Nat → Prop} {fr lo : Nat} {c_either : GS → (GS → Int32 → Prop) → Prop} {c_one : GS → (GS → Int32 → Prop) → Prop} {P : GS → Int32 → Prop} (K : gC p s m args meth c cX2_one 5 RX2 r A) (hr : meth.sig.returnType = (some .int)) (hB : 2 ≤ fr ∧ 41 ≤ lo) {f_either_ l_either_ : Nat} (H_either : ∀ (σ : GS) (P : GS → Int32 → Prop), c_either σ P → gMet dM l yX2_either cX2_either 3 (some .int) f_either_ l_either_ 0 0 r A σ [.ref r.2.1] (zI P)) (hR_either : f_either_ + 1 ≤ fr ∧ 8 + (3 + 11) + l_either_ ≤ lo) {f_one_ l_one_ : Nat} (H_one : ∀ (σ : GS) (P : GS → Int32 → Prop), c_one σ P → gMet dM l yX2_one cX2_one 5 (some .int) f_one_ l_one_ 0 0 r A σ [.ref r.2.1] (zI P)) (hR_one : f_one_ + 1 ≤ fr ∧ 8 + (5 + 11) + l_one_ ≤ lo) : ∀ (n : Nat) (σ : GS) (x3 : Int32) (x4 : Int32), o_X2_one_176 c_either c_one P n σ x3 x4 → gW dM p l e (gRm fr lo 0 0) s m args below meth c r A (zI P) 0 0 5 176 [(0, .ref r.2.1), (3, .int x3), (4, .int x4)] [] 0 0 σ := by
  obtain ⟨hx, hb, hml, hown, hts, hlk, hKK, hA⟩ := id K
  intro n
  induction n with
  | zero =>
    intro σ x3 x4 hf
    exact absurd hf (fun h => h)
  | succ n ih =>
    intro σ x3 x4 hf H locs ls hM hl
    rw [o_X2_one_176] at hf
    refine lv_iload hx hb dX2_one_176 (lv_at hl 2 rfl) ?_
    refine lv_iconst (v := 4) hx hb dX2_one_178 rfl ?_
    refine lv_icmp_ge (tgt := 229) hx hb dX2_one_179 (by decide) (fun b1 => ?_) (fun b1 => ?_)
    · replace hf := hf.1 b1
      exact wo_X2_one_229 K hr hB H_either hR_either H_one hR_one _ _ _ hf _ _ _ hM (lv_sub hl [0, 1, 2] rfl)
    · replace hf := hf.2 b1
      refine lv_aload_n hx hb dX2_one_182 rfl (lv_at hl 0 rfl) ?_
      refine g_cVi [] [] K kM hM hl (c_X2_byteAt l r A _ _ hf) q1728 q1730 qs53 q84 q1731 hdX2_byteAt ⟨Nat.le_trans (Nat.le_of_ble_eq_true rfl) hB.1, Nat.le_trans (Nat.le_of_ble_eq_true rfl) hB.2⟩ ⟨Nat.le_refl _, Nat.le_refl _⟩ rfl (Nat.le_of_ble_eq_true rfl) dX2_one_183 (fun σ2 v3 H locs hf hM => ?_)
      refine lv_bipush (v := 48) hx hb dX2_one_186 rfl ?_
      refine lv_icmp_lt (tgt := 229) hx hb dX2_one_188 (by decide) (fun b4 => ?_) (fun b4 => ?_)
      · replace hf := hf.1 b4
        exact wo_X2_one_229 K hr hB H_either hR_either H_one hR_one _ _ _ hf _ _ _ hM (lv_sub hl [0, 1, 2] rfl)
      · replace hf := hf.2 b4
        refine lv_aload_n hx hb dX2_one_191 rfl (lv_at hl 0 rfl) ?_
        refine g_cVi [] [] K kM hM hl (c_X2_byteAt l r A _ _ hf) q1728 q1730 qs53 q84 q1731 hdX2_byteAt ⟨Nat.le_trans (Nat.le_of_ble_eq_true rfl) hB.1, Nat.le_trans (Nat.le_of_ble_eq_true rfl) hB.2⟩ ⟨Nat.le_refl _, Nat.le_refl _⟩ rfl (Nat.le_of_ble_eq_true rfl) dX2_one_192 (fun σ5 v6 H locs hf hM => ?_)
        refine lv_bipush (v := 57) hx hb dX2_one_195 rfl ?_
        refine lv_icmp_gt (tgt := 229) hx hb dX2_one_197 (by decide) (fun b7 => ?_) (fun b7 => ?_)
        · replace hf := hf.1 b7
          exact wo_X2_one_229 K hr hB H_either hR_either H_one hR_one _ _ _ hf _ _ _ hM (lv_sub hl [0, 1, 2] rfl)
        · replace hf := hf.2 b7
          refine lv_bipush (v := 10) hx hb dX2_one_200 rfl ?_
          refine lv_iload_n hx hb dX2_one_202 rfl (lv_at hl 1 rfl) ?_
          refine lv_imul hx hb dX2_one_203 ?_
          refine lv_aload_n hx hb dX2_one_204 rfl (lv_at hl 0 rfl) ?_
          refine g_cVi [] [.int ((10 : Int32) * x3)] K kM hM hl (c_X2_byteAt l r A _ _ hf) q1728 q1730 qs53 q84 q1731 hdX2_byteAt ⟨Nat.le_trans (Nat.le_of_ble_eq_true rfl) hB.1, Nat.le_trans (Nat.le_of_ble_eq_true rfl) hB.2⟩ ⟨Nat.le_refl _, Nat.le_refl _⟩ rfl (Nat.le_of_ble_eq_true rfl) dX2_one_205 (fun σ8 v9 H locs hf hM => ?_)
          refine lv_iadd hx hb dX2_one_208 ?_
          refine lv_bipush (v := 48) hx hb dX2_one_209 rfl ?_
          refine lv_isub hx hb dX2_one_211 ?_
          refine lv_topi (fun z10 hz10 => ?_)
          have hf := hf z10 hz10
          refine lv_istore_n (lv' := [(3, .int z10), (0, .ref r.2.1), (4, .int x4)]) hx hb dX2_one_212 rfl hl (by decide) rfl (fun ls hl => ?_)
          refine lv_iinc (v := x4 + 1) (lv' := [(4, .int (x4 + 1)), (3, .int z10), (0, .ref r.2.1)]) hx hb dX2_one_213 hl (k := 2) rfl rfl (by decide) rfl (fun ls hl => ?_)
          refine lv_aload_n hx hb dX2_one_216 rfl (lv_at hl 2 rfl) ?_
          refine lv_dup hx hb dX2_one_217 rfl ?_
          refine g_geti K kM hM 19 rfl q1472 rfl dX2_one_218 rfl ?_
          refine lv_iconst (v := 1) hx hb dX2_one_221 rfl ?_
          refine lv_iadd hx hb dX2_one_222 ?_
          refine g_putiN K kM hM 19 rfl q1472 rfl dX2_one_223 rfl rfl rfl (fun H locs σ11 hσ11 hM => ?_)
          have hf := hf σ11 hσ11
          refine lv_goto (tgt := 176) hx hb dX2_one_226 (by decide) ?_
          exact ih _ _ _ hf _ _ _ hM (lv_sub hl [2, 1, 0] rfl)
theorem wo_X2_one_104 {p : Program} {l : Launch} {e : Env} {s : State} {m : MethodId} {args : Array Value} {below : List Frame} {meth : Method} {c : Code} {r : GR} {A : Nat → Prop} {fr lo : Nat} {c_either : GS → (GS → Int32 → Prop) → Prop} {c_one : GS → (GS → Int32 → Prop) → Prop} {P : GS → Int32 → Prop} (K : gC p s m args meth c cX2_one 5 RX2 r A) (hr : meth.sig.returnType = (some .int)) (hB : 2 ≤ fr ∧ 41 ≤ lo) {f_either_ l_either_ : Nat} (H_either : ∀ (σ : GS) (P : GS → Int32 → Prop), c_either σ P → gMet dM l yX2_either cX2_either 3 (some .int) f_either_ l_either_ 0 0 r A σ [.ref r.2.1] (zI P)) (hR_either : f_either_ + 1 ≤ fr ∧ 8 + (3 + 11) + l_either_ ≤ lo) {f_one_ l_one_ : Nat} (H_one : ∀ (σ : GS) (P : GS → Int32 → Prop), c_one σ P → gMet dM l yX2_one cX2_one 5 (some .int) f_one_ l_one_ 0 0 r A σ [.ref r.2.1] (zI P)) (hR_one : f_one_ + 1 ≤ fr ∧ 8 + (5 + 11) + l_one_ ≤ lo) : ∀ (σ : GS) (x1 : Int32) (x2 : Int32), o_X2_one_104 c_either c_one P σ x1 x2 → gW dM p l e (gRm fr lo 0 0) s m args below meth c r A (zI P) 0 0 5 104 [(0, .ref r.2.1), (1, .int x1), (2, .int x2)] [] 0 0 σ := by
  obtain ⟨hx, hb, hml, hown, hts, hlk, hKK, hA⟩ := id K
  intro σ x1 x2 hf H locs ls hM hl
  unfold o_X2_one_104 at hf
  refine lv_aload_n hx hb dX2_one_104 rfl (lv_at hl 0 rfl) ?_
  refine lv_dup hx hb dX2_one_105 rfl ?_
  refine g_geti K kM hM 22 rfl q1475 rfl dX2_one_106 rfl ?_
  refine lv_iconst (v := 1) hx hb dX2_one_109 rfl ?_
  refine lv_isub hx hb dX2_one_110 ?_
  refine g_putiN K kM hM 22 rfl q1475 rfl dX2_one_111 rfl rfl rfl (fun H locs σ1 hσ1 hM => ?_)
  have hf := hf σ1 hσ1
  refine lv_iload_n hx hb dX2_one_114 rfl (lv_at hl 1 rfl) ?_
  refine lv_bipush (v := 40) hx hb dX2_one_115 rfl ?_
  refine lv_icmp_ne (tgt := 124) hx hb dX2_one_117 (by decide) (fun b2 => ?_) (fun b2 => ?_)
  · replace hf := hf.2 b2
    refine lv_iload_n hx hb dX2_one_124 rfl (lv_at hl 1 rfl) ?_
    refine lv_bipush (v := 45) hx hb dX2_one_125 rfl ?_
    refine lv_icmp_ne (tgt := 135) hx hb dX2_one_127 (by decide) (fun b3 => ?_) (fun b3 => ?_)
    · replace hf := hf.2 b3
      refine lv_iload_n hx hb dX2_one_135 rfl (lv_at hl 2 rfl) ?_
      refine lv_if_ne (tgt := 143) hx hb dX2_one_136 (by decide) (fun b4 => ?_) (fun b4 => ?_)
      · replace hf := hf.2 b4
        refine lv_iconst (v := 0) hx hb dX2_one_143 rfl ?_
        exact g_reti K hr hM ⟨Nat.le_refl _, Nat.le_refl _⟩ hf dX2_one_144
      · replace hf := hf.1 b4
        refine lv_iconst (v := 1) hx hb dX2_one_139 rfl ?_
        refine lv_goto (tgt := 144) hx hb dX2_one_140 (by decide) ?_
        exact g_reti K hr hM ⟨Nat.le_refl _, Nat.le_refl _⟩ hf dX2_one_144
    · replace hf := hf.1 b3
      refine lv_iload_n hx hb dX2_one_130 rfl (lv_at hl 2 rfl) ?_
      refine lv_ineg hx hb dX2_one_131 ?_
      refine lv_goto (tgt := 144) hx hb dX2_one_132 (by decide) ?_
      exact g_reti K hr hM ⟨Nat.le_refl _, Nat.le_refl _⟩ hf dX2_one_144
  · replace hf := hf.1 b2
    refine lv_iload_n hx hb dX2_one_120 rfl (lv_at hl 2 rfl) ?_
    refine lv_goto (tgt := 144) hx hb dX2_one_121 (by decide) ?_
    exact g_reti K hr hM ⟨Nat.le_refl _, Nat.le_refl _⟩ hf dX2_one_144
theorem wo_X2_one_83 {p : Program} {l : Launch} {e : Env} {s : State} {m : MethodId} {args : Array Value} {below : List Frame} {meth : Method} {c : Code} {r : GR} {A : Nat → Prop} {fr lo : Nat} {c_either : GS → (GS → Int32 → Prop) → Prop} {c_one : GS → (GS → Int32 → Prop) → Prop} {P : GS → Int32 → Prop} (K : gC p s m args meth c cX2_one 5 RX2 r A) (hr : meth.sig.returnType = (some .int)) (hB : 2 ≤ fr ∧ 41 ≤ lo) {f_either_ l_either_ : Nat} (H_either : ∀ (σ : GS) (P : GS → Int32 → Prop), c_either σ P → gMet dM l yX2_either cX2_either 3 (some .int) f_either_ l_either_ 0 0 r A σ [.ref r.2.1] (zI P)) (hR_either : f_either_ + 1 ≤ fr ∧ 8 + (3 + 11) + l_either_ ≤ lo) {f_one_ l_one_ : Nat} (H_one : ∀ (σ : GS) (P : GS → Int32 → Prop), c_one σ P → gMet dM l yX2_one cX2_one 5 (some .int) f_one_ l_one_ 0 0 r A σ [.ref r.2.1] (zI P)) (hR_one : f_one_ + 1 ≤ fr ∧ 8 + (5 + 11) + l_one_ ≤ lo) : ∀ (σ : GS) (x1 : Int32) (t0 : Int32), o_X2_one_83 c_either c_one P σ x1 t0 → gW dM p l e (gRm fr lo 0 0) s m args below meth c r A (zI P) 0 0 5 83 [(0, .ref r.2.1), (1, .int x1)] [.int t0] 0 0 σ := by
  obtain ⟨hx, hb, hml, hown, hts, hlk, hKK, hA⟩ := id K
  intro σ x1 t0 hf H locs ls hM hl
  unfold o_X2_one_83 at hf
  refine lv_istore_n (lv' := [(2, .int t0), (0, .ref r.2.1), (1, .int x1)]) hx hb dX2_one_83 rfl hl (by decide) rfl (fun ls hl => ?_)
  refine lv_iload_n hx hb dX2_one_84 rfl (lv_at hl 2 rfl) ?_
  refine lv_bipush (v := 40) hx hb dX2_one_85 rfl ?_
  refine lv_icmp_ne (tgt := 104) hx hb dX2_one_87 (by decide) (fun b1 => ?_) (fun b1 => ?_)
  · replace hf := hf.2 b1
    exact wo_X2_one_104 K hr hB H_either hR_either H_one hR_one _ _ _ hf _ _ _ hM (lv_sub hl [1, 2, 0] rfl)
  · replace hf := hf.1 b1
    refine lv_aload_n hx hb dX2_one_90 rfl (lv_at hl 1 rfl) ?_
    refine lv_bipush (v := 41) hx hb dX2_one_91 rfl ?_
    refine g_cVi [.int (41 : Int32)] [] K kM hM hl (c_X2_takes l r A _ _ _ hf) q1736 q1738 qs55 q84 q1739 hdX2_takes ⟨Nat.le_trans (Nat.le_of_ble_eq_true rfl) hB.1, Nat.le_trans (Nat.le_of_ble_eq_true rfl) hB.2⟩ ⟨Nat.le_refl _, Nat.le_refl _⟩ rfl (Nat.le_of_ble_eq_true rfl) dX2_one_93 (fun σ2 v3 H locs hf hM => ?_)
    refine lv_if_ne (tgt := 104) hx hb dX2_one_96 (by decide) (fun b4 => ?_) (fun b4 => ?_)
    · replace hf := hf.2 b4
      exact wo_X2_one_104 K hr hB H_either hR_either H_one hR_one _ _ _ hf _ _ _ hM (lv_sub hl [1, 2, 0] rfl)
    · replace hf := hf.1 b4
      refine lv_aload_n hx hb dX2_one_99 rfl (lv_at hl 1 rfl) ?_
      refine g_cVi [] [] K kM hM hl (c_X2_fails l r A _ _ hf) q1732 q1734 qs54 q84 q1735 hdX2_fails ⟨Nat.le_trans (Nat.le_of_ble_eq_true rfl) hB.1, Nat.le_trans (Nat.le_of_ble_eq_true rfl) hB.2⟩ ⟨Nat.le_refl _, Nat.le_refl _⟩ rfl (Nat.le_of_ble_eq_true rfl) dX2_one_100 (fun σ5 v6 H locs hf hM => ?_)
      exact g_reti K hr hM ⟨Nat.le_refl _, Nat.le_refl _⟩ hf dX2_one_103
theorem wo_X2_one_32 {p : Program} {l : Launch} {e : Env} {s : State} {m : MethodId} {args : Array Value} {below : List Frame} {meth : Method} {c : Code} {r : GR} {A : Nat → Prop} {fr lo : Nat} {c_either : GS → (GS → Int32 → Prop) → Prop} {c_one : GS → (GS → Int32 → Prop) → Prop} {P : GS → Int32 → Prop} (K : gC p s m args meth c cX2_one 5 RX2 r A) (hr : meth.sig.returnType = (some .int)) (hB : 2 ≤ fr ∧ 41 ≤ lo) {f_either_ l_either_ : Nat} (H_either : ∀ (σ : GS) (P : GS → Int32 → Prop), c_either σ P → gMet dM l yX2_either cX2_either 3 (some .int) f_either_ l_either_ 0 0 r A σ [.ref r.2.1] (zI P)) (hR_either : f_either_ + 1 ≤ fr ∧ 8 + (3 + 11) + l_either_ ≤ lo) {f_one_ l_one_ : Nat} (H_one : ∀ (σ : GS) (P : GS → Int32 → Prop), c_one σ P → gMet dM l yX2_one cX2_one 5 (some .int) f_one_ l_one_ 0 0 r A σ [.ref r.2.1] (zI P)) (hR_one : f_one_ + 1 ≤ fr ∧ 8 + (5 + 11) + l_one_ ≤ lo) : ∀ (σ : GS) (x1 : Int32), o_X2_one_32 c_either c_one P σ x1 → gW dM p l e (gRm fr lo 0 0) s m args below meth c r A (zI P) 0 0 5 32 [(0, .ref r.2.1), (1, .int x1)] [] 0 0 σ := by
  obtain ⟨hx, hb, hml, hown, hts, hlk, hKK, hA⟩ := id K
  intro σ x1 hf H locs ls hM hl
  unfold o_X2_one_32 at hf
  refine lv_aload_n hx hb dX2_one_32 rfl (lv_at hl 0 rfl) ?_
  refine g_geti K kM hM 22 rfl q1475 rfl dX2_one_33 rfl ?_
  refine lv_bipush (v := 6) hx hb dX2_one_36 rfl ?_
  refine lv_icmp_ne (tgt := 46) hx hb dX2_one_38 (by decide) (fun b1 => ?_) (fun b1 => ?_)
  · replace hf := hf.2 b1
    refine lv_aload_n hx hb dX2_one_46 rfl (lv_at hl 0 rfl) ?_
    refine lv_dup hx hb dX2_one_47 rfl ?_
    refine g_geti K kM hM 22 rfl q1475 rfl dX2_one_48 rfl ?_
    refine lv_iconst (v := 1) hx hb dX2_one_51 rfl ?_
    refine lv_iadd hx hb dX2_one_52 ?_
    refine g_putiN K kM hM 22 rfl q1475 rfl dX2_one_53 rfl rfl rfl (fun H locs σ2 hσ2 hM => ?_)
    have hf := hf σ2 hσ2
    refine lv_aload_n hx hb dX2_one_56 rfl (lv_at hl 0 rfl) ?_
    refine lv_dup hx hb dX2_one_57 rfl ?_
    refine g_geti K kM hM 19 rfl q1472 rfl dX2_one_58 rfl ?_
    refine lv_iconst (v := 1) hx hb dX2_one_61 rfl ?_
    refine lv_iadd hx hb dX2_one_62 ?_
    refine g_putiN K kM hM 19 rfl q1472 rfl dX2_one_63 rfl rfl rfl (fun H locs σ3 hσ3 hM => ?_)
    have hf := hf σ3 hσ3
    refine lv_iload_n hx hb dX2_one_66 rfl (lv_at hl 1 rfl) ?_
    refine lv_bipush (v := 40) hx hb dX2_one_67 rfl ?_
    refine lv_icmp_ne (tgt := 79) hx hb dX2_one_69 (by decide) (fun b4 => ?_) (fun b4 => ?_)
    · replace hf := hf.2 b4
      refine lv_aload_n hx hb dX2_one_79 rfl (lv_at hl 0 rfl) ?_
      refine g_cVi [] [] K kM hM hl (H_one _ _ hf) q1724 q1726 qs52 q84 q1727 hdX2_one ⟨hR_one.1, hR_one.2⟩ ⟨Nat.le_refl _, Nat.le_refl _⟩ rfl (Nat.le_of_ble_eq_true rfl) dX2_one_80 (fun σ5 v6 H locs hf hM => ?_)
      exact wo_X2_one_83 K hr hB H_either hR_either H_one hR_one _ _ _ hf _ _ _ hM (lv_sub hl [0, 1] rfl)
    · replace hf := hf.1 b4
      refine lv_aload_n hx hb dX2_one_72 rfl (lv_at hl 0 rfl) ?_
      refine g_cVi [] [] K kM hM hl (H_either _ _ hf) q1704 q1706 qs47 q84 q1707 hdX2_either ⟨hR_either.1, hR_either.2⟩ ⟨Nat.le_refl _, Nat.le_refl _⟩ rfl (Nat.le_of_ble_eq_true rfl) dX2_one_73 (fun σ7 v8 H locs hf hM => ?_)
      refine lv_goto (tgt := 83) hx hb dX2_one_76 (by decide) ?_
      exact wo_X2_one_83 K hr hB H_either hR_either H_one hR_one _ _ _ hf _ _ _ hM (lv_sub hl [0, 1] rfl)
  · replace hf := hf.1 b1
    refine lv_aload_n hx hb dX2_one_41 rfl (lv_at hl 0 rfl) ?_
    refine g_cVi [] [] K kM hM hl (c_X2_fails l r A _ _ hf) q1732 q1734 qs54 q84 q1735 hdX2_fails ⟨Nat.le_trans (Nat.le_of_ble_eq_true rfl) hB.1, Nat.le_trans (Nat.le_of_ble_eq_true rfl) hB.2⟩ ⟨Nat.le_refl _, Nat.le_refl _⟩ rfl (Nat.le_of_ble_eq_true rfl) dX2_one_42 (fun σ9 v10 H locs hf hM => ?_)
    exact g_reti K hr hM ⟨Nat.le_refl _, Nat.le_refl _⟩ hf dX2_one_45
theorem co_X2_one (l : Launch) (r : GR) (A : Nat → Prop) {fr lo : Nat} {c_either : GS → (GS → Int32 → Prop) → Prop} {c_one : GS → (GS → Int32 → Prop) → Prop} (hB : 2 ≤ fr ∧ 41 ≤ lo) {f_either_ l_either_ : Nat} (H_either : ∀ (σ : GS) (P : GS → Int32 → Prop), c_either σ P → gMet dM l yX2_either cX2_either 3 (some .int) f_either_ l_either_ 0 0 r A σ [.ref r.2.1] (zI P)) (hR_either : f_either_ + 1 ≤ fr ∧ 8 + (3 + 11) + l_either_ ≤ lo) {f_one_ l_one_ : Nat} (H_one : ∀ (σ : GS) (P : GS → Int32 → Prop), c_one σ P → gMet dM l yX2_one cX2_one 5 (some .int) f_one_ l_one_ 0 0 r A σ [.ref r.2.1] (zI P)) (hR_one : f_one_ + 1 ≤ fr ∧ 8 + (5 + 11) + l_one_ ≤ lo) (σ : GS) (P : GS → Int32 → Prop) (hf : o_X2_one c_either c_one σ P) : gMet dM l yX2_one cX2_one 5 (some .int) fr lo 0 0 r A σ [.ref r.2.1] (zI P) := by
  refine g_enter (lv := [(0, .ref r.2.1)]) (by decide) (Nat.le_of_ble_eq_true rfl) rfl ?_
  intro p e s m below meth c ls K hr hM hl _
  obtain ⟨hx, hb, hml, hown, hts, hlk, hKK, hA⟩ := id K
  unfold o_X2_one at hf
  refine lv_aload_n hx hb dX2_one_0 rfl (lv_at hl 0 rfl) ?_
  refine g_geti K kM hM 21 rfl q1474 rfl dX2_one_1 rfl ?_
  refine lv_if_lt (tgt := 9) hx hb dX2_one_4 (by decide) (fun b1 => ?_) (fun b1 => ?_)
  · replace hf := hf.1 b1
    refine lv_aload_n hx hb dX2_one_9 rfl (lv_at hl 0 rfl) ?_
    refine g_cVi [] [] K kM hM hl (c_X2_byteAt l r A _ _ hf) q1728 q1730 qs53 q84 q1731 hdX2_byteAt ⟨Nat.le_trans (Nat.le_of_ble_eq_true rfl) hB.1, Nat.le_trans (Nat.le_of_ble_eq_true rfl) hB.2⟩ ⟨Nat.le_refl _, Nat.le_refl _⟩ rfl (Nat.le_of_ble_eq_true rfl) dX2_one_10 (fun σ2 v3 H locs hf hM => ?_)
    refine lv_istore_n (lv' := [(1, .int v3), (0, .ref r.2.1)]) hx hb dX2_one_13 rfl hl (by decide) rfl (fun ls hl => ?_)
    refine lv_iload_n hx hb dX2_one_14 rfl (lv_at hl 0 rfl) ?_
    refine lv_bipush (v := 33) hx hb dX2_one_15 rfl ?_
    refine lv_icmp_eq (tgt := 32) hx hb dX2_one_17 (by decide) (fun b4 => ?_) (fun b4 => ?_)
    · replace hf := hf.1 b4
      exact wo_X2_one_32 K hr hB H_either hR_either H_one hR_one _ _ hf _ _ _ hM (lv_sub hl [1, 0] rfl)
    · replace hf := hf.2 b4
      refine lv_iload_n hx hb dX2_one_20 rfl (lv_at hl 0 rfl) ?_
      refine lv_bipush (v := 45) hx hb dX2_one_21 rfl ?_
      refine lv_icmp_eq (tgt := 32) hx hb dX2_one_23 (by decide) (fun b5 => ?_) (fun b5 => ?_)
      · replace hf := hf.1 b5
        exact wo_X2_one_32 K hr hB H_either hR_either H_one hR_one _ _ hf _ _ _ hM (lv_sub hl [1, 0] rfl)
      · replace hf := hf.2 b5
        refine lv_iload_n hx hb dX2_one_26 rfl (lv_at hl 0 rfl) ?_
        refine lv_bipush (v := 40) hx hb dX2_one_27 rfl ?_
        refine lv_icmp_ne (tgt := 145) hx hb dX2_one_29 (by decide) (fun b6 => ?_) (fun b6 => ?_)
        · replace hf := hf.2 b6
          refine lv_iload_n hx hb dX2_one_145 rfl (lv_at hl 0 rfl) ?_
          refine g_cSi [.int v3] [] K hM hl (c_X2_nameOf l r A _ _ _ hf) q1740 q1741 q84 q1742 hdX2_nameOf ⟨Nat.le_trans (Nat.le_of_ble_eq_true rfl) hB.1, Nat.le_trans (Nat.le_of_ble_eq_true rfl) hB.2⟩ ⟨Nat.le_refl _, Nat.le_refl _⟩ rfl (Nat.le_of_ble_eq_true rfl) dX2_one_146 (fun σ7 v8 H locs hf hM => ?_)
          refine lv_istore_n (lv' := [(2, .int v8), (1, .int v3), (0, .ref r.2.1)]) hx hb dX2_one_149 rfl hl (by decide) rfl (fun ls hl => ?_)
          refine lv_iload_n hx hb dX2_one_150 rfl (lv_at hl 0 rfl) ?_
          refine lv_if_lt (tgt := 171) hx hb dX2_one_151 (by decide) (fun b9 => ?_) (fun b9 => ?_)
          · replace hf := hf.1 b9
            refine lv_iconst (v := 0) hx hb dX2_one_171 rfl ?_
            refine lv_istore_n (lv' := [(3, .int (0 : Int32)), (2, .int v8), (1, .int v3), (0, .ref r.2.1)]) hx hb dX2_one_172 rfl hl (by decide) rfl (fun ls hl => ?_)
            refine lv_iconst (v := 0) hx hb dX2_one_173 rfl ?_
            refine lv_istore (lv' := [(4, .int (0 : Int32)), (3, .int (0 : Int32)), (2, .int v8), (1, .int v3), (0, .ref r.2.1)]) hx hb dX2_one_174 hl (by decide) rfl (fun ls hl => ?_)
            obtain ⟨n_, hf⟩ := hf
            exact wo_X2_one_176 K hr hB H_either hR_either H_one hR_one n_ _ _ _ hf _ _ _ hM (lv_sub hl [4, 1, 0] rfl)
          · replace hf := hf.2 b9
            refine lv_aload_n hx hb dX2_one_154 rfl (lv_at hl 2 rfl) ?_
            refine lv_dup hx hb dX2_one_155 rfl ?_
            refine g_geti K kM hM 19 rfl q1472 rfl dX2_one_156 rfl ?_
            refine lv_iconst (v := 1) hx hb dX2_one_159 rfl ?_
            refine lv_iadd hx hb dX2_one_160 ?_
            refine g_putiN K kM hM 19 rfl q1472 rfl dX2_one_161 rfl rfl rfl (fun H locs σ10 hσ10 hM => ?_)
            have hf := hf σ10 hσ10
            refine lv_aload_n hx hb dX2_one_164 rfl (lv_at hl 2 rfl) ?_
            refine g_geta K kM hM 23 rfl q1476 rfl dX2_one_165 rfl ?_
            refine lv_iload_n hx hb dX2_one_168 rfl (lv_at hl 0 rfl) ?_
            obtain ⟨g11, hf⟩ := hf
            refine g_iald K hM 23 rfl rfl rfl g11 dX2_one_169 ?_
            exact g_reti K hr hM ⟨Nat.le_refl _, Nat.le_refl _⟩ hf dX2_one_170
        · replace hf := hf.1 b6
          exact wo_X2_one_32 K hr hB H_either hR_either H_one hR_one _ _ hf _ _ _ hM (lv_sub hl [1, 0] rfl)
  · replace hf := hf.2 b1
    refine lv_iconst (v := 0) hx hb dX2_one_7 rfl ?_
    exact g_reti K hr hM ⟨Nat.le_refl _, Nat.le_refl _⟩ hf dX2_one_8
theorem ce_X2_product (l : Launch) (r : GR) (A : Nat → Prop) {c : GS → (GS → Int32 → Prop) → Prop} {F L : Nat} (hF : 10 ≤ F ∧ 400 ≤ L) (H : ∀ (σ : GS) (P : GS → Int32 → Prop), c σ P → gMet dM l yX2_one cX2_one 5 (some .int) F L 0 0 r A σ [.ref r.2.1] (zI P)) : ∀ (σ : GS) (P : GS → Int32 → Prop), e_X2_product c σ P → gMet dM l yX2_product cX2_product 4 (some .int) (F + 1) (L + 40) 0 0 r A σ [.ref r.2.1] (zI P) := by
  intro σ P hf
  exact co_X2_product l r A ⟨by omega, by omega⟩ H ⟨by omega, by omega⟩ σ P hf
theorem ce_X2_sums (l : Launch) (r : GR) (A : Nat → Prop) {c : GS → (GS → Int32 → Prop) → Prop} {F L : Nat} (hF : 10 ≤ F ∧ 400 ≤ L) (H : ∀ (σ : GS) (P : GS → Int32 → Prop), c σ P → gMet dM l yX2_one cX2_one 5 (some .int) F L 0 0 r A σ [.ref r.2.1] (zI P)) : ∀ (σ : GS) (P : GS → Int32 → Prop), e_X2_sums c σ P → gMet dM l yX2_sums cX2_sums 4 (some .int) (F + 2) (L + 80) 0 0 r A σ [.ref r.2.1] (zI P) := by
  intro σ P hf
  exact co_X2_sums l r A ⟨by omega, by omega⟩ (ce_X2_product l r A hF H) ⟨by omega, by omega⟩ σ P hf
theorem ce_X2_compared (l : Launch) (r : GR) (A : Nat → Prop) {c : GS → (GS → Int32 → Prop) → Prop} {F L : Nat} (hF : 10 ≤ F ∧ 400 ≤ L) (H : ∀ (σ : GS) (P : GS → Int32 → Prop), c σ P → gMet dM l yX2_one cX2_one 5 (some .int) F L 0 0 r A σ [.ref r.2.1] (zI P)) : ∀ (σ : GS) (P : GS → Int32 → Prop), e_X2_compared c σ P → gMet dM l yX2_compared cX2_compared 4 (some .int) (F + 3) (L + 120) 0 0 r A σ [.ref r.2.1] (zI P) := by
  intro σ P hf
  exact co_X2_compared l r A ⟨by omega, by omega⟩ (ce_X2_sums l r A hF H) ⟨by omega, by omega⟩ σ P hf
theorem ce_X2_both (l : Launch) (r : GR) (A : Nat → Prop) {c : GS → (GS → Int32 → Prop) → Prop} {F L : Nat} (hF : 10 ≤ F ∧ 400 ≤ L) (H : ∀ (σ : GS) (P : GS → Int32 → Prop), c σ P → gMet dM l yX2_one cX2_one 5 (some .int) F L 0 0 r A σ [.ref r.2.1] (zI P)) : ∀ (σ : GS) (P : GS → Int32 → Prop), e_X2_both c σ P → gMet dM l yX2_both cX2_both 3 (some .int) (F + 4) (L + 160) 0 0 r A σ [.ref r.2.1] (zI P) := by
  intro σ P hf
  exact co_X2_both l r A ⟨by omega, by omega⟩ (ce_X2_compared l r A hF H) ⟨by omega, by omega⟩ σ P hf
theorem ce_X2_either (l : Launch) (r : GR) (A : Nat → Prop) {c : GS → (GS → Int32 → Prop) → Prop} {F L : Nat} (hF : 10 ≤ F ∧ 400 ≤ L) (H : ∀ (σ : GS) (P : GS → Int32 → Prop), c σ P → gMet dM l yX2_one cX2_one 5 (some .int) F L 0 0 r A σ [.ref r.2.1] (zI P)) : ∀ (σ : GS) (P : GS → Int32 → Prop), e_X2_either c σ P → gMet dM l yX2_either cX2_either 3 (some .int) (F + 5) (L + 200) 0 0 r A σ [.ref r.2.1] (zI P) := by
  intro σ P hf
  exact co_X2_either l r A ⟨by omega, by omega⟩ (ce_X2_both l r A hF H) ⟨by omega, by omega⟩ σ P hf
theorem cd_X2_one (l : Launch) (r : GR) (A : Nat → Prop) : ∀ (d : Nat) (σ : GS) (P : GS → Int32 → Prop), d_X2_one d σ P → gMet dM l yX2_one cX2_one 5 (some .int) (10 + 6 * d) (400 + 240 * d) 0 0 r A σ [.ref r.2.1] (zI P) := by
  intro d
  induction d with
  | zero =>
    intro σ P hf
    exact absurd hf (fun h => h)
  | succ d ih =>
    intro σ P hf
    rw [d_X2_one] at hf
    exact co_X2_one l r A ⟨by omega, by omega⟩ (ce_X2_either l r A ⟨by omega, by omega⟩ ih) ⟨by omega, by omega⟩ ih ⟨by omega, by omega⟩ σ P hf
theorem c_X2_either (l : Launch) (r : GR) (A : Nat → Prop) (σ : GS) (P : GS → Int32 → Prop) (hf : f_X2_either σ P) : gMet dM l yX2_either cX2_either 3 (some .int) 63 2520 0 0 r A σ [.ref r.2.1] (zI P) := ce_X2_either l r A ⟨by omega, by omega⟩ (cd_X2_one l r A 8) σ P hf
theorem w_X2_workOut_96 {p : Program} {l : Launch} {e : Env} {s : State} {m : MethodId} {args : Array Value} {below : List Frame} {meth : Method} {c : Code} {r : GR} {A : Nat → Prop} {P : GS → Int32 → Prop} {k33 : GS → Int32 → Int32 → Int32 → Prop} (K : gC p s m args meth c cX2_workOut 8 RX2 r A) (hr : meth.sig.returnType = (some .int)) (H33 : ∀ (σ : GS) (x3 : Int32) (x4 : Int32) (x5 : Int32), k33 σ x3 x4 x5 → gW dM p l e (gRm 64 2542 0 0) s m args below meth c r A (zI P) 0 0 8 33 [(0, .ref r.2.1), (3, .int x3), (4, .int x4), (5, .int x5)] [] 0 0 σ) : ∀ (σ : GS) (x3 : Int32) (x4 : Int32), f_X2_workOut_96 k33 P σ x3 x4 → gW dM p l e (gRm 64 2542 0 0) s m args below meth c r A (zI P) 0 0 8 96 [(0, .ref r.2.1), (3, .int x3), (4, .int x4)] [] 0 0 σ := by
  obtain ⟨hx, hb, hml, hown, hts, hlk, hKK, hA⟩ := id K
  intro σ x3 x4 hf H locs ls hM hl
  unfold f_X2_workOut_96 at hf
  refine lv_aload_n hx hb dX2_workOut_96 rfl (lv_at hl 0 rfl) ?_
  refine lv_bipush (v := 59) hx hb dX2_workOut_97 rfl ?_
  refine g_cVi [.int (59 : Int32)] [] K kM hM hl (c_X2_takes l r A _ _ _ hf) q1736 q1738 qs55 q84 q1739 hdX2_takes ⟨Nat.le_of_ble_eq_true rfl, Nat.le_of_ble_eq_true rfl⟩ ⟨Nat.le_refl _, Nat.le_refl _⟩ rfl (Nat.le_of_ble_eq_true rfl) dX2_workOut_99 (fun σ1 v2 H locs hf hM => ?_)
  refine lv_istore (lv' := [(5, .int v2), (0, .ref r.2.1), (3, .int x3), (4, .int x4)]) hx hb dX2_workOut_102 hl (by decide) rfl (fun ls hl => ?_)
  refine lv_goto (tgt := 33) hx hb dX2_workOut_104 (by decide) ?_
  exact H33 _ _ _ _ hf _ _ _ hM (lv_sub hl [1, 2, 3, 0] rfl)
theorem w_X2_workOut_74 {p : Program} {l : Launch} {e : Env} {s : State} {m : MethodId} {args : Array Value} {below : List Frame} {meth : Method} {c : Code} {r : GR} {A : Nat → Prop} {P : GS → Int32 → Prop} {k33 : GS → Int32 → Int32 → Int32 → Prop} (K : gC p s m args meth c cX2_workOut 8 RX2 r A) (hr : meth.sig.returnType = (some .int)) (H33 : ∀ (σ : GS) (x3 : Int32) (x4 : Int32) (x5 : Int32), k33 σ x3 x4 x5 → gW dM p l e (gRm 64 2542 0 0) s m args below meth c r A (zI P) 0 0 8 33 [(0, .ref r.2.1), (3, .int x3), (4, .int x4), (5, .int x5)] [] 0 0 σ) : ∀ (σ : GS) (x3 : Int32) (x4 : Int32) (x6 : Int32) (x7 : Int32), f_X2_workOut_74 k33 P σ x3 x4 x6 x7 → gW dM p l e (gRm 64 2542 0 0) s m args below meth c r A (zI P) 0 0 8 74 [(0, .ref r.2.1), (3, .int x3), (4, .int x4), (6, .int x6), (7, .int x7)] [] 0 0 σ := by
  obtain ⟨hx, hb, hml, hown, hts, hlk, hKK, hA⟩ := id K
  intro σ x3 x4 x6 x7 hf H locs ls hM hl
  unfold f_X2_workOut_74 at hf
  refine lv_aload_n hx hb dX2_workOut_74 rfl (lv_at hl 0 rfl) ?_
  refine g_geti K kM hM 21 rfl q1474 rfl dX2_workOut_75 rfl ?_
  refine lv_if_ge (tgt := 96) hx hb dX2_workOut_78 (by decide) (fun b1 => ?_) (fun b1 => ?_)
  · replace hf := hf.1 b1
    exact w_X2_workOut_96 K hr H33 _ _ _ hf _ _ _ hM (lv_sub hl [0, 1, 2] rfl)
  · replace hf := hf.2 b1
    refine lv_iload hx hb dX2_workOut_81 (lv_at hl 4 rfl) ?_
    refine lv_if_eq (tgt := 96) hx hb dX2_workOut_83 (by decide) (fun b2 => ?_) (fun b2 => ?_)
    · replace hf := hf.1 b2
      exact w_X2_workOut_96 K hr H33 _ _ _ hf _ _ _ hM (lv_sub hl [0, 1, 2] rfl)
    · replace hf := hf.2 b2
      refine lv_iload_n hx hb dX2_workOut_86 rfl (lv_at hl 1 rfl) ?_
      refine lv_if_ne (tgt := 96) hx hb dX2_workOut_87 (by decide) (fun b3 => ?_) (fun b3 => ?_)
      · replace hf := hf.2 b3
        exact w_X2_workOut_96 K hr H33 _ _ _ hf _ _ _ hM (lv_sub hl [0, 1, 2] rfl)
      · replace hf := hf.1 b3
        refine lv_iconst (v := 1) hx hb dX2_workOut_90 rfl ?_
        refine lv_istore_n (lv' := [(3, .int (1 : Int32)), (0, .ref r.2.1), (4, .int x4), (6, .int x6), (7, .int x7)]) hx hb dX2_workOut_91 rfl hl (by decide) rfl (fun ls hl => ?_)
        refine lv_iload hx hb dX2_workOut_92 (lv_at hl 3 rfl) ?_
        refine lv_istore (lv' := [(4, .int x6), (3, .int (1 : Int32)), (0, .ref r.2.1), (6, .int x6), (7, .int x7)]) hx hb dX2_workOut_94 hl (by decide) rfl (fun ls hl => ?_)
        exact w_X2_workOut_96 K hr H33 _ _ _ hf _ _ _ hM (lv_sub hl [2, 1, 0] rfl)
theorem w_X2_workOut_66 {p : Program} {l : Launch} {e : Env} {s : State} {m : MethodId} {args : Array Value} {below : List Frame} {meth : Method} {c : Code} {r : GR} {A : Nat → Prop} {P : GS → Int32 → Prop} {k33 : GS → Int32 → Int32 → Int32 → Prop} (K : gC p s m args meth c cX2_workOut 8 RX2 r A) (hr : meth.sig.returnType = (some .int)) (H33 : ∀ (σ : GS) (x3 : Int32) (x4 : Int32) (x5 : Int32), k33 σ x3 x4 x5 → gW dM p l e (gRm 64 2542 0 0) s m args below meth c r A (zI P) 0 0 8 33 [(0, .ref r.2.1), (3, .int x3), (4, .int x4), (5, .int x5)] [] 0 0 σ) : ∀ (σ : GS) (x3 : Int32) (x4 : Int32) (t0 : Int32), f_X2_workOut_66 k33 P σ x3 x4 t0 → gW dM p l e (gRm 64 2542 0 0) s m args below meth c r A (zI P) 0 0 8 66 [(0, .ref r.2.1), (3, .int x3), (4, .int x4)] [.int t0] 0 0 σ := by
  obtain ⟨hx, hb, hml, hown, hts, hlk, hKK, hA⟩ := id K
  intro σ x3 x4 t0 hf H locs ls hM hl
  unfold f_X2_workOut_66 at hf
  refine lv_istore (lv' := [(7, .int t0), (0, .ref r.2.1), (3, .int x3), (4, .int x4)]) hx hb dX2_workOut_66 hl (by decide) rfl (fun ls hl => ?_)
  refine lv_aload_n hx hb dX2_workOut_68 rfl (lv_at hl 1 rfl) ?_
  refine g_cVi [] [] K kM hM hl (c_X2_either l r A _ _ hf) q1704 q1706 qs47 q84 q1707 hdX2_either ⟨Nat.le_of_ble_eq_true rfl, Nat.le_of_ble_eq_true rfl⟩ ⟨Nat.le_refl _, Nat.le_refl _⟩ rfl (Nat.le_of_ble_eq_true rfl) dX2_workOut_69 (fun σ1 v2 H locs hf hM => ?_)
  refine lv_istore (lv' := [(6, .int v2), (7, .int t0), (0, .ref r.2.1), (3, .int x3), (4, .int x4)]) hx hb dX2_workOut_72 hl (by decide) rfl (fun ls hl => ?_)
  exact w_X2_workOut_74 K hr H33 _ _ _ _ _ hf _ _ _ hM (lv_sub hl [2, 3, 4, 0, 1] rfl)
theorem w_X2_workOut_33 {p : Program} {l : Launch} {e : Env} {s : State} {m : MethodId} {args : Array Value} {below : List Frame} {meth : Method} {c : Code} {r : GR} {A : Nat → Prop} {P : GS → Int32 → Prop} (K : gC p s m args meth c cX2_workOut 8 RX2 r A) (hr : meth.sig.returnType = (some .int)) : ∀ (n : Nat) (σ : GS) (x3 : Int32) (x4 : Int32) (x5 : Int32), f_X2_workOut_33 P n σ x3 x4 x5 → gW dM p l e (gRm 64 2542 0 0) s m args below meth c r A (zI P) 0 0 8 33 [(0, .ref r.2.1), (3, .int x3), (4, .int x4), (5, .int x5)] [] 0 0 σ := by
  obtain ⟨hx, hb, hml, hown, hts, hlk, hKK, hA⟩ := id K
  intro n
  induction n with
  | zero =>
    intro σ x3 x4 x5 hf
    exact absurd hf (fun h => h)
  | succ n ih =>
    intro σ x3 x4 x5 hf H locs ls hM hl
    rw [f_X2_workOut_33] at hf
    refine lv_iload hx hb dX2_workOut_33 (lv_at hl 3 rfl) ?_
    refine lv_if_eq (tgt := 107) hx hb dX2_workOut_35 (by decide) (fun b1 => ?_) (fun b1 => ?_)
    · replace hf := hf.1 b1
      refine lv_aload_n hx hb dX2_workOut_107 rfl (lv_at hl 0 rfl) ?_
      refine g_geti K kM hM 21 rfl q1474 rfl dX2_workOut_108 rfl ?_
      refine lv_if_ge (tgt := 130) hx hb dX2_workOut_111 (by decide) (fun b2 => ?_) (fun b2 => ?_)
      · replace hf := hf.1 b2
        refine lv_iload hx hb dX2_workOut_130 (lv_at hl 2 rfl) ?_
        exact g_reti K hr hM ⟨Nat.le_refl _, Nat.le_refl _⟩ hf dX2_workOut_132
      · replace hf := hf.2 b2
        refine lv_aload_n hx hb dX2_workOut_114 rfl (lv_at hl 0 rfl) ?_
        refine g_geti K kM hM 19 rfl q1472 rfl dX2_workOut_115 rfl ?_
        refine lv_aload_n hx hb dX2_workOut_118 rfl (lv_at hl 0 rfl) ?_
        refine g_geti K kM hM 20 rfl q1473 rfl dX2_workOut_119 rfl ?_
        refine lv_icmp_ge (tgt := 130) hx hb dX2_workOut_122 (by decide) (fun b3 => ?_) (fun b3 => ?_)
        · replace hf := hf.1 b3
          refine lv_iload hx hb dX2_workOut_130 (lv_at hl 2 rfl) ?_
          exact g_reti K hr hM ⟨Nat.le_refl _, Nat.le_refl _⟩ hf dX2_workOut_132
        · replace hf := hf.2 b3
          refine lv_aload_n hx hb dX2_workOut_125 rfl (lv_at hl 0 rfl) ?_
          refine g_cVi [] [] K kM hM hl (c_X2_fails l r A _ _ hf) q1732 q1734 qs54 q84 q1735 hdX2_fails ⟨Nat.le_of_ble_eq_true rfl, Nat.le_of_ble_eq_true rfl⟩ ⟨Nat.le_refl _, Nat.le_refl _⟩ rfl (Nat.le_of_ble_eq_true rfl) dX2_workOut_126 (fun σ4 v5 H locs hf hM => ?_)
          exact g_reti K hr hM ⟨Nat.le_refl _, Nat.le_refl _⟩ hf dX2_workOut_129
    · replace hf := hf.2 b1
      refine lv_aload_n hx hb dX2_workOut_38 rfl (lv_at hl 0 rfl) ?_
      refine g_cVi [] [] K kM hM hl (c_X2_either l r A _ _ hf) q1704 q1706 qs47 q84 q1707 hdX2_either ⟨Nat.le_of_ble_eq_true rfl, Nat.le_of_ble_eq_true rfl⟩ ⟨Nat.le_refl _, Nat.le_refl _⟩ rfl (Nat.le_of_ble_eq_true rfl) dX2_workOut_39 (fun σ6 v7 H locs hf hM => ?_)
      refine lv_istore (lv' := [(6, .int v7), (0, .ref r.2.1), (3, .int x3), (4, .int x4), (5, .int x5)]) hx hb dX2_workOut_42 hl (by decide) rfl (fun ls hl => ?_)
      refine lv_iconst (v := 1) hx hb dX2_workOut_44 rfl ?_
      refine lv_istore (lv' := [(7, .int (1 : Int32)), (6, .int v7), (0, .ref r.2.1), (3, .int x3), (4, .int x4), (5, .int x5)]) hx hb dX2_workOut_45 hl (by decide) rfl (fun ls hl => ?_)
      refine lv_aload_n hx hb dX2_workOut_47 rfl (lv_at hl 2 rfl) ?_
      refine lv_bipush (v := 63) hx hb dX2_workOut_48 rfl ?_
      refine g_cVi [.int (63 : Int32)] [] K kM hM hl (c_X2_takes l r A _ _ _ hf) q1736 q1738 qs55 q84 q1739 hdX2_takes ⟨Nat.le_of_ble_eq_true rfl, Nat.le_of_ble_eq_true rfl⟩ ⟨Nat.le_refl _, Nat.le_refl _⟩ rfl (Nat.le_of_ble_eq_true rfl) dX2_workOut_50 (fun σ8 v9 H locs hf hM => ?_)
      refine lv_if_eq (tgt := 74) hx hb dX2_workOut_53 (by decide) (fun b10 => ?_) (fun b10 => ?_)
      · replace hf := hf.1 b10
        exact w_X2_workOut_74 K hr ih _ _ _ _ _ hf _ _ _ hM (lv_sub hl [2, 3, 4, 1, 0] rfl)
      · replace hf := hf.2 b10
        refine lv_iload hx hb dX2_workOut_56 (lv_at hl 1 rfl) ?_
        refine lv_if_eq (tgt := 65) hx hb dX2_workOut_58 (by decide) (fun b11 => ?_) (fun b11 => ?_)
        · replace hf := hf.1 b11
          refine lv_iconst (v := 0) hx hb dX2_workOut_65 rfl ?_
          exact w_X2_workOut_66 K hr ih _ _ _ _ hf _ _ _ hM (lv_sub hl [2, 3, 4] rfl)
        · replace hf := hf.2 b11
          refine lv_iconst (v := 1) hx hb dX2_workOut_61 rfl ?_
          refine lv_goto (tgt := 66) hx hb dX2_workOut_62 (by decide) ?_
          exact w_X2_workOut_66 K hr ih _ _ _ _ hf _ _ _ hM (lv_sub hl [2, 3, 4] rfl)
theorem c_X2_workOut (l : Launch) (r : GR) (A : Nat → Prop) (σ : GS) (x1 : Int32) (x2 : Int32) (P : GS → Int32 → Prop) (hf : f_X2_workOut σ x1 x2 P) : gMet dM l yX2_workOut cX2_workOut 8 (some .int) 64 2542 0 0 r A σ [.ref r.2.1, .int x1, .int x2] (zI P) := by
  refine g_enter (lv := [(0, .ref r.2.1), (1, .int x1), (2, .int x2)]) (by decide) (Nat.le_of_ble_eq_true rfl) rfl ?_
  intro p e s m below meth c ls K hr hM hl _
  obtain ⟨hx, hb, hml, hown, hts, hlk, hKK, hA⟩ := id K
  unfold f_X2_workOut at hf
  refine lv_aload_n hx hb dX2_workOut_0 rfl (lv_at hl 0 rfl) ?_
  refine lv_iload_n hx hb dX2_workOut_1 rfl (lv_at hl 1 rfl) ?_
  refine g_putiN K kM hM 18 rfl q1471 rfl dX2_workOut_2 rfl rfl rfl (fun H locs σ1 hσ1 hM => ?_)
  have hf := hf σ1 hσ1
  refine lv_aload_n hx hb dX2_workOut_5 rfl (lv_at hl 0 rfl) ?_
  refine lv_iconst (v := 0) hx hb dX2_workOut_6 rfl ?_
  refine g_putiN K kM hM 19 rfl q1472 rfl dX2_workOut_7 rfl rfl rfl (fun H locs σ2 hσ2 hM => ?_)
  have hf := hf σ2 hσ2
  refine lv_aload_n hx hb dX2_workOut_10 rfl (lv_at hl 0 rfl) ?_
  refine lv_iload_n hx hb dX2_workOut_11 rfl (lv_at hl 2 rfl) ?_
  refine g_putiN K kM hM 20 rfl q1473 rfl dX2_workOut_12 rfl rfl rfl (fun H locs σ3 hσ3 hM => ?_)
  have hf := hf σ3 hσ3
  refine lv_aload_n hx hb dX2_workOut_15 rfl (lv_at hl 0 rfl) ?_
  refine lv_iconst (v := -1) hx hb dX2_workOut_16 rfl ?_
  refine g_putiN K kM hM 21 rfl q1474 rfl dX2_workOut_17 rfl rfl rfl (fun H locs σ4 hσ4 hM => ?_)
  have hf := hf σ4 hσ4
  refine lv_aload_n hx hb dX2_workOut_20 rfl (lv_at hl 0 rfl) ?_
  refine lv_iconst (v := 0) hx hb dX2_workOut_21 rfl ?_
  refine g_putiN K kM hM 22 rfl q1475 rfl dX2_workOut_22 rfl rfl rfl (fun H locs σ5 hσ5 hM => ?_)
  have hf := hf σ5 hσ5
  refine lv_iconst (v := 0) hx hb dX2_workOut_25 rfl ?_
  refine lv_istore_n (lv' := [(3, .int (0 : Int32)), (0, .ref r.2.1), (1, .int x1), (2, .int x2)]) hx hb dX2_workOut_26 rfl hl (by decide) rfl (fun ls hl => ?_)
  refine lv_iconst (v := 0) hx hb dX2_workOut_27 rfl ?_
  refine lv_istore (lv' := [(4, .int (0 : Int32)), (3, .int (0 : Int32)), (0, .ref r.2.1), (1, .int x1), (2, .int x2)]) hx hb dX2_workOut_28 hl (by decide) rfl (fun ls hl => ?_)
  refine lv_iconst (v := 1) hx hb dX2_workOut_30 rfl ?_
  refine lv_istore (lv' := [(5, .int (1 : Int32)), (4, .int (0 : Int32)), (3, .int (0 : Int32)), (0, .ref r.2.1), (1, .int x1), (2, .int x2)]) hx hb dX2_workOut_31 hl (by decide) rfl (fun ls hl => ?_)
  obtain ⟨n_, hf⟩ := hf
  exact w_X2_workOut_33 K hr n_ _ _ _ _ hf _ _ _ hM (lv_sub hl [3, 2, 1, 0] rfl)
theorem w_X2_want_48 {p : Program} {l : Launch} {e : Env} {s : State} {m : MethodId} {args : Array Value} {below : List Frame} {meth : Method} {c : Code} {r : GR} {A : Nat → Prop} {P : GS → Int32 → Prop} (K : gC p s m args meth c cX2_want 4 RX2 r A) (hr : meth.sig.returnType = (some .int)) : ∀ (n : Nat) (σ : GS) (x2 : Int32) (x3 : Int32), f_X2_want_48 P n σ x2 x3 → gW dM p l e (gRm 65 2569 0 0) s m args below meth c r A (zI P) 0 0 4 48 [(0, .ref r.2.1), (2, .int x2), (3, .int x3)] [] 0 0 σ := by
  obtain ⟨hx, hb, hml, hown, hts, hlk, hKK, hA⟩ := id K
  intro n
  induction n with
  | zero =>
    intro σ x2 x3 hf
    exact absurd hf (fun h => h)
  | succ n ih =>
    intro σ x2 x3 hf H locs ls hM hl
    rw [f_X2_want_48] at hf
    refine lv_iload_n hx hb dX2_want_48 rfl (lv_at hl 2 rfl) ?_
    refine lv_iload_n hx hb dX2_want_49 rfl (lv_at hl 1 rfl) ?_
    refine lv_icmp_ge (tgt := 79) hx hb dX2_want_50 (by decide) (fun b1 => ?_) (fun b1 => ?_)
    · replace hf := hf.1 b1
      refine lv_aload_n hx hb dX2_want_79 rfl (lv_at hl 0 rfl) ?_
      refine g_geta K kM hM 17 rfl q1470 rfl dX2_want_80 rfl ?_
      refine lv_aload_n hx hb dX2_want_83 rfl (lv_at hl 0 rfl) ?_
      refine g_geti K kM hM 15 rfl q1468 rfl dX2_want_84 rfl ?_
      refine lv_iload_n hx hb dX2_want_87 rfl (lv_at hl 1 rfl) ?_
      obtain ⟨g2, hf⟩ := hf
      refine g_iastN K hM 17 rfl rfl rfl g2 dX2_want_88 (fun H locs σ3 hσ3 hM => ?_)
      have hf := hf σ3 hσ3
      refine lv_aload_n hx hb dX2_want_89 rfl (lv_at hl 0 rfl) ?_
      refine lv_dup hx hb dX2_want_90 rfl ?_
      refine g_geti K kM hM 15 rfl q1468 rfl dX2_want_91 rfl ?_
      refine lv_iconst (v := 1) hx hb dX2_want_94 rfl ?_
      refine lv_iadd hx hb dX2_want_95 ?_
      refine g_putiN K kM hM 15 rfl q1468 rfl dX2_want_96 rfl rfl rfl (fun H locs σ4 hσ4 hM => ?_)
      have hf := hf σ4 hσ4
      refine lv_aload_n hx hb dX2_want_99 rfl (lv_at hl 0 rfl) ?_
      refine g_geti K kM hM 15 rfl q1468 rfl dX2_want_100 rfl ?_
      refine lv_iconst (v := 1) hx hb dX2_want_103 rfl ?_
      refine lv_isub hx hb dX2_want_104 ?_
      exact g_reti K hr hM ⟨Nat.le_refl _, Nat.le_refl _⟩ hf dX2_want_105
    · replace hf := hf.2 b1
      refine lv_aload_n hx hb dX2_want_53 rfl (lv_at hl 0 rfl) ?_
      refine g_geta K kM hM 16 rfl q1469 rfl dX2_want_54 rfl ?_
      refine lv_bipush (v := 120) hx hb dX2_want_57 rfl ?_
      refine lv_aload_n hx hb dX2_want_59 rfl (lv_at hl 0 rfl) ?_
      refine g_geti K kM hM 15 rfl q1468 rfl dX2_want_60 rfl ?_
      refine lv_imul hx hb dX2_want_63 ?_
      refine lv_iload_n hx hb dX2_want_64 rfl (lv_at hl 2 rfl) ?_
      refine lv_iadd hx hb dX2_want_65 ?_
      refine lv_aload_n hx hb dX2_want_66 rfl (lv_at hl 0 rfl) ?_
      refine g_geta K kM hM 13 rfl q1466 rfl dX2_want_67 rfl ?_
      refine lv_iload_n hx hb dX2_want_70 rfl (lv_at hl 2 rfl) ?_
      obtain ⟨g5, hf⟩ := hf
      refine g_iald K hM 13 rfl rfl rfl g5 dX2_want_71 ?_
      obtain ⟨g6, hf⟩ := hf
      refine g_iastN K hM 16 rfl rfl rfl g6 dX2_want_72 (fun H locs σ7 hσ7 hM => ?_)
      have hf := hf σ7 hσ7
      refine lv_iinc (v := x3 + 1) (lv' := [(3, .int (x3 + 1)), (0, .ref r.2.1), (2, .int x2)]) hx hb dX2_want_73 hl (k := 2) rfl rfl (by decide) rfl (fun ls hl => ?_)
      refine lv_goto (tgt := 48) hx hb dX2_want_76 (by decide) ?_
      exact ih _ _ _ hf _ _ _ hM (lv_sub hl [1, 2, 0] rfl)
theorem c_X2_want (l : Launch) (r : GR) (A : Nat → Prop) (σ : GS) (P : GS → Int32 → Prop) (hf : f_X2_want σ P) : gMet dM l yX2_want cX2_want 4 (some .int) 65 2569 0 0 r A σ [.ref r.2.1] (zI P) := by
  refine g_enter (lv := [(0, .ref r.2.1)]) (by decide) (Nat.le_of_ble_eq_true rfl) rfl ?_
  intro p e s m below meth c ls K hr hM hl _
  obtain ⟨hx, hb, hml, hown, hts, hlk, hKK, hA⟩ := id K
  unfold f_X2_want at hf
  refine lv_aload_n hx hb dX2_want_0 rfl (lv_at hl 0 rfl) ?_
  refine g_geti K kM hM 15 rfl q1468 rfl dX2_want_1 rfl ?_
  refine lv_iconst (v := 4) hx hb dX2_want_4 rfl ?_
  refine lv_icmp_ne (tgt := 11) hx hb dX2_want_5 (by decide) (fun b1 => ?_) (fun b1 => ?_)
  · replace hf := hf.2 b1
    refine lv_aload_n hx hb dX2_want_11 rfl (lv_at hl 0 rfl) ?_
    refine lv_iconst (v := -1) hx hb dX2_want_12 rfl ?_
    refine lv_aload_n hx hb dX2_want_13 rfl (lv_at hl 0 rfl) ?_
    refine g_geti K kM hM 14 rfl q1467 rfl dX2_want_14 rfl ?_
    refine g_cVi [.int (-1 : Int32), .int (gI σ 14)] [] K kM hM hl (c_X2_workOut l r A _ _ _ _ hf) q1700 q1702 qs46 q84 q1703 hdX2_workOut ⟨Nat.le_of_ble_eq_true rfl, Nat.le_of_ble_eq_true rfl⟩ ⟨Nat.le_refl _, Nat.le_refl _⟩ rfl (Nat.le_of_ble_eq_true rfl) dX2_want_17 (fun σ2 v3 H locs hf hM => ?_)
    refine lv_istore_n (lv' := [(1, .int v3), (0, .ref r.2.1)]) hx hb dX2_want_20 rfl hl (by decide) rfl (fun ls hl => ?_)
    refine lv_aload_n hx hb dX2_want_21 rfl (lv_at hl 1 rfl) ?_
    refine g_geti K kM hM 14 rfl q1467 rfl dX2_want_22 rfl ?_
    refine lv_istore_n (lv' := [(2, .int (gI σ2 14)), (1, .int v3), (0, .ref r.2.1)]) hx hb dX2_want_25 rfl hl (by decide) rfl (fun ls hl => ?_)
    refine lv_aload_n hx hb dX2_want_26 rfl (lv_at hl 2 rfl) ?_
    refine lv_iconst (v := 0) hx hb dX2_want_27 rfl ?_
    refine g_putiN K kM hM 14 rfl q1467 rfl dX2_want_28 rfl rfl rfl (fun H locs σ4 hσ4 hM => ?_)
    have hf := hf σ4 hσ4
    refine lv_aload_n hx hb dX2_want_31 rfl (lv_at hl 2 rfl) ?_
    refine g_geti K kM hM 21 rfl q1474 rfl dX2_want_32 rfl ?_
    refine lv_if_lt (tgt := 46) hx hb dX2_want_35 (by decide) (fun b5 => ?_) (fun b5 => ?_)
    · replace hf := hf.1 b5
      refine lv_iconst (v := 0) hx hb dX2_want_46 rfl ?_
      refine lv_istore_n (lv' := [(3, .int (0 : Int32)), (2, .int (gI σ2 14)), (1, .int v3), (0, .ref r.2.1)]) hx hb dX2_want_47 rfl hl (by decide) rfl (fun ls hl => ?_)
      obtain ⟨n_, hf⟩ := hf
      exact w_X2_want_48 K hr n_ _ _ _ hf _ _ _ hM (lv_sub hl [3, 1, 0] rfl)
    · replace hf := hf.2 b5
      refine lv_bipush (v := -100) hx hb dX2_want_38 rfl ?_
      refine lv_aload_n hx hb dX2_want_40 rfl (lv_at hl 2 rfl) ?_
      refine g_geti K kM hM 21 rfl q1474 rfl dX2_want_41 rfl ?_
      refine lv_isub hx hb dX2_want_44 ?_
      exact g_reti K hr hM ⟨Nat.le_refl _, Nat.le_refl _⟩ hf dX2_want_45
  · replace hf := hf.1 b1
    refine lv_bipush (v := -3) hx hb dX2_want_8 rfl ?_
    exact g_reti K hr hM ⟨Nat.le_refl _, Nat.le_refl _⟩ hf dX2_want_10
theorem c_X2_worthOf (l : Launch) (r : GR) (A : Nat → Prop) (σ : GS) (x1 : Int32) (x2 : Int32) (x3 : Int32) (P : GS → Int32 → Prop) (hf : f_X2_worthOf σ x1 x2 x3 P) : gMet dM l yX2_worthOf cX2_worthOf 5 (some .int) 65 2569 0 0 r A σ [.ref r.2.1, .int x1, .int x2, .int x3] (zI P) := by
  refine g_enter (lv := [(0, .ref r.2.1), (1, .int x1), (2, .int x2), (3, .int x3)]) (by decide) (Nat.le_of_ble_eq_true rfl) rfl ?_
  intro p e s m below meth c ls K hr hM hl _
  obtain ⟨hx, hb, hml, hown, hts, hlk, hKK, hA⟩ := id K
  unfold f_X2_worthOf at hf
  refine lv_aload_n hx hb dX2_worthOf_0 rfl (lv_at hl 0 rfl) ?_
  refine g_geta K kM hM 23 rfl q1476 rfl dX2_worthOf_1 rfl ?_
  refine lv_iconst (v := 0) hx hb dX2_worthOf_4 rfl ?_
  refine lv_iload_n hx hb dX2_worthOf_5 rfl (lv_at hl 2 rfl) ?_
  obtain ⟨g1, hf⟩ := hf
  refine g_iastN K hM 23 rfl rfl rfl g1 dX2_worthOf_6 (fun H locs σ2 hσ2 hM => ?_)
  have hf := hf σ2 hσ2
  refine lv_aload_n hx hb dX2_worthOf_7 rfl (lv_at hl 0 rfl) ?_
  refine g_geta K kM hM 23 rfl q1476 rfl dX2_worthOf_8 rfl ?_
  refine lv_iconst (v := 1) hx hb dX2_worthOf_11 rfl ?_
  refine lv_iload_n hx hb dX2_worthOf_12 rfl (lv_at hl 3 rfl) ?_
  obtain ⟨g3, hf⟩ := hf
  refine g_iastN K hM 23 rfl rfl rfl g3 dX2_worthOf_13 (fun H locs σ4 hσ4 hM => ?_)
  have hf := hf σ4 hσ4
  refine lv_aload_n hx hb dX2_worthOf_14 rfl (lv_at hl 0 rfl) ?_
  refine g_geta K kM hM 23 rfl q1476 rfl dX2_worthOf_15 rfl ?_
  refine lv_iconst (v := 2) hx hb dX2_worthOf_18 rfl ?_
  refine lv_aload_n hx hb dX2_worthOf_19 rfl (lv_at hl 0 rfl) ?_
  refine g_geta K kM hM 0 rfl q1453 rfl dX2_worthOf_20 rfl ?_
  refine lv_bipush (v := 6) hx hb dX2_worthOf_23 rfl ?_
  refine lv_iload_n hx hb dX2_worthOf_25 rfl (lv_at hl 2 rfl) ?_
  refine lv_iadd hx hb dX2_worthOf_26 ?_
  obtain ⟨g5, hf⟩ := hf
  refine g_iald K hM 0 rfl rfl rfl g5 dX2_worthOf_27 ?_
  obtain ⟨g6, hf⟩ := hf
  refine g_iastN K hM 23 rfl rfl rfl g6 dX2_worthOf_28 (fun H locs σ7 hσ7 hM => ?_)
  have hf := hf σ7 hσ7
  refine lv_aload_n hx hb dX2_worthOf_29 rfl (lv_at hl 0 rfl) ?_
  refine g_geta K kM hM 23 rfl q1476 rfl dX2_worthOf_30 rfl ?_
  refine lv_iconst (v := 3) hx hb dX2_worthOf_33 rfl ?_
  refine lv_aload_n hx hb dX2_worthOf_34 rfl (lv_at hl 0 rfl) ?_
  refine g_geta K kM hM 0 rfl q1453 rfl dX2_worthOf_35 rfl ?_
  refine lv_bipush (v := 12) hx hb dX2_worthOf_38 rfl ?_
  refine lv_iload_n hx hb dX2_worthOf_40 rfl (lv_at hl 2 rfl) ?_
  refine lv_iadd hx hb dX2_worthOf_41 ?_
  obtain ⟨g8, hf⟩ := hf
  refine g_iald K hM 0 rfl rfl rfl g8 dX2_worthOf_42 ?_
  obtain ⟨g9, hf⟩ := hf
  refine g_iastN K hM 23 rfl rfl rfl g9 dX2_worthOf_43 (fun H locs σ10 hσ10 hM => ?_)
  have hf := hf σ10 hσ10
  refine lv_aload_n hx hb dX2_worthOf_44 rfl (lv_at hl 0 rfl) ?_
  refine g_geta K kM hM 23 rfl q1476 rfl dX2_worthOf_45 rfl ?_
  refine lv_iconst (v := 4) hx hb dX2_worthOf_48 rfl ?_
  refine lv_iload_n hx hb dX2_worthOf_49 rfl (lv_at hl 1 rfl) ?_
  obtain ⟨g11, hf⟩ := hf
  refine g_iastN K hM 23 rfl rfl rfl g11 dX2_worthOf_50 (fun H locs σ12 hσ12 hM => ?_)
  have hf := hf σ12 hσ12
  refine lv_aload_n hx hb dX2_worthOf_51 rfl (lv_at hl 0 rfl) ?_
  refine g_geta K kM hM 23 rfl q1476 rfl dX2_worthOf_52 rfl ?_
  refine lv_iconst (v := 5) hx hb dX2_worthOf_55 rfl ?_
  refine lv_aload_n hx hb dX2_worthOf_56 rfl (lv_at hl 0 rfl) ?_
  refine g_geta K kM hM 10 rfl q1463 rfl dX2_worthOf_57 rfl ?_
  refine lv_iload_n hx hb dX2_worthOf_60 rfl (lv_at hl 1 rfl) ?_
  obtain ⟨g13, hf⟩ := hf
  refine g_iald K hM 10 rfl rfl rfl g13 dX2_worthOf_61 ?_
  obtain ⟨g14, hf⟩ := hf
  refine g_iastN K hM 23 rfl rfl rfl g14 dX2_worthOf_62 (fun H locs σ15 hσ15 hM => ?_)
  have hf := hf σ15 hσ15
  refine lv_aload_n hx hb dX2_worthOf_63 rfl (lv_at hl 0 rfl) ?_
  refine g_geta K kM hM 23 rfl q1476 rfl dX2_worthOf_64 rfl ?_
  refine lv_bipush (v := 6) hx hb dX2_worthOf_67 rfl ?_
  refine lv_aload_n hx hb dX2_worthOf_69 rfl (lv_at hl 0 rfl) ?_
  refine g_geti K kM hM 6 rfl q1459 rfl dX2_worthOf_70 rfl ?_
  obtain ⟨g16, hf⟩ := hf
  refine g_iastN K hM 23 rfl rfl rfl g16 dX2_worthOf_73 (fun H locs σ17 hσ17 hM => ?_)
  have hf := hf σ17 hσ17
  refine lv_aload_n hx hb dX2_worthOf_74 rfl (lv_at hl 0 rfl) ?_
  refine lv_bipush (v := 120) hx hb dX2_worthOf_75 rfl ?_
  refine lv_aload_n hx hb dX2_worthOf_77 rfl (lv_at hl 0 rfl) ?_
  refine g_geta K kM hM 11 rfl q1464 rfl dX2_worthOf_78 rfl ?_
  refine lv_iload_n hx hb dX2_worthOf_81 rfl (lv_at hl 1 rfl) ?_
  obtain ⟨g18, hf⟩ := hf
  refine g_iald K hM 11 rfl rfl rfl g18 dX2_worthOf_82 ?_
  refine lv_imul hx hb dX2_worthOf_83 ?_
  refine lv_aload_n hx hb dX2_worthOf_84 rfl (lv_at hl 0 rfl) ?_
  refine g_geta K kM hM 17 rfl q1470 rfl dX2_worthOf_85 rfl ?_
  refine lv_aload_n hx hb dX2_worthOf_88 rfl (lv_at hl 0 rfl) ?_
  refine g_geta K kM hM 11 rfl q1464 rfl dX2_worthOf_89 rfl ?_
  refine lv_iload_n hx hb dX2_worthOf_92 rfl (lv_at hl 1 rfl) ?_
  obtain ⟨g19, hf⟩ := hf
  refine g_iald K hM 11 rfl rfl rfl g19 dX2_worthOf_93 ?_
  obtain ⟨g20, hf⟩ := hf
  refine g_iald K hM 17 rfl rfl rfl g20 dX2_worthOf_94 ?_
  refine g_cVi [.int ((120 : Int32) * (gA σ17 11 x1.toNatClampNeg)), .int (gA σ17 17 (gA σ17 11 x1.toNatClampNeg).toNatClampNeg)] [] K kM hM hl (c_X2_workOut l r A _ _ _ _ hf) q1700 q1702 qs46 q84 q1703 hdX2_workOut ⟨Nat.le_of_ble_eq_true rfl, Nat.le_of_ble_eq_true rfl⟩ ⟨Nat.le_refl _, Nat.le_refl _⟩ rfl (Nat.le_of_ble_eq_true rfl) dX2_worthOf_95 (fun σ21 v22 H locs hf hM => ?_)
  refine lv_istore (lv' := [(4, .int v22), (0, .ref r.2.1), (1, .int x1), (2, .int x2), (3, .int x3)]) hx hb dX2_worthOf_98 hl (by decide) rfl (fun ls hl => ?_)
  refine lv_iload hx hb dX2_worthOf_100 (lv_at hl 0 rfl) ?_
  refine lv_if_ge (tgt := 109) hx hb dX2_worthOf_102 (by decide) (fun b23 => ?_) (fun b23 => ?_)
  · replace hf := hf.1 b23
    refine lv_iload hx hb dX2_worthOf_109 (lv_at hl 0 rfl) ?_
    refine lv_sipush (v := 999) hx hb dX2_worthOf_111 rfl ?_
    refine lv_icmp_le (tgt := 123) hx hb dX2_worthOf_114 (by decide) (fun b24 => ?_) (fun b24 => ?_)
    · replace hf := hf.1 b24
      refine lv_iload hx hb dX2_worthOf_123 (lv_at hl 0 rfl) ?_
      exact g_reti K hr hM ⟨Nat.le_refl _, Nat.le_refl _⟩ hf dX2_worthOf_125
    · replace hf := hf.2 b24
      refine lv_sipush (v := 999) hx hb dX2_worthOf_117 rfl ?_
      refine lv_goto (tgt := 125) hx hb dX2_worthOf_120 (by decide) ?_
      exact g_reti K hr hM ⟨Nat.le_refl _, Nat.le_refl _⟩ hf dX2_worthOf_125
  · replace hf := hf.2 b23
    refine lv_iconst (v := 0) hx hb dX2_worthOf_105 rfl ?_
    refine lv_goto (tgt := 125) hx hb dX2_worthOf_106 (by decide) ?_
    exact g_reti K hr hM ⟨Nat.le_refl _, Nat.le_refl _⟩ hf dX2_worthOf_125
theorem c_X2_worth (l : Launch) (r : GR) (A : Nat → Prop) (σ : GS) (x1 : Int32) (x2 : Int32) (P : GS → Int32 → Prop) (hf : f_X2_worth σ x1 x2 P) : gMet dM l yX2_worth cX2_worth 3 (some .int) 66 2593 0 0 r A σ [.ref r.2.1, .int x1, .int x2] (zI P) := by
  refine g_enter (lv := [(0, .ref r.2.1), (1, .int x1), (2, .int x2)]) (by decide) (Nat.le_of_ble_eq_true rfl) rfl ?_
  intro p e s m below meth c ls K hr hM hl _
  obtain ⟨hx, hb, hml, hown, hts, hlk, hKK, hA⟩ := id K
  unfold f_X2_worth at hf
  refine lv_aload_n hx hb dX2_worth_0 rfl (lv_at hl 0 rfl) ?_
  refine lv_iload_n hx hb dX2_worth_1 rfl (lv_at hl 1 rfl) ?_
  refine g_cVi [.int x1] [] K kM hM hl (c_X2_isSort l r A _ _ _ hf) q1674 q1676 qs43 q84 q1677 hdX2_isSort ⟨Nat.le_of_ble_eq_true rfl, Nat.le_of_ble_eq_true rfl⟩ ⟨Nat.le_refl _, Nat.le_refl _⟩ rfl (Nat.le_of_ble_eq_true rfl) dX2_worth_2 (fun σ1 v2 H locs hf hM => ?_)
  refine lv_if_eq (tgt := 54) hx hb dX2_worth_5 (by decide) (fun b3 => ?_) (fun b3 => ?_)
  · replace hf := hf.1 b3
    refine lv_iconst (v := -1) hx hb dX2_worth_54 rfl ?_
    exact g_reti K hr hM ⟨Nat.le_refl _, Nat.le_refl _⟩ hf dX2_worth_55
  · replace hf := hf.2 b3
    refine lv_iload_n hx hb dX2_worth_8 rfl (lv_at hl 2 rfl) ?_
    refine lv_if_lt (tgt := 54) hx hb dX2_worth_9 (by decide) (fun b4 => ?_) (fun b4 => ?_)
    · replace hf := hf.1 b4
      refine lv_iconst (v := -1) hx hb dX2_worth_54 rfl ?_
      exact g_reti K hr hM ⟨Nat.le_refl _, Nat.le_refl _⟩ hf dX2_worth_55
    · replace hf := hf.2 b4
      refine lv_aload_n hx hb dX2_worth_12 rfl (lv_at hl 0 rfl) ?_
      refine lv_iload_n hx hb dX2_worth_13 rfl (lv_at hl 2 rfl) ?_
      refine lv_bipush (v := 10) hx hb dX2_worth_14 rfl ?_
      refine lv_idiv hx hb dX2_worth_16 (by decide) ?_
      refine g_cVi [.int (x2 / (10 : Int32))] [] K kM hM hl (c_X2_isThing l r A _ _ _ hf) q1657 q1659 qs41 q84 q1660 hdX2_isThing ⟨Nat.le_of_ble_eq_true rfl, Nat.le_of_ble_eq_true rfl⟩ ⟨Nat.le_refl _, Nat.le_refl _⟩ rfl (Nat.le_of_ble_eq_true rfl) dX2_worth_17 (fun σ5 v6 H locs hf hM => ?_)
      refine lv_if_eq (tgt := 54) hx hb dX2_worth_20 (by decide) (fun b7 => ?_) (fun b7 => ?_)
      · replace hf := hf.1 b7
        refine lv_iconst (v := -1) hx hb dX2_worth_54 rfl ?_
        exact g_reti K hr hM ⟨Nat.le_refl _, Nat.le_refl _⟩ hf dX2_worth_55
      · replace hf := hf.2 b7
        refine lv_iload_n hx hb dX2_worth_23 rfl (lv_at hl 2 rfl) ?_
        refine lv_bipush (v := 10) hx hb dX2_worth_24 rfl ?_
        refine lv_irem hx hb dX2_worth_26 (by decide) ?_
        refine lv_i2l hx hb dX2_worth_27 rfl ?_
        refine lv_lconst (v := 1) hx hb dX2_worth_28 rfl ?_
        refine lv_ldc2 hx hb hown (hts _ q1682) dX2_worth_29 ?_
        refine g_cSi [.long ((x2 - x2 / (10 : Int32) * (10 : Int32)).toInt64), .long (1 : Int64), .long (3 : Int64)] [] K hM hl (c_X2_within l r A _ _ _ _ _ hf) q1632 q1633 q84 q1634 hdX2_within ⟨Nat.le_of_ble_eq_true rfl, Nat.le_of_ble_eq_true rfl⟩ ⟨Nat.le_refl _, Nat.le_refl _⟩ rfl (Nat.le_of_ble_eq_true rfl) dX2_worth_32 (fun σ8 v9 H locs hf hM => ?_)
        refine lv_if_eq (tgt := 54) hx hb dX2_worth_35 (by decide) (fun b10 => ?_) (fun b10 => ?_)
        · replace hf := hf.1 b10
          refine lv_iconst (v := -1) hx hb dX2_worth_54 rfl ?_
          exact g_reti K hr hM ⟨Nat.le_refl _, Nat.le_refl _⟩ hf dX2_worth_55
        · replace hf := hf.2 b10
          refine lv_aload_n hx hb dX2_worth_38 rfl (lv_at hl 0 rfl) ?_
          refine lv_iload_n hx hb dX2_worth_39 rfl (lv_at hl 1 rfl) ?_
          refine lv_iload_n hx hb dX2_worth_40 rfl (lv_at hl 2 rfl) ?_
          refine lv_bipush (v := 10) hx hb dX2_worth_41 rfl ?_
          refine lv_idiv hx hb dX2_worth_43 (by decide) ?_
          refine lv_iload_n hx hb dX2_worth_44 rfl (lv_at hl 2 rfl) ?_
          refine lv_bipush (v := 10) hx hb dX2_worth_45 rfl ?_
          refine lv_irem hx hb dX2_worth_47 (by decide) ?_
          refine g_cVi [.int x1, .int (x2 / (10 : Int32)), .int (x2 - x2 / (10 : Int32) * (10 : Int32))] [] K kM hM hl (c_X2_worthOf l r A _ _ _ _ _ hf) q1747 q1749 qs56 q84 q1750 hdX2_worthOf ⟨Nat.le_of_ble_eq_true rfl, Nat.le_of_ble_eq_true rfl⟩ ⟨Nat.le_refl _, Nat.le_refl _⟩ rfl (Nat.le_of_ble_eq_true rfl) dX2_worth_48 (fun σ11 v12 H locs hf hM => ?_)
          refine lv_goto (tgt := 55) hx hb dX2_worth_51 (by decide) ?_
          exact g_reti K hr hM ⟨Nat.le_refl _, Nat.le_refl _⟩ hf dX2_worth_55
theorem c_X2_baskets (l : Launch) (r : GR) (A : Nat → Prop) (σ : GS) (P : GS → Int32 → Prop) (hf : f_X2_baskets σ P) : gMet dM l yX2_baskets cX2_baskets 1 (some .int) 0 0 0 0 r A σ [.ref r.2.1] (zI P) := by
  refine g_enter (lv := [(0, .ref r.2.1)]) (by decide) (Nat.le_of_ble_eq_true rfl) rfl ?_
  intro p e s m below meth c ls K hr hM hl _
  obtain ⟨hx, hb, hml, hown, hts, hlk, hKK, hA⟩ := id K
  unfold f_X2_baskets at hf
  refine lv_iconst (v := 1) hx hb dX2_baskets_0 rfl ?_
  refine lv_iconst (v := 2) hx hb dX2_baskets_1 rfl ?_
  refine lv_aload_n hx hb dX2_baskets_2 rfl (lv_at hl 0 rfl) ?_
  refine g_geti K kM hM 6 rfl q1459 rfl dX2_baskets_3 rfl ?_
  refine lv_imul hx hb dX2_baskets_6 ?_
  refine lv_ishl hx hb dX2_baskets_7 ?_
  exact g_reti K hr hM ⟨Nat.le_refl _, Nat.le_refl _⟩ hf dX2_baskets_8
theorem w_X2_layWorths_21 {p : Program} {l : Launch} {e : Env} {s : State} {m : MethodId} {args : Array Value} {below : List Frame} {meth : Method} {c : Code} {r : GR} {A : Nat → Prop} {P : GS → Prop} {k2 : GS → Int32 → Int32 → Prop} (K : gC p s m args meth c cX2_layWorths 4 RX2 r A) (hr : meth.sig.returnType = none) (H2 : ∀ (σ : GS) (x1 : Int32) (x2 : Int32), k2 σ x1 x2 → gW dM p l e (gRm 66 2593 0 0) s m args below meth c r A (zV P) 0 0 4 2 [(0, .ref r.2.1), (1, .int x1), (2, .int x2)] [] 0 0 σ) : ∀ (n : Nat) (σ : GS) (x1 : Int32) (x2 : Int32) (x3 : Int32), f_X2_layWorths_21 k2 P n σ x1 x2 x3 → gW dM p l e (gRm 66 2593 0 0) s m args below meth c r A (zV P) 0 0 4 21 [(0, .ref r.2.1), (1, .int x1), (2, .int x2), (3, .int x3)] [] 0 0 σ := by
  obtain ⟨hx, hb, hml, hown, hts, hlk, hKK, hA⟩ := id K
  intro n
  induction n with
  | zero =>
    intro σ x1 x2 x3 hf
    exact absurd hf (fun h => h)
  | succ n ih =>
    intro σ x1 x2 x3 hf H locs ls hM hl
    rw [f_X2_layWorths_21] at hf
    refine lv_iload_n hx hb dX2_layWorths_21 rfl (lv_at hl 3 rfl) ?_
    refine lv_iconst (v := 3) hx hb dX2_layWorths_22 rfl ?_
    refine lv_icmp_gt (tgt := 62) hx hb dX2_layWorths_23 (by decide) (fun b1 => ?_) (fun b1 => ?_)
    · replace hf := hf.1 b1
      refine lv_iinc (v := x2 + 1) (lv' := [(2, .int (x2 + 1)), (0, .ref r.2.1), (1, .int x1), (3, .int x3)]) hx hb dX2_layWorths_62 hl (k := 2) rfl rfl (by decide) rfl (fun ls hl => ?_)
      refine lv_goto (tgt := 2) hx hb dX2_layWorths_65 (by decide) ?_
      exact H2 _ _ _ hf _ _ _ hM (lv_sub hl [1, 2, 0] rfl)
    · replace hf := hf.2 b1
      refine lv_aload_n hx hb dX2_layWorths_26 rfl (lv_at hl 0 rfl) ?_
      refine g_geta K kM hM 24 rfl q1477 rfl dX2_layWorths_27 rfl ?_
      refine lv_iconst (v := 4) hx hb dX2_layWorths_30 rfl ?_
      refine lv_iload_n hx hb dX2_layWorths_31 rfl (lv_at hl 2 rfl) ?_
      refine lv_imul hx hb dX2_layWorths_32 ?_
      refine lv_iload_n hx hb dX2_layWorths_33 rfl (lv_at hl 3 rfl) ?_
      refine lv_iadd hx hb dX2_layWorths_34 ?_
      refine lv_aload_n hx hb dX2_layWorths_35 rfl (lv_at hl 0 rfl) ?_
      refine g_geta K kM hM 24 rfl q1477 rfl dX2_layWorths_36 rfl ?_
      refine lv_iconst (v := 4) hx hb dX2_layWorths_39 rfl ?_
      refine lv_iload_n hx hb dX2_layWorths_40 rfl (lv_at hl 2 rfl) ?_
      refine lv_imul hx hb dX2_layWorths_41 ?_
      refine lv_iload_n hx hb dX2_layWorths_42 rfl (lv_at hl 3 rfl) ?_
      refine lv_iadd hx hb dX2_layWorths_43 ?_
      refine lv_iconst (v := 1) hx hb dX2_layWorths_44 rfl ?_
      refine lv_isub hx hb dX2_layWorths_45 ?_
      obtain ⟨g2, hf⟩ := hf
      refine g_iald K hM 24 rfl rfl rfl g2 dX2_layWorths_46 ?_
      refine lv_aload_n hx hb dX2_layWorths_47 rfl (lv_at hl 0 rfl) ?_
      refine lv_iload_n hx hb dX2_layWorths_48 rfl (lv_at hl 1 rfl) ?_
      refine lv_iload_n hx hb dX2_layWorths_49 rfl (lv_at hl 2 rfl) ?_
      refine lv_iload_n hx hb dX2_layWorths_50 rfl (lv_at hl 3 rfl) ?_
      refine g_cVi [.int x1, .int x2, .int x3] [.int (gA σ 24 ((((4 : Int32) * x2) + x3) - (1 : Int32)).toNatClampNeg), .int (((4 : Int32) * x2) + x3), .ref (r.2.2.1 24)] K kM hM hl (c_X2_worthOf l r A _ _ _ _ _ hf) q1747 q1749 qs56 q84 q1750 hdX2_worthOf ⟨Nat.le_of_ble_eq_true rfl, Nat.le_of_ble_eq_true rfl⟩ ⟨Nat.le_refl _, Nat.le_refl _⟩ rfl (Nat.le_of_ble_eq_true rfl) dX2_layWorths_51 (fun σ3 v4 H locs hf hM => ?_)
      refine lv_iadd hx hb dX2_layWorths_54 ?_
      obtain ⟨g5, hf⟩ := hf
      refine g_iastN K hM 24 rfl rfl rfl g5 dX2_layWorths_55 (fun H locs σ6 hσ6 hM => ?_)
      have hf := hf σ6 hσ6
      refine lv_iinc (v := x3 + 1) (lv' := [(3, .int (x3 + 1)), (0, .ref r.2.1), (1, .int x1), (2, .int x2)]) hx hb dX2_layWorths_56 hl (k := 3) rfl rfl (by decide) rfl (fun ls hl => ?_)
      refine lv_goto (tgt := 21) hx hb dX2_layWorths_59 (by decide) ?_
      exact ih _ _ _ _ hf _ _ _ hM (lv_sub hl [1, 2, 3, 0] rfl)
theorem w_X2_layWorths_2 {p : Program} {l : Launch} {e : Env} {s : State} {m : MethodId} {args : Array Value} {below : List Frame} {meth : Method} {c : Code} {r : GR} {A : Nat → Prop} {P : GS → Prop} (K : gC p s m args meth c cX2_layWorths 4 RX2 r A) (hr : meth.sig.returnType = none) : ∀ (n : Nat) (σ : GS) (x1 : Int32) (x2 : Int32), f_X2_layWorths_2 P n σ x1 x2 → gW dM p l e (gRm 66 2593 0 0) s m args below meth c r A (zV P) 0 0 4 2 [(0, .ref r.2.1), (1, .int x1), (2, .int x2)] [] 0 0 σ := by
  obtain ⟨hx, hb, hml, hown, hts, hlk, hKK, hA⟩ := id K
  intro n
  induction n with
  | zero =>
    intro σ x1 x2 hf
    exact absurd hf (fun h => h)
  | succ n ih =>
    intro σ x1 x2 hf H locs ls hM hl
    rw [f_X2_layWorths_2] at hf
    refine lv_iload_n hx hb dX2_layWorths_2 rfl (lv_at hl 2 rfl) ?_
    refine lv_aload_n hx hb dX2_layWorths_3 rfl (lv_at hl 0 rfl) ?_
    refine g_geti K kM hM 6 rfl q1459 rfl dX2_layWorths_4 rfl ?_
    refine lv_icmp_ge (tgt := 68) hx hb dX2_layWorths_7 (by decide) (fun b1 => ?_) (fun b1 => ?_)
    · replace hf := hf.1 b1
      exact g_retv K hr hM ⟨Nat.le_refl _, Nat.le_refl _⟩ hf dX2_layWorths_68
    · replace hf := hf.2 b1
      refine lv_aload_n hx hb dX2_layWorths_10 rfl (lv_at hl 0 rfl) ?_
      refine g_geta K kM hM 24 rfl q1477 rfl dX2_layWorths_11 rfl ?_
      refine lv_iconst (v := 4) hx hb dX2_layWorths_14 rfl ?_
      refine lv_iload_n hx hb dX2_layWorths_15 rfl (lv_at hl 2 rfl) ?_
      refine lv_imul hx hb dX2_layWorths_16 ?_
      refine lv_iconst (v := 0) hx hb dX2_layWorths_17 rfl ?_
      obtain ⟨g2, hf⟩ := hf
      refine g_iastN K hM 24 rfl rfl rfl g2 dX2_layWorths_18 (fun H locs σ3 hσ3 hM => ?_)
      have hf := hf σ3 hσ3
      refine lv_iconst (v := 1) hx hb dX2_layWorths_19 rfl ?_
      refine lv_istore_n (lv' := [(3, .int (1 : Int32)), (0, .ref r.2.1), (1, .int x1), (2, .int x2)]) hx hb dX2_layWorths_20 rfl hl (by decide) rfl (fun ls hl => ?_)
      obtain ⟨n_, hf⟩ := hf
      exact w_X2_layWorths_21 K hr ih n_ _ _ _ _ hf _ _ _ hM (lv_sub hl [1, 2, 3, 0] rfl)
theorem c_X2_layWorths (l : Launch) (r : GR) (A : Nat → Prop) (σ : GS) (x1 : Int32) (P : GS → Prop) (hf : f_X2_layWorths σ x1 P) : gMet dM l yX2_layWorths cX2_layWorths 4 none 66 2593 0 0 r A σ [.ref r.2.1, .int x1] (zV P) := by
  refine g_enter (lv := [(0, .ref r.2.1), (1, .int x1)]) (by decide) (Nat.le_of_ble_eq_true rfl) rfl ?_
  intro p e s m below meth c ls K hr hM hl _
  obtain ⟨hx, hb, hml, hown, hts, hlk, hKK, hA⟩ := id K
  unfold f_X2_layWorths at hf
  refine lv_iconst (v := 0) hx hb dX2_layWorths_0 rfl ?_
  refine lv_istore_n (lv' := [(2, .int (0 : Int32)), (0, .ref r.2.1), (1, .int x1)]) hx hb dX2_layWorths_1 rfl hl (by decide) rfl (fun ls hl => ?_)
  obtain ⟨n_, hf⟩ := hf
  exact w_X2_layWorths_2 K hr n_ _ _ _ hf _ _ _ hM (lv_sub hl [1, 2, 0] rfl)
theorem w_X2_unpack_17 {p : Program} {l : Launch} {e : Env} {s : State} {m : MethodId} {args : Array Value} {below : List Frame} {meth : Method} {c : Code} {r : GR} {A : Nat → Prop} {P : GS → Prop} (K : gC p s m args meth c cX2_unpack 4 RX2 r A) (hr : meth.sig.returnType = none) : ∀ (n : Nat) (σ : GS) (x1 : Int32) (x2 : Int32), f_X2_unpack_17 P n σ x1 x2 → gW dM p l e (gRm 0 0 0 0) s m args below meth c r A (zV P) 0 0 4 17 [(0, .ref r.2.1), (1, .int x1), (2, .int x2)] [] 0 0 σ := by
  obtain ⟨hx, hb, hml, hown, hts, hlk, hKK, hA⟩ := id K
  intro n
  induction n with
  | zero =>
    intro σ x1 x2 hf
    exact absurd hf (fun h => h)
  | succ n ih =>
    intro σ x1 x2 hf H locs ls hM hl
    rw [f_X2_unpack_17] at hf
    refine lv_iload_n hx hb dX2_unpack_17 rfl (lv_at hl 2 rfl) ?_
    refine lv_aload_n hx hb dX2_unpack_18 rfl (lv_at hl 0 rfl) ?_
    refine g_geti K kM hM 6 rfl q1459 rfl dX2_unpack_19 rfl ?_
    refine lv_icmp_ge (tgt := 120) hx hb dX2_unpack_22 (by decide) (fun b1 => ?_) (fun b1 => ?_)
    · replace hf := hf.1 b1
      exact g_retv K hr hM ⟨Nat.le_refl _, Nat.le_refl _⟩ hf dX2_unpack_120
    · replace hf := hf.2 b1
      refine lv_iload_n hx hb dX2_unpack_25 rfl (lv_at hl 1 rfl) ?_
      refine lv_iconst (v := 2) hx hb dX2_unpack_26 rfl ?_
      refine lv_aload_n hx hb dX2_unpack_27 rfl (lv_at hl 0 rfl) ?_
      refine g_geti K kM hM 6 rfl q1459 rfl dX2_unpack_28 rfl ?_
      refine lv_iconst (v := 1) hx hb dX2_unpack_31 rfl ?_
      refine lv_isub hx hb dX2_unpack_32 ?_
      refine lv_iload_n hx hb dX2_unpack_33 rfl (lv_at hl 2 rfl) ?_
      refine lv_isub hx hb dX2_unpack_34 ?_
      refine lv_imul hx hb dX2_unpack_35 ?_
      refine lv_ishr hx hb dX2_unpack_36 ?_
      refine lv_iconst (v := 3) hx hb dX2_unpack_37 rfl ?_
      refine lv_iand hx hb dX2_unpack_38 ?_
      refine lv_topi (fun z2 hz2 => ?_)
      have hf := hf z2 hz2
      refine lv_istore_n (lv' := [(3, .int z2), (0, .ref r.2.1), (1, .int x1), (2, .int x2)]) hx hb dX2_unpack_39 rfl hl (by decide) rfl (fun ls hl => ?_)
      refine lv_aload_n hx hb dX2_unpack_40 rfl (lv_at hl 1 rfl) ?_
      refine g_geta K kM hM 25 rfl q1478 rfl dX2_unpack_41 rfl ?_
      refine lv_iload_n hx hb dX2_unpack_44 rfl (lv_at hl 3 rfl) ?_
      refine lv_iload_n hx hb dX2_unpack_45 rfl (lv_at hl 0 rfl) ?_
      obtain ⟨g3, hf⟩ := hf
      refine g_iastN K hM 25 rfl rfl rfl g3 dX2_unpack_46 (fun H locs σ4 hσ4 hM => ?_)
      have hf := hf σ4 hσ4
      refine lv_aload_n hx hb dX2_unpack_47 rfl (lv_at hl 1 rfl) ?_
      refine lv_dup hx hb dX2_unpack_48 rfl ?_
      refine g_geti K kM hM 26 rfl q1479 rfl dX2_unpack_49 rfl ?_
      refine lv_aload_n hx hb dX2_unpack_52 rfl (lv_at hl 1 rfl) ?_
      refine g_geta K kM hM 24 rfl q1477 rfl dX2_unpack_53 rfl ?_
      refine lv_iconst (v := 4) hx hb dX2_unpack_56 rfl ?_
      refine lv_iload_n hx hb dX2_unpack_57 rfl (lv_at hl 3 rfl) ?_
      refine lv_imul hx hb dX2_unpack_58 ?_
      refine lv_iload_n hx hb dX2_unpack_59 rfl (lv_at hl 0 rfl) ?_
      refine lv_iadd hx hb dX2_unpack_60 ?_
      obtain ⟨g5, hf⟩ := hf
      refine g_iald K hM 24 rfl rfl rfl g5 dX2_unpack_61 ?_
      refine lv_iadd hx hb dX2_unpack_62 ?_
      refine g_putiN K kM hM 26 rfl q1479 rfl dX2_unpack_63 rfl rfl rfl (fun H locs σ6 hσ6 hM => ?_)
      have hf := hf σ6 hσ6
      refine lv_aload_n hx hb dX2_unpack_66 rfl (lv_at hl 1 rfl) ?_
      refine lv_dup hx hb dX2_unpack_67 rfl ?_
      refine g_geti K kM hM 27 rfl q1480 rfl dX2_unpack_68 rfl ?_
      refine lv_iload_n hx hb dX2_unpack_71 rfl (lv_at hl 0 rfl) ?_
      refine lv_aload_n hx hb dX2_unpack_72 rfl (lv_at hl 1 rfl) ?_
      refine g_geta K kM hM 0 rfl q1453 rfl dX2_unpack_73 rfl ?_
      refine lv_bipush (v := 6) hx hb dX2_unpack_76 rfl ?_
      refine lv_iload_n hx hb dX2_unpack_78 rfl (lv_at hl 3 rfl) ?_
      refine lv_iadd hx hb dX2_unpack_79 ?_
      obtain ⟨g7, hf⟩ := hf
      refine g_iald K hM 0 rfl rfl rfl g7 dX2_unpack_80 ?_
      refine lv_aload_n hx hb dX2_unpack_81 rfl (lv_at hl 1 rfl) ?_
      refine g_geti K kM hM 29 rfl q1482 rfl dX2_unpack_82 rfl ?_
      refine lv_imul hx hb dX2_unpack_85 ?_
      refine lv_bipush (v := 100) hx hb dX2_unpack_86 rfl ?_
      refine lv_idiv hx hb dX2_unpack_88 (by decide) ?_
      refine lv_imul hx hb dX2_unpack_89 ?_
      refine lv_iadd hx hb dX2_unpack_90 ?_
      refine g_putiN K kM hM 27 rfl q1480 rfl dX2_unpack_91 rfl rfl rfl (fun H locs σ8 hσ8 hM => ?_)
      have hf := hf σ8 hσ8
      refine lv_aload_n hx hb dX2_unpack_94 rfl (lv_at hl 1 rfl) ?_
      refine lv_dup hx hb dX2_unpack_95 rfl ?_
      refine g_geti K kM hM 28 rfl q1481 rfl dX2_unpack_96 rfl ?_
      refine lv_iload_n hx hb dX2_unpack_99 rfl (lv_at hl 0 rfl) ?_
      refine lv_aload_n hx hb dX2_unpack_100 rfl (lv_at hl 1 rfl) ?_
      refine g_geta K kM hM 0 rfl q1453 rfl dX2_unpack_101 rfl ?_
      refine lv_bipush (v := 12) hx hb dX2_unpack_104 rfl ?_
      refine lv_iload_n hx hb dX2_unpack_106 rfl (lv_at hl 3 rfl) ?_
      refine lv_iadd hx hb dX2_unpack_107 ?_
      obtain ⟨g9, hf⟩ := hf
      refine g_iald K hM 0 rfl rfl rfl g9 dX2_unpack_108 ?_
      refine lv_imul hx hb dX2_unpack_109 ?_
      refine lv_iadd hx hb dX2_unpack_110 ?_
      refine g_putiN K kM hM 28 rfl q1481 rfl dX2_unpack_111 rfl rfl rfl (fun H locs σ10 hσ10 hM => ?_)
      have hf := hf σ10 hσ10
      refine lv_iinc (v := x2 + 1) (lv' := [(2, .int (x2 + 1)), (3, .int z2), (0, .ref r.2.1), (1, .int x1)]) hx hb dX2_unpack_114 hl (k := 3) rfl rfl (by decide) rfl (fun ls hl => ?_)
      refine lv_goto (tgt := 17) hx hb dX2_unpack_117 (by decide) ?_
      exact ih _ _ _ hf _ _ _ hM (lv_sub hl [2, 3, 0] rfl)
theorem c_X2_unpack (l : Launch) (r : GR) (A : Nat → Prop) (σ : GS) (x1 : Int32) (P : GS → Prop) (hf : f_X2_unpack σ x1 P) : gMet dM l yX2_unpack cX2_unpack 4 none 0 0 0 0 r A σ [.ref r.2.1, .int x1] (zV P) := by
  refine g_enter (lv := [(0, .ref r.2.1), (1, .int x1)]) (by decide) (Nat.le_of_ble_eq_true rfl) rfl ?_
  intro p e s m below meth c ls K hr hM hl _
  obtain ⟨hx, hb, hml, hown, hts, hlk, hKK, hA⟩ := id K
  unfold f_X2_unpack at hf
  refine lv_aload_n hx hb dX2_unpack_0 rfl (lv_at hl 0 rfl) ?_
  refine lv_iconst (v := 0) hx hb dX2_unpack_1 rfl ?_
  refine g_putiN K kM hM 26 rfl q1479 rfl dX2_unpack_2 rfl rfl rfl (fun H locs σ1 hσ1 hM => ?_)
  have hf := hf σ1 hσ1
  refine lv_aload_n hx hb dX2_unpack_5 rfl (lv_at hl 0 rfl) ?_
  refine lv_iconst (v := 0) hx hb dX2_unpack_6 rfl ?_
  refine g_putiN K kM hM 27 rfl q1480 rfl dX2_unpack_7 rfl rfl rfl (fun H locs σ2 hσ2 hM => ?_)
  have hf := hf σ2 hσ2
  refine lv_aload_n hx hb dX2_unpack_10 rfl (lv_at hl 0 rfl) ?_
  refine lv_iconst (v := 0) hx hb dX2_unpack_11 rfl ?_
  refine g_putiN K kM hM 28 rfl q1481 rfl dX2_unpack_12 rfl rfl rfl (fun H locs σ3 hσ3 hM => ?_)
  have hf := hf σ3 hσ3
  refine lv_iconst (v := 0) hx hb dX2_unpack_15 rfl ?_
  refine lv_istore_n (lv' := [(2, .int (0 : Int32)), (0, .ref r.2.1), (1, .int x1)]) hx hb dX2_unpack_16 rfl hl (by decide) rfl (fun ls hl => ?_)
  obtain ⟨n_, hf⟩ := hf
  exact w_X2_unpack_17 K hr n_ _ _ _ hf _ _ _ hM (lv_sub hl [1, 2, 0] rfl)
theorem w_X2_findBest_145 {p : Program} {l : Launch} {e : Env} {s : State} {m : MethodId} {args : Array Value} {below : List Frame} {meth : Method} {c : Code} {r : GR} {A : Nat → Prop} {P : GS → Int32 → Prop} {k11 : GS → Int32 → Int32 → Int32 → Int32 → Prop} (K : gC p s m args meth c cX2_findBest 7 RX2 r A) (hr : meth.sig.returnType = (some .int)) (H11 : ∀ (σ : GS) (x2 : Int32) (x3 : Int32) (x4 : Int32) (x5 : Int32), k11 σ x2 x3 x4 x5 → gW dM p l e (gRm 67 2616 0 0) s m args below meth c r A (zI P) 0 0 7 11 [(0, .ref r.2.1), (2, .int x2), (3, .int x3), (4, .int x4), (5, .int x5)] [] 0 0 σ) : ∀ (σ : GS) (x2 : Int32) (x3 : Int32) (x4 : Int32) (x5 : Int32), f_X2_findBest_145 k11 P σ x2 x3 x4 x5 → gW dM p l e (gRm 67 2616 0 0) s m args below meth c r A (zI P) 0 0 7 145 [(0, .ref r.2.1), (2, .int x2), (3, .int x3), (4, .int x4), (5, .int x5)] [] 0 0 σ := by
  obtain ⟨hx, hb, hml, hown, hts, hlk, hKK, hA⟩ := id K
  intro σ x2 x3 x4 x5 hf H locs ls hM hl
  unfold f_X2_findBest_145 at hf
  refine lv_iinc (v := x5 + 1) (lv' := [(5, .int (x5 + 1)), (0, .ref r.2.1), (2, .int x2), (3, .int x3), (4, .int x4)]) hx hb dX2_findBest_145 hl (k := 4) rfl rfl (by decide) rfl (fun ls hl => ?_)
  refine lv_goto (tgt := 11) hx hb dX2_findBest_148 (by decide) ?_
  exact H11 _ _ _ _ _ hf _ _ _ hM (lv_sub hl [1, 2, 3, 4, 0] rfl)
theorem w_X2_findBest_110 {p : Program} {l : Launch} {e : Env} {s : State} {m : MethodId} {args : Array Value} {below : List Frame} {meth : Method} {c : Code} {r : GR} {A : Nat → Prop} {P : GS → Int32 → Prop} {k11 : GS → Int32 → Int32 → Int32 → Int32 → Prop} (K : gC p s m args meth c cX2_findBest 7 RX2 r A) (hr : meth.sig.returnType = (some .int)) (H11 : ∀ (σ : GS) (x2 : Int32) (x3 : Int32) (x4 : Int32) (x5 : Int32), k11 σ x2 x3 x4 x5 → gW dM p l e (gRm 67 2616 0 0) s m args below meth c r A (zI P) 0 0 7 11 [(0, .ref r.2.1), (2, .int x2), (3, .int x3), (4, .int x4), (5, .int x5)] [] 0 0 σ) : ∀ (σ : GS) (x2 : Int32) (x3 : Int32) (x4 : Int32) (x5 : Int32) (t0 : Int32), f_X2_findBest_110 k11 P σ x2 x3 x4 x5 t0 → gW dM p l e (gRm 67 2616 0 0) s m args below meth c r A (zI P) 0 0 7 110 [(0, .ref r.2.1), (2, .int x2), (3, .int x3), (4, .int x4), (5, .int x5)] [.int t0] 0 0 σ := by
  obtain ⟨hx, hb, hml, hown, hts, hlk, hKK, hA⟩ := id K
  intro σ x2 x3 x4 x5 t0 hf H locs ls hM hl
  unfold f_X2_findBest_110 at hf
  refine lv_istore (lv' := [(6, .int t0), (0, .ref r.2.1), (2, .int x2), (3, .int x3), (4, .int x4), (5, .int x5)]) hx hb dX2_findBest_110 hl (by decide) rfl (fun ls hl => ?_)
  refine lv_iload hx hb dX2_findBest_112 (lv_at hl 0 rfl) ?_
  refine lv_if_eq (tgt := 145) hx hb dX2_findBest_114 (by decide) (fun b1 => ?_) (fun b1 => ?_)
  · replace hf := hf.1 b1
    exact w_X2_findBest_145 K hr H11 _ _ _ _ _ hf _ _ _ hM (lv_sub hl [1, 2, 3, 4, 5] rfl)
  · replace hf := hf.2 b1
    refine lv_iload hx hb dX2_findBest_117 (lv_at hl 5 rfl) ?_
    refine lv_istore (lv' := [(4, .int x5), (6, .int t0), (0, .ref r.2.1), (2, .int x2), (3, .int x3), (5, .int x5)]) hx hb dX2_findBest_119 hl (by decide) rfl (fun ls hl => ?_)
    refine lv_aload_n hx hb dX2_findBest_121 rfl (lv_at hl 2 rfl) ?_
    refine lv_aload_n hx hb dX2_findBest_122 rfl (lv_at hl 2 rfl) ?_
    refine g_geti K kM hM 26 rfl q1479 rfl dX2_findBest_123 rfl ?_
    refine g_putiN K kM hM 30 rfl q1483 rfl dX2_findBest_126 rfl rfl rfl (fun H locs σ2 hσ2 hM => ?_)
    have hf := hf σ2 hσ2
    refine lv_aload_n hx hb dX2_findBest_129 rfl (lv_at hl 2 rfl) ?_
    refine lv_aload_n hx hb dX2_findBest_130 rfl (lv_at hl 2 rfl) ?_
    refine g_geti K kM hM 27 rfl q1480 rfl dX2_findBest_131 rfl ?_
    refine g_putiN K kM hM 31 rfl q1484 rfl dX2_findBest_134 rfl rfl rfl (fun H locs σ3 hσ3 hM => ?_)
    have hf := hf σ3 hσ3
    refine lv_aload_n hx hb dX2_findBest_137 rfl (lv_at hl 2 rfl) ?_
    refine lv_aload_n hx hb dX2_findBest_138 rfl (lv_at hl 2 rfl) ?_
    refine g_geti K kM hM 28 rfl q1481 rfl dX2_findBest_139 rfl ?_
    refine g_putiN K kM hM 32 rfl q1485 rfl dX2_findBest_142 rfl rfl rfl (fun H locs σ4 hσ4 hM => ?_)
    have hf := hf σ4 hσ4
    exact w_X2_findBest_145 K hr H11 _ _ _ _ _ hf _ _ _ hM (lv_sub hl [2, 3, 4, 0, 5] rfl)
theorem w_X2_findBest_109 {p : Program} {l : Launch} {e : Env} {s : State} {m : MethodId} {args : Array Value} {below : List Frame} {meth : Method} {c : Code} {r : GR} {A : Nat → Prop} {P : GS → Int32 → Prop} {k11 : GS → Int32 → Int32 → Int32 → Int32 → Prop} (K : gC p s m args meth c cX2_findBest 7 RX2 r A) (hr : meth.sig.returnType = (some .int)) (H11 : ∀ (σ : GS) (x2 : Int32) (x3 : Int32) (x4 : Int32) (x5 : Int32), k11 σ x2 x3 x4 x5 → gW dM p l e (gRm 67 2616 0 0) s m args below meth c r A (zI P) 0 0 7 11 [(0, .ref r.2.1), (2, .int x2), (3, .int x3), (4, .int x4), (5, .int x5)] [] 0 0 σ) : ∀ (σ : GS) (x2 : Int32) (x3 : Int32) (x4 : Int32) (x5 : Int32), f_X2_findBest_109 k11 P σ x2 x3 x4 x5 → gW dM p l e (gRm 67 2616 0 0) s m args below meth c r A (zI P) 0 0 7 109 [(0, .ref r.2.1), (2, .int x2), (3, .int x3), (4, .int x4), (5, .int x5)] [] 0 0 σ := by
  obtain ⟨hx, hb, hml, hown, hts, hlk, hKK, hA⟩ := id K
  intro σ x2 x3 x4 x5 hf H locs ls hM hl
  unfold f_X2_findBest_109 at hf
  refine lv_iconst (v := 0) hx hb dX2_findBest_109 rfl ?_
  exact w_X2_findBest_110 K hr H11 _ _ _ _ _ _ hf _ _ _ hM (lv_sub hl [0, 1, 2, 3, 4] rfl)
theorem w_X2_findBest_105 {p : Program} {l : Launch} {e : Env} {s : State} {m : MethodId} {args : Array Value} {below : List Frame} {meth : Method} {c : Code} {r : GR} {A : Nat → Prop} {P : GS → Int32 → Prop} {k11 : GS → Int32 → Int32 → Int32 → Int32 → Prop} (K : gC p s m args meth c cX2_findBest 7 RX2 r A) (hr : meth.sig.returnType = (some .int)) (H11 : ∀ (σ : GS) (x2 : Int32) (x3 : Int32) (x4 : Int32) (x5 : Int32), k11 σ x2 x3 x4 x5 → gW dM p l e (gRm 67 2616 0 0) s m args below meth c r A (zI P) 0 0 7 11 [(0, .ref r.2.1), (2, .int x2), (3, .int x3), (4, .int x4), (5, .int x5)] [] 0 0 σ) : ∀ (σ : GS) (x2 : Int32) (x3 : Int32) (x4 : Int32) (x5 : Int32), f_X2_findBest_105 k11 P σ x2 x3 x4 x5 → gW dM p l e (gRm 67 2616 0 0) s m args below meth c r A (zI P) 0 0 7 105 [(0, .ref r.2.1), (2, .int x2), (3, .int x3), (4, .int x4), (5, .int x5)] [] 0 0 σ := by
  obtain ⟨hx, hb, hml, hown, hts, hlk, hKK, hA⟩ := id K
  intro σ x2 x3 x4 x5 hf H locs ls hM hl
  unfold f_X2_findBest_105 at hf
  refine lv_iconst (v := 1) hx hb dX2_findBest_105 rfl ?_
  refine lv_goto (tgt := 110) hx hb dX2_findBest_106 (by decide) ?_
  exact w_X2_findBest_110 K hr H11 _ _ _ _ _ _ hf _ _ _ hM (lv_sub hl [0, 1, 2, 3, 4] rfl)
theorem w_X2_findBest_11 {p : Program} {l : Launch} {e : Env} {s : State} {m : MethodId} {args : Array Value} {below : List Frame} {meth : Method} {c : Code} {r : GR} {A : Nat → Prop} {P : GS → Int32 → Prop} (K : gC p s m args meth c cX2_findBest 7 RX2 r A) (hr : meth.sig.returnType = (some .int)) : ∀ (n : Nat) (σ : GS) (x2 : Int32) (x3 : Int32) (x4 : Int32) (x5 : Int32), f_X2_findBest_11 P n σ x2 x3 x4 x5 → gW dM p l e (gRm 67 2616 0 0) s m args below meth c r A (zI P) 0 0 7 11 [(0, .ref r.2.1), (2, .int x2), (3, .int x3), (4, .int x4), (5, .int x5)] [] 0 0 σ := by
  obtain ⟨hx, hb, hml, hown, hts, hlk, hKK, hA⟩ := id K
  intro n
  induction n with
  | zero =>
    intro σ x2 x3 x4 x5 hf
    exact absurd hf (fun h => h)
  | succ n ih =>
    intro σ x2 x3 x4 x5 hf H locs ls hM hl
    rw [f_X2_findBest_11] at hf
    refine lv_iload hx hb dX2_findBest_11 (lv_at hl 4 rfl) ?_
    refine lv_aload_n hx hb dX2_findBest_13 rfl (lv_at hl 0 rfl) ?_
    refine g_cVi [] [.int x5] K kM hM hl (c_X2_baskets l r A _ _ hf) q1767 q1769 qs60 q84 q1770 hdX2_baskets ⟨Nat.le_of_ble_eq_true rfl, Nat.le_of_ble_eq_true rfl⟩ ⟨Nat.le_refl _, Nat.le_refl _⟩ rfl (Nat.le_of_ble_eq_true rfl) dX2_findBest_14 (fun σ1 v2 H locs hf hM => ?_)
    refine lv_icmp_ge (tgt := 151) hx hb dX2_findBest_17 (by decide) (fun b3 => ?_) (fun b3 => ?_)
    · replace hf := hf.1 b3
      refine lv_aload_n hx hb dX2_findBest_151 rfl (lv_at hl 0 rfl) ?_
      refine lv_iload hx hb dX2_findBest_152 (lv_at hl 3 rfl) ?_
      refine g_cVv [.int x4] [] K kM hM hl (c_X2_unpack l r A _ _ _ hf) q1771 q1773 qs61 q84 q1774 hdX2_unpack ⟨Nat.le_of_ble_eq_true rfl, Nat.le_of_ble_eq_true rfl⟩ ⟨Nat.le_refl _, Nat.le_refl _⟩ rfl (Nat.le_of_ble_eq_true rfl) dX2_findBest_154 (fun σ4 H locs hf hM => ?_)
      refine lv_iload hx hb dX2_findBest_157 (lv_at hl 3 rfl) ?_
      exact g_reti K hr hM ⟨Nat.le_refl _, Nat.le_refl _⟩ hf dX2_findBest_159
    · replace hf := hf.2 b3
      refine lv_aload_n hx hb dX2_findBest_20 rfl (lv_at hl 0 rfl) ?_
      refine lv_iload hx hb dX2_findBest_21 (lv_at hl 4 rfl) ?_
      refine g_cVv [.int x5] [] K kM hM hl (c_X2_unpack l r A _ _ _ hf) q1771 q1773 qs61 q84 q1774 hdX2_unpack ⟨Nat.le_of_ble_eq_true rfl, Nat.le_of_ble_eq_true rfl⟩ ⟨Nat.le_refl _, Nat.le_refl _⟩ rfl (Nat.le_of_ble_eq_true rfl) dX2_findBest_23 (fun σ6 H locs hf hM => ?_)
      refine lv_aload_n hx hb dX2_findBest_26 rfl (lv_at hl 0 rfl) ?_
      refine g_geti K kM hM 27 rfl q1480 rfl dX2_findBest_27 rfl ?_
      refine lv_iload_n hx hb dX2_findBest_30 rfl (lv_at hl 1 rfl) ?_
      refine lv_icmp_gt (tgt := 145) hx hb dX2_findBest_31 (by decide) (fun b8 => ?_) (fun b8 => ?_)
      · replace hf := hf.1 b8
        exact w_X2_findBest_145 K hr ih _ _ _ _ _ hf _ _ _ hM (lv_sub hl [0, 1, 2, 3, 4] rfl)
      · replace hf := hf.2 b8
        refine lv_aload_n hx hb dX2_findBest_34 rfl (lv_at hl 0 rfl) ?_
        refine g_geti K kM hM 28 rfl q1481 rfl dX2_findBest_35 rfl ?_
        refine lv_iload_n hx hb dX2_findBest_38 rfl (lv_at hl 2 rfl) ?_
        refine lv_icmp_le (tgt := 45) hx hb dX2_findBest_39 (by decide) (fun b9 => ?_) (fun b9 => ?_)
        · replace hf := hf.1 b9
          refine lv_iload hx hb dX2_findBest_45 (lv_at hl 3 rfl) ?_
          refine lv_if_lt (tgt := 105) hx hb dX2_findBest_47 (by decide) (fun b10 => ?_) (fun b10 => ?_)
          · replace hf := hf.1 b10
            exact w_X2_findBest_105 K hr ih _ _ _ _ _ hf _ _ _ hM (lv_sub hl [0, 1, 2, 3, 4] rfl)
          · replace hf := hf.2 b10
            refine lv_aload_n hx hb dX2_findBest_50 rfl (lv_at hl 0 rfl) ?_
            refine g_geti K kM hM 26 rfl q1479 rfl dX2_findBest_51 rfl ?_
            refine lv_aload_n hx hb dX2_findBest_54 rfl (lv_at hl 0 rfl) ?_
            refine g_geti K kM hM 30 rfl q1483 rfl dX2_findBest_55 rfl ?_
            refine lv_icmp_gt (tgt := 105) hx hb dX2_findBest_58 (by decide) (fun b11 => ?_) (fun b11 => ?_)
            · replace hf := hf.1 b11
              exact w_X2_findBest_105 K hr ih _ _ _ _ _ hf _ _ _ hM (lv_sub hl [0, 1, 2, 3, 4] rfl)
            · replace hf := hf.2 b11
              refine lv_aload_n hx hb dX2_findBest_61 rfl (lv_at hl 0 rfl) ?_
              refine g_geti K kM hM 26 rfl q1479 rfl dX2_findBest_62 rfl ?_
              refine lv_aload_n hx hb dX2_findBest_65 rfl (lv_at hl 0 rfl) ?_
              refine g_geti K kM hM 30 rfl q1483 rfl dX2_findBest_66 rfl ?_
              refine lv_icmp_ne (tgt := 109) hx hb dX2_findBest_69 (by decide) (fun b12 => ?_) (fun b12 => ?_)
              · replace hf := hf.2 b12
                exact w_X2_findBest_109 K hr ih _ _ _ _ _ hf _ _ _ hM (lv_sub hl [0, 1, 2, 3, 4] rfl)
              · replace hf := hf.1 b12
                refine lv_aload_n hx hb dX2_findBest_72 rfl (lv_at hl 0 rfl) ?_
                refine g_geti K kM hM 27 rfl q1480 rfl dX2_findBest_73 rfl ?_
                refine lv_aload_n hx hb dX2_findBest_76 rfl (lv_at hl 0 rfl) ?_
                refine g_geti K kM hM 31 rfl q1484 rfl dX2_findBest_77 rfl ?_
                refine lv_icmp_lt (tgt := 105) hx hb dX2_findBest_80 (by decide) (fun b13 => ?_) (fun b13 => ?_)
                · replace hf := hf.1 b13
                  exact w_X2_findBest_105 K hr ih _ _ _ _ _ hf _ _ _ hM (lv_sub hl [0, 1, 2, 3, 4] rfl)
                · replace hf := hf.2 b13
                  refine lv_aload_n hx hb dX2_findBest_83 rfl (lv_at hl 0 rfl) ?_
                  refine g_geti K kM hM 27 rfl q1480 rfl dX2_findBest_84 rfl ?_
                  refine lv_aload_n hx hb dX2_findBest_87 rfl (lv_at hl 0 rfl) ?_
                  refine g_geti K kM hM 31 rfl q1484 rfl dX2_findBest_88 rfl ?_
                  refine lv_icmp_ne (tgt := 109) hx hb dX2_findBest_91 (by decide) (fun b14 => ?_) (fun b14 => ?_)
                  · replace hf := hf.2 b14
                    exact w_X2_findBest_109 K hr ih _ _ _ _ _ hf _ _ _ hM (lv_sub hl [0, 1, 2, 3, 4] rfl)
                  · replace hf := hf.1 b14
                    refine lv_aload_n hx hb dX2_findBest_94 rfl (lv_at hl 0 rfl) ?_
                    refine g_geti K kM hM 28 rfl q1481 rfl dX2_findBest_95 rfl ?_
                    refine lv_aload_n hx hb dX2_findBest_98 rfl (lv_at hl 0 rfl) ?_
                    refine g_geti K kM hM 32 rfl q1485 rfl dX2_findBest_99 rfl ?_
                    refine lv_icmp_ge (tgt := 109) hx hb dX2_findBest_102 (by decide) (fun b15 => ?_) (fun b15 => ?_)
                    · replace hf := hf.1 b15
                      exact w_X2_findBest_109 K hr ih _ _ _ _ _ hf _ _ _ hM (lv_sub hl [0, 1, 2, 3, 4] rfl)
                    · replace hf := hf.2 b15
                      exact w_X2_findBest_105 K hr ih _ _ _ _ _ hf _ _ _ hM (lv_sub hl [0, 1, 2, 3, 4] rfl)
        · replace hf := hf.2 b9
          refine lv_goto (tgt := 145) hx hb dX2_findBest_42 (by decide) ?_
          exact w_X2_findBest_145 K hr ih _ _ _ _ _ hf _ _ _ hM (lv_sub hl [0, 1, 2, 3, 4] rfl)
theorem c_X2_findBest (l : Launch) (r : GR) (A : Nat → Prop) (σ : GS) (x1 : Int32) (x2 : Int32) (x3 : Int32) (P : GS → Int32 → Prop) (hf : f_X2_findBest σ x1 x2 x3 P) : gMet dM l yX2_findBest cX2_findBest 7 (some .int) 67 2616 0 0 r A σ [.ref r.2.1, .int x1, .int x2, .int x3] (zI P) := by
  refine g_enter (lv := [(0, .ref r.2.1), (1, .int x1), (2, .int x2), (3, .int x3)]) (by decide) (Nat.le_of_ble_eq_true rfl) rfl ?_
  intro p e s m below meth c ls K hr hM hl _
  obtain ⟨hx, hb, hml, hown, hts, hlk, hKK, hA⟩ := id K
  unfold f_X2_findBest at hf
  refine lv_aload_n hx hb dX2_findBest_0 rfl (lv_at hl 0 rfl) ?_
  refine lv_iload_n hx hb dX2_findBest_1 rfl (lv_at hl 1 rfl) ?_
  refine g_cVv [.int x1] [] K kM hM hl (c_X2_layWorths l r A _ _ _ hf) q1763 q1765 qs59 q84 q1766 hdX2_layWorths ⟨Nat.le_of_ble_eq_true rfl, Nat.le_of_ble_eq_true rfl⟩ ⟨Nat.le_refl _, Nat.le_refl _⟩ rfl (Nat.le_of_ble_eq_true rfl) dX2_findBest_2 (fun σ1 H locs hf hM => ?_)
  refine lv_iconst (v := -1) hx hb dX2_findBest_5 rfl ?_
  refine lv_istore (lv' := [(4, .int (-1 : Int32)), (0, .ref r.2.1), (1, .int x1), (2, .int x2), (3, .int x3)]) hx hb dX2_findBest_6 hl (by decide) rfl (fun ls hl => ?_)
  refine lv_iconst (v := 0) hx hb dX2_findBest_8 rfl ?_
  refine lv_istore (lv' := [(5, .int (0 : Int32)), (4, .int (-1 : Int32)), (0, .ref r.2.1), (1, .int x1), (2, .int x2), (3, .int x3)]) hx hb dX2_findBest_9 hl (by decide) rfl (fun ls hl => ?_)
  obtain ⟨n_, hf⟩ := hf
  exact w_X2_findBest_11 K hr n_ _ _ _ _ _ hf _ _ _ hM (lv_sub hl [2, 4, 5, 1, 0] rfl)
theorem c_X2_bestOf (l : Launch) (r : GR) (A : Nat → Prop) (σ : GS) (x1 : Int32) (P : GS → Int32 → Prop) (hf : f_X2_bestOf σ x1 P) : gMet dM l yX2_bestOf cX2_bestOf 2 (some .int) 68 2642 0 0 r A σ [.ref r.2.1, .int x1] (zI P) := by
  refine g_enter (lv := [(0, .ref r.2.1), (1, .int x1)]) (by decide) (Nat.le_of_ble_eq_true rfl) rfl ?_
  intro p e s m below meth c ls K hr hM hl _
  obtain ⟨hx, hb, hml, hown, hts, hlk, hKK, hA⟩ := id K
  unfold f_X2_bestOf at hf
  refine lv_aload_n hx hb dX2_bestOf_0 rfl (lv_at hl 0 rfl) ?_
  refine lv_iload_n hx hb dX2_bestOf_1 rfl (lv_at hl 1 rfl) ?_
  refine lv_aload_n hx hb dX2_bestOf_2 rfl (lv_at hl 0 rfl) ?_
  refine lv_iload_n hx hb dX2_bestOf_3 rfl (lv_at hl 1 rfl) ?_
  refine g_cVi [.int x1] [.int x1, .ref r.2.1] K kM hM hl (c_X2_purseOf l r A _ _ _ hf) q1683 q1685 qs44 q84 q1686 hdX2_purseOf ⟨Nat.le_of_ble_eq_true rfl, Nat.le_of_ble_eq_true rfl⟩ ⟨Nat.le_refl _, Nat.le_refl _⟩ rfl (Nat.le_of_ble_eq_true rfl) dX2_bestOf_4 (fun σ1 v2 H locs hf hM => ?_)
  refine lv_aload_n hx hb dX2_bestOf_7 rfl (lv_at hl 0 rfl) ?_
  refine lv_iload_n hx hb dX2_bestOf_8 rfl (lv_at hl 1 rfl) ?_
  refine g_cVi [.int x1] [.int v2, .int x1, .ref r.2.1] K kM hM hl (c_X2_pointsInAll l r A _ _ _ hf) q1687 q1689 qs45 q84 q1690 hdX2_pointsInAll ⟨Nat.le_of_ble_eq_true rfl, Nat.le_of_ble_eq_true rfl⟩ ⟨Nat.le_refl _, Nat.le_refl _⟩ rfl (Nat.le_of_ble_eq_true rfl) dX2_bestOf_9 (fun σ3 v4 H locs hf hM => ?_)
  refine g_cVi [.int x1, .int v2, .int v4] [] K kM hM hl (c_X2_findBest l r A _ _ _ _ _ hf) q1759 q1761 qs58 q84 q1762 hdX2_findBest ⟨Nat.le_of_ble_eq_true rfl, Nat.le_of_ble_eq_true rfl⟩ ⟨Nat.le_refl _, Nat.le_refl _⟩ rfl (Nat.le_of_ble_eq_true rfl) dX2_bestOf_12 (fun σ5 v6 H locs hf hM => ?_)
  exact g_reti K hr hM ⟨Nat.le_refl _, Nat.le_refl _⟩ hf dX2_bestOf_15
theorem w_X2_digitsNow_4 {p : Program} {l : Launch} {e : Env} {s : State} {m : MethodId} {args : Array Value} {below : List Frame} {meth : Method} {c : Code} {r : GR} {A : Nat → Prop} {P : GS → Int32 → Prop} (K : gC p s m args meth c cX2_digitsNow 3 RX2 r A) (hr : meth.sig.returnType = (some .int)) : ∀ (n : Nat) (σ : GS) (x1 : Int32) (x2 : Int32), f_X2_digitsNow_4 P n σ x1 x2 → gW dM p l e (gRm 0 0 0 0) s m args below meth c r A (zI P) 0 0 3 4 [(0, .ref r.2.1), (1, .int x1), (2, .int x2)] [] 0 0 σ := by
  obtain ⟨hx, hb, hml, hown, hts, hlk, hKK, hA⟩ := id K
  intro n
  induction n with
  | zero =>
    intro σ x1 x2 hf
    exact absurd hf (fun h => h)
  | succ n ih =>
    intro σ x1 x2 hf H locs ls hM hl
    rw [f_X2_digitsNow_4] at hf
    refine lv_iload_n hx hb dX2_digitsNow_4 rfl (lv_at hl 2 rfl) ?_
    refine lv_aload_n hx hb dX2_digitsNow_5 rfl (lv_at hl 0 rfl) ?_
    refine g_geti K kM hM 6 rfl q1459 rfl dX2_digitsNow_6 rfl ?_
    refine lv_icmp_ge (tgt := 30) hx hb dX2_digitsNow_9 (by decide) (fun b1 => ?_) (fun b1 => ?_)
    · replace hf := hf.1 b1
      refine lv_iload_n hx hb dX2_digitsNow_30 rfl (lv_at hl 1 rfl) ?_
      exact g_reti K hr hM ⟨Nat.le_refl _, Nat.le_refl _⟩ hf dX2_digitsNow_31
    · replace hf := hf.2 b1
      refine lv_bipush (v := 10) hx hb dX2_digitsNow_12 rfl ?_
      refine lv_iload_n hx hb dX2_digitsNow_14 rfl (lv_at hl 1 rfl) ?_
      refine lv_imul hx hb dX2_digitsNow_15 ?_
      refine lv_aload_n hx hb dX2_digitsNow_16 rfl (lv_at hl 0 rfl) ?_
      refine g_geta K kM hM 25 rfl q1478 rfl dX2_digitsNow_17 rfl ?_
      refine lv_iload_n hx hb dX2_digitsNow_20 rfl (lv_at hl 2 rfl) ?_
      obtain ⟨g2, hf⟩ := hf
      refine g_iald K hM 25 rfl rfl rfl g2 dX2_digitsNow_21 ?_
      refine lv_iadd hx hb dX2_digitsNow_22 ?_
      refine lv_topi (fun z3 hz3 => ?_)
      have hf := hf z3 hz3
      refine lv_istore_n (lv' := [(1, .int z3), (0, .ref r.2.1), (2, .int x2)]) hx hb dX2_digitsNow_23 rfl hl (by decide) rfl (fun ls hl => ?_)
      refine lv_iinc (v := x2 + 1) (lv' := [(2, .int (x2 + 1)), (1, .int z3), (0, .ref r.2.1)]) hx hb dX2_digitsNow_24 hl (k := 2) rfl rfl (by decide) rfl (fun ls hl => ?_)
      refine lv_goto (tgt := 4) hx hb dX2_digitsNow_27 (by decide) ?_
      exact ih _ _ _ hf _ _ _ hM (lv_sub hl [2, 1, 0] rfl)
theorem c_X2_digitsNow (l : Launch) (r : GR) (A : Nat → Prop) (σ : GS) (P : GS → Int32 → Prop) (hf : f_X2_digitsNow σ P) : gMet dM l yX2_digitsNow cX2_digitsNow 3 (some .int) 0 0 0 0 r A σ [.ref r.2.1] (zI P) := by
  refine g_enter (lv := [(0, .ref r.2.1)]) (by decide) (Nat.le_of_ble_eq_true rfl) rfl ?_
  intro p e s m below meth c ls K hr hM hl _
  obtain ⟨hx, hb, hml, hown, hts, hlk, hKK, hA⟩ := id K
  unfold f_X2_digitsNow at hf
  refine lv_iconst (v := 0) hx hb dX2_digitsNow_0 rfl ?_
  refine lv_istore_n (lv' := [(1, .int (0 : Int32)), (0, .ref r.2.1)]) hx hb dX2_digitsNow_1 rfl hl (by decide) rfl (fun ls hl => ?_)
  refine lv_iconst (v := 0) hx hb dX2_digitsNow_2 rfl ?_
  refine lv_istore_n (lv' := [(2, .int (0 : Int32)), (1, .int (0 : Int32)), (0, .ref r.2.1)]) hx hb dX2_digitsNow_3 rfl hl (by decide) rfl (fun ls hl => ?_)
  obtain ⟨n_, hf⟩ := hf
  exact w_X2_digitsNow_4 K hr n_ _ _ _ hf _ _ _ hM (lv_sub hl [2, 1, 0] rfl)
theorem c_X2_basket (l : Launch) (r : GR) (A : Nat → Prop) (σ : GS) (x1 : Int32) (x2 : Int32) (P : GS → Int32 → Prop) (hf : f_X2_basket σ x1 x2 P) : gMet dM l yX2_basket cX2_basket 4 (some .int) 69 2663 0 0 r A σ [.ref r.2.1, .int x1, .int x2] (zI P) := by
  refine g_enter (lv := [(0, .ref r.2.1), (1, .int x1), (2, .int x2)]) (by decide) (Nat.le_of_ble_eq_true rfl) rfl ?_
  intro p e s m below meth c ls K hr hM hl _
  obtain ⟨hx, hb, hml, hown, hts, hlk, hKK, hA⟩ := id K
  unfold f_X2_basket at hf
  refine lv_aload_n hx hb dX2_basket_0 rfl (lv_at hl 0 rfl) ?_
  refine lv_iload_n hx hb dX2_basket_1 rfl (lv_at hl 1 rfl) ?_
  refine g_cVi [.int x1] [] K kM hM hl (c_X2_isSort l r A _ _ _ hf) q1674 q1676 qs43 q84 q1677 hdX2_isSort ⟨Nat.le_of_ble_eq_true rfl, Nat.le_of_ble_eq_true rfl⟩ ⟨Nat.le_refl _, Nat.le_refl _⟩ rfl (Nat.le_of_ble_eq_true rfl) dX2_basket_2 (fun σ1 v2 H locs hf hM => ?_)
  refine lv_if_eq (tgt := 20) hx hb dX2_basket_5 (by decide) (fun b3 => ?_) (fun b3 => ?_)
  · replace hf := hf.1 b3
    refine lv_iconst (v := -1) hx hb dX2_basket_20 rfl ?_
    exact g_reti K hr hM ⟨Nat.le_refl _, Nat.le_refl _⟩ hf dX2_basket_21
  · replace hf := hf.2 b3
    refine lv_iload_n hx hb dX2_basket_8 rfl (lv_at hl 2 rfl) ?_
    refine lv_i2l hx hb dX2_basket_9 rfl ?_
    refine lv_lconst (v := 0) hx hb dX2_basket_10 rfl ?_
    refine lv_ldc2 hx hb hown (hts _ q1682) dX2_basket_11 ?_
    refine g_cSi [.long x2.toInt64, .long (0 : Int64), .long (3 : Int64)] [] K hM hl (c_X2_within l r A _ _ _ _ _ hf) q1632 q1633 q84 q1634 hdX2_within ⟨Nat.le_of_ble_eq_true rfl, Nat.le_of_ble_eq_true rfl⟩ ⟨Nat.le_refl _, Nat.le_refl _⟩ rfl (Nat.le_of_ble_eq_true rfl) dX2_basket_14 (fun σ4 v5 H locs hf hM => ?_)
    refine lv_if_ne (tgt := 22) hx hb dX2_basket_17 (by decide) (fun b6 => ?_) (fun b6 => ?_)
    · replace hf := hf.2 b6
      refine lv_aload_n hx hb dX2_basket_22 rfl (lv_at hl 0 rfl) ?_
      refine lv_iload_n hx hb dX2_basket_23 rfl (lv_at hl 1 rfl) ?_
      refine g_cVi [.int x1] [] K kM hM hl (c_X2_bestOf l r A _ _ _ hf) q1755 q1757 qs57 q84 q1758 hdX2_bestOf ⟨Nat.le_of_ble_eq_true rfl, Nat.le_of_ble_eq_true rfl⟩ ⟨Nat.le_refl _, Nat.le_refl _⟩ rfl (Nat.le_of_ble_eq_true rfl) dX2_basket_24 (fun σ7 v8 H locs hf hM => ?_)
      refine lv_istore_n (lv' := [(3, .int v8), (0, .ref r.2.1), (1, .int x1), (2, .int x2)]) hx hb dX2_basket_27 rfl hl (by decide) rfl (fun ls hl => ?_)
      refine lv_iload_n hx hb dX2_basket_28 rfl (lv_at hl 3 rfl) ?_
      refine lv_if_ne (tgt := 39) hx hb dX2_basket_29 (by decide) (fun b9 => ?_) (fun b9 => ?_)
      · replace hf := hf.2 b9
        refine lv_iload_n hx hb dX2_basket_39 rfl (lv_at hl 3 rfl) ?_
        refine lv_iconst (v := 1) hx hb dX2_basket_40 rfl ?_
        refine lv_icmp_ne (tgt := 51) hx hb dX2_basket_41 (by decide) (fun b10 => ?_) (fun b10 => ?_)
        · replace hf := hf.2 b10
          refine lv_iload_n hx hb dX2_basket_51 rfl (lv_at hl 3 rfl) ?_
          refine lv_iconst (v := 2) hx hb dX2_basket_52 rfl ?_
          refine lv_icmp_ne (tgt := 63) hx hb dX2_basket_53 (by decide) (fun b11 => ?_) (fun b11 => ?_)
          · replace hf := hf.2 b11
            refine lv_aload_n hx hb dX2_basket_63 rfl (lv_at hl 1 rfl) ?_
            refine g_geti K kM hM 32 rfl q1485 rfl dX2_basket_64 rfl ?_
            exact g_reti K hr hM ⟨Nat.le_refl _, Nat.le_refl _⟩ hf dX2_basket_67
          · replace hf := hf.1 b11
            refine lv_aload_n hx hb dX2_basket_56 rfl (lv_at hl 1 rfl) ?_
            refine g_geti K kM hM 31 rfl q1484 rfl dX2_basket_57 rfl ?_
            refine lv_goto (tgt := 67) hx hb dX2_basket_60 (by decide) ?_
            exact g_reti K hr hM ⟨Nat.le_refl _, Nat.le_refl _⟩ hf dX2_basket_67
        · replace hf := hf.1 b10
          refine lv_aload_n hx hb dX2_basket_44 rfl (lv_at hl 1 rfl) ?_
          refine g_geti K kM hM 30 rfl q1483 rfl dX2_basket_45 rfl ?_
          refine lv_goto (tgt := 67) hx hb dX2_basket_48 (by decide) ?_
          exact g_reti K hr hM ⟨Nat.le_refl _, Nat.le_refl _⟩ hf dX2_basket_67
      · replace hf := hf.1 b9
        refine lv_aload_n hx hb dX2_basket_32 rfl (lv_at hl 1 rfl) ?_
        refine g_cVi [] [] K kM hM hl (c_X2_digitsNow l r A _ _ hf) q1775 q1777 qs62 q84 q1778 hdX2_digitsNow ⟨Nat.le_of_ble_eq_true rfl, Nat.le_of_ble_eq_true rfl⟩ ⟨Nat.le_refl _, Nat.le_refl _⟩ rfl (Nat.le_of_ble_eq_true rfl) dX2_basket_33 (fun σ12 v13 H locs hf hM => ?_)
        refine lv_goto (tgt := 67) hx hb dX2_basket_36 (by decide) ?_
        exact g_reti K hr hM ⟨Nat.le_refl _, Nat.le_refl _⟩ hf dX2_basket_67
    · replace hf := hf.1 b6
      refine lv_iconst (v := -1) hx hb dX2_basket_20 rfl ?_
      exact g_reti K hr hM ⟨Nat.le_refl _, Nat.le_refl _⟩ hf dX2_basket_21
theorem c_X2_over (l : Launch) (r : GR) (A : Nat → Prop) (σ : GS) (x1 : Int32) (P : GS → Int32 → Prop) (hf : f_X2_over σ x1 P) : gMet dM l yX2_over cX2_over 2 (some .int) 0 0 0 0 r A σ [.ref r.2.1, .int x1] (zI P) := by
  refine g_enter (lv := [(0, .ref r.2.1), (1, .int x1)]) (by decide) (Nat.le_of_ble_eq_true rfl) rfl ?_
  intro p e s m below meth c ls K hr hM hl _
  obtain ⟨hx, hb, hml, hown, hts, hlk, hKK, hA⟩ := id K
  unfold f_X2_over at hf
  refine lv_aload_n hx hb dX2_over_0 rfl (lv_at hl 0 rfl) ?_
  refine g_geta K kM hM 0 rfl q1453 rfl dX2_over_1 rfl ?_
  refine lv_iload_n hx hb dX2_over_4 rfl (lv_at hl 1 rfl) ?_
  obtain ⟨g1, hf⟩ := hf
  refine g_iald K hM 0 rfl rfl rfl g1 dX2_over_5 ?_
  refine lv_aload_n hx hb dX2_over_6 rfl (lv_at hl 0 rfl) ?_
  refine g_geta K kM hM 33 rfl q1486 rfl dX2_over_7 rfl ?_
  refine lv_iload_n hx hb dX2_over_10 rfl (lv_at hl 1 rfl) ?_
  obtain ⟨g2, hf⟩ := hf
  refine g_iald K hM 33 rfl rfl rfl g2 dX2_over_11 ?_
  refine lv_isub hx hb dX2_over_12 ?_
  exact g_reti K hr hM ⟨Nat.le_refl _, Nat.le_refl _⟩ hf dX2_over_13
theorem c_X2_size (l : Launch) (r : GR) (A : Nat → Prop) (σ : GS) (x0 : Int32) (P : GS → Int32 → Prop) (hf : f_X2_size σ x0 P) : gMet dM l yX2_size cX2_size 1 (some .int) 0 0 0 0 r A σ [.int x0] (zI P) := by
  refine g_enter (lv := [(0, .int x0)]) (by decide) (Nat.le_of_ble_eq_true rfl) rfl ?_
  intro p e s m below meth c ls K hr hM hl _
  obtain ⟨hx, hb, hml, hown, hts, hlk, hKK, hA⟩ := id K
  unfold f_X2_size at hf
  refine lv_iload_n hx hb dX2_size_0 rfl (lv_at hl 0 rfl) ?_
  refine lv_if_ge (tgt := 9) hx hb dX2_size_1 (by decide) (fun b1 => ?_) (fun b1 => ?_)
  · replace hf := hf.1 b1
    refine lv_iload_n hx hb dX2_size_9 rfl (lv_at hl 0 rfl) ?_
    exact g_reti K hr hM ⟨Nat.le_refl _, Nat.le_refl _⟩ hf dX2_size_10
  · replace hf := hf.2 b1
    refine lv_iload_n hx hb dX2_size_4 rfl (lv_at hl 0 rfl) ?_
    refine lv_ineg hx hb dX2_size_5 ?_
    refine lv_goto (tgt := 10) hx hb dX2_size_6 (by decide) ?_
    exact g_reti K hr hM ⟨Nat.le_refl _, Nat.le_refl _⟩ hf dX2_size_10
theorem w_X2_bothOver_4 {p : Program} {l : Launch} {e : Env} {s : State} {m : MethodId} {args : Array Value} {below : List Frame} {meth : Method} {c : Code} {r : GR} {A : Nat → Prop} {P : GS → Int32 → Prop} (K : gC p s m args meth c cX2_bothOver 3 RX2 r A) (hr : meth.sig.returnType = (some .int)) : ∀ (n : Nat) (σ : GS) (x1 : Int32) (x2 : Int32), f_X2_bothOver_4 P n σ x1 x2 → gW dM p l e (gRm 1 21 0 0) s m args below meth c r A (zI P) 0 0 3 4 [(0, .ref r.2.1), (1, .int x1), (2, .int x2)] [] 0 0 σ := by
  obtain ⟨hx, hb, hml, hown, hts, hlk, hKK, hA⟩ := id K
  intro n
  induction n with
  | zero =>
    intro σ x1 x2 hf
    exact absurd hf (fun h => h)
  | succ n ih =>
    intro σ x1 x2 hf H locs ls hM hl
    rw [f_X2_bothOver_4] at hf
    refine lv_iload_n hx hb dX2_bothOver_4 rfl (lv_at hl 2 rfl) ?_
    refine lv_aload_n hx hb dX2_bothOver_5 rfl (lv_at hl 0 rfl) ?_
    refine g_geti K kM hM 6 rfl q1459 rfl dX2_bothOver_6 rfl ?_
    refine lv_icmp_ge (tgt := 29) hx hb dX2_bothOver_9 (by decide) (fun b1 => ?_) (fun b1 => ?_)
    · replace hf := hf.1 b1
      refine lv_iload_n hx hb dX2_bothOver_29 rfl (lv_at hl 1 rfl) ?_
      exact g_reti K hr hM ⟨Nat.le_refl _, Nat.le_refl _⟩ hf dX2_bothOver_30
    · replace hf := hf.2 b1
      refine lv_iload_n hx hb dX2_bothOver_12 rfl (lv_at hl 1 rfl) ?_
      refine lv_aload_n hx hb dX2_bothOver_13 rfl (lv_at hl 0 rfl) ?_
      refine lv_iload_n hx hb dX2_bothOver_14 rfl (lv_at hl 2 rfl) ?_
      refine g_cVi [.int x2] [.int x1] K kM hM hl (c_X2_over l r A _ _ _ hf) q1792 q1794 qs65 q84 q1795 hdX2_over ⟨Nat.le_of_ble_eq_true rfl, Nat.le_of_ble_eq_true rfl⟩ ⟨Nat.le_refl _, Nat.le_refl _⟩ rfl (Nat.le_of_ble_eq_true rfl) dX2_bothOver_15 (fun σ2 v3 H locs hf hM => ?_)
      refine g_cSi [.int v3] [.int x1] K hM hl (c_X2_size l r A _ _ _ hf) q1796 q1797 q84 q1798 hdX2_size ⟨Nat.le_of_ble_eq_true rfl, Nat.le_of_ble_eq_true rfl⟩ ⟨Nat.le_refl _, Nat.le_refl _⟩ rfl (Nat.le_of_ble_eq_true rfl) dX2_bothOver_18 (fun σ4 v5 H locs hf hM => ?_)
      refine lv_iadd hx hb dX2_bothOver_21 ?_
      refine lv_istore_n (lv' := [(1, .int (x1 + v5)), (0, .ref r.2.1), (2, .int x2)]) hx hb dX2_bothOver_22 rfl hl (by decide) rfl (fun ls hl => ?_)
      refine lv_iinc (v := x2 + 1) (lv' := [(2, .int (x2 + 1)), (1, .int (x1 + v5)), (0, .ref r.2.1)]) hx hb dX2_bothOver_23 hl (k := 2) rfl rfl (by decide) rfl (fun ls hl => ?_)
      refine lv_goto (tgt := 4) hx hb dX2_bothOver_26 (by decide) ?_
      exact ih _ _ _ hf _ _ _ hM (lv_sub hl [2, 1, 0] rfl)
theorem c_X2_bothOver (l : Launch) (r : GR) (A : Nat → Prop) (σ : GS) (P : GS → Int32 → Prop) (hf : f_X2_bothOver σ P) : gMet dM l yX2_bothOver cX2_bothOver 3 (some .int) 1 21 0 0 r A σ [.ref r.2.1] (zI P) := by
  refine g_enter (lv := [(0, .ref r.2.1)]) (by decide) (Nat.le_of_ble_eq_true rfl) rfl ?_
  intro p e s m below meth c ls K hr hM hl _
  obtain ⟨hx, hb, hml, hown, hts, hlk, hKK, hA⟩ := id K
  unfold f_X2_bothOver at hf
  refine lv_iconst (v := 0) hx hb dX2_bothOver_0 rfl ?_
  refine lv_istore_n (lv' := [(1, .int (0 : Int32)), (0, .ref r.2.1)]) hx hb dX2_bothOver_1 rfl hl (by decide) rfl (fun ls hl => ?_)
  refine lv_iconst (v := 0) hx hb dX2_bothOver_2 rfl ?_
  refine lv_istore_n (lv' := [(2, .int (0 : Int32)), (1, .int (0 : Int32)), (0, .ref r.2.1)]) hx hb dX2_bothOver_3 rfl hl (by decide) rfl (fun ls hl => ?_)
  obtain ⟨n_, hf⟩ := hf
  exact w_X2_bothOver_4 K hr n_ _ _ _ hf _ _ _ hM (lv_sub hl [2, 1, 0] rfl)
theorem w_X2_findWanted_41 {p : Program} {l : Launch} {e : Env} {s : State} {m : MethodId} {args : Array Value} {below : List Frame} {meth : Method} {c : Code} {r : GR} {A : Nat → Prop} {P : GS → Prop} {k25 : GS → Int32 → Prop} (K : gC p s m args meth c cX2_findWanted 4 RX2 r A) (hr : meth.sig.returnType = none) (H25 : ∀ (σ : GS) (x1 : Int32), k25 σ x1 → gW dM p l e (gRm 69 2663 0 0) s m args below meth c r A (zV P) 0 0 4 25 [(0, .ref r.2.1), (1, .int x1)] [] 0 0 σ) : ∀ (n : Nat) (σ : GS) (x1 : Int32) (x3 : Int32), f_X2_findWanted_41 k25 P n σ x1 x3 → gW dM p l e (gRm 69 2663 0 0) s m args below meth c r A (zV P) 0 0 4 41 [(0, .ref r.2.1), (1, .int x1), (3, .int x3)] [] 0 0 σ := by
  obtain ⟨hx, hb, hml, hown, hts, hlk, hKK, hA⟩ := id K
  intro n
  induction n with
  | zero =>
    intro σ x1 x3 hf
    exact absurd hf (fun h => h)
  | succ n ih =>
    intro σ x1 x3 hf H locs ls hM hl
    rw [f_X2_findWanted_41] at hf
    refine lv_iload_n hx hb dX2_findWanted_41 rfl (lv_at hl 2 rfl) ?_
    refine lv_aload_n hx hb dX2_findWanted_42 rfl (lv_at hl 0 rfl) ?_
    refine g_geti K kM hM 6 rfl q1459 rfl dX2_findWanted_43 rfl ?_
    refine lv_icmp_ge (tgt := 101) hx hb dX2_findWanted_46 (by decide) (fun b1 => ?_) (fun b1 => ?_)
    · replace hf := hf.1 b1
      refine lv_iinc (v := x1 + 1) (lv' := [(1, .int (x1 + 1)), (0, .ref r.2.1), (3, .int x3)]) hx hb dX2_findWanted_101 hl (k := 1) rfl rfl (by decide) rfl (fun ls hl => ?_)
      refine lv_goto (tgt := 25) hx hb dX2_findWanted_104 (by decide) ?_
      exact H25 _ _ hf _ _ _ hM (lv_sub hl [1, 0] rfl)
    · replace hf := hf.2 b1
      refine lv_aload_n hx hb dX2_findWanted_49 rfl (lv_at hl 0 rfl) ?_
      refine g_geta K kM hM 34 rfl q1487 rfl dX2_findWanted_50 rfl ?_
      refine lv_bipush (v := 6) hx hb dX2_findWanted_53 rfl ?_
      refine lv_iload_n hx hb dX2_findWanted_55 rfl (lv_at hl 1 rfl) ?_
      refine lv_imul hx hb dX2_findWanted_56 ?_
      refine lv_iload_n hx hb dX2_findWanted_57 rfl (lv_at hl 2 rfl) ?_
      refine lv_iadd hx hb dX2_findWanted_58 ?_
      refine lv_aload_n hx hb dX2_findWanted_59 rfl (lv_at hl 0 rfl) ?_
      refine g_geta K kM hM 9 rfl q1462 rfl dX2_findWanted_60 rfl ?_
      refine lv_iload_n hx hb dX2_findWanted_63 rfl (lv_at hl 1 rfl) ?_
      obtain ⟨g2, hf⟩ := hf
      refine g_iald K hM 9 rfl rfl rfl g2 dX2_findWanted_64 ?_
      refine lv_aload_n hx hb dX2_findWanted_65 rfl (lv_at hl 0 rfl) ?_
      refine g_geta K kM hM 25 rfl q1478 rfl dX2_findWanted_66 rfl ?_
      refine lv_iload_n hx hb dX2_findWanted_69 rfl (lv_at hl 2 rfl) ?_
      obtain ⟨g3, hf⟩ := hf
      refine g_iald K hM 25 rfl rfl rfl g3 dX2_findWanted_70 ?_
      refine lv_imul hx hb dX2_findWanted_71 ?_
      obtain ⟨g4, hf⟩ := hf
      refine g_iastN K hM 34 rfl rfl rfl g4 dX2_findWanted_72 (fun H locs σ5 hσ5 hM => ?_)
      have hf := hf σ5 hσ5
      refine lv_aload_n hx hb dX2_findWanted_73 rfl (lv_at hl 0 rfl) ?_
      refine g_geta K kM hM 33 rfl q1486 rfl dX2_findWanted_74 rfl ?_
      refine lv_iload_n hx hb dX2_findWanted_77 rfl (lv_at hl 2 rfl) ?_
      refine lv_dup2_11 hx hb dX2_findWanted_78 rfl rfl ?_
      obtain ⟨g6, hf⟩ := hf
      refine g_iald K hM 33 rfl rfl rfl g6 dX2_findWanted_79 ?_
      refine lv_aload_n hx hb dX2_findWanted_80 rfl (lv_at hl 0 rfl) ?_
      refine g_geta K kM hM 9 rfl q1462 rfl dX2_findWanted_81 rfl ?_
      refine lv_iload_n hx hb dX2_findWanted_84 rfl (lv_at hl 1 rfl) ?_
      obtain ⟨g7, hf⟩ := hf
      refine g_iald K hM 9 rfl rfl rfl g7 dX2_findWanted_85 ?_
      refine lv_aload_n hx hb dX2_findWanted_86 rfl (lv_at hl 0 rfl) ?_
      refine g_geta K kM hM 25 rfl q1478 rfl dX2_findWanted_87 rfl ?_
      refine lv_iload_n hx hb dX2_findWanted_90 rfl (lv_at hl 2 rfl) ?_
      obtain ⟨g8, hf⟩ := hf
      refine g_iald K hM 25 rfl rfl rfl g8 dX2_findWanted_91 ?_
      refine lv_imul hx hb dX2_findWanted_92 ?_
      refine lv_iadd hx hb dX2_findWanted_93 ?_
      obtain ⟨g9, hf⟩ := hf
      refine g_iastN K hM 33 rfl rfl rfl g9 dX2_findWanted_94 (fun H locs σ10 hσ10 hM => ?_)
      have hf := hf σ10 hσ10
      refine lv_iinc (v := x3 + 1) (lv' := [(3, .int (x3 + 1)), (0, .ref r.2.1), (1, .int x1)]) hx hb dX2_findWanted_95 hl (k := 2) rfl rfl (by decide) rfl (fun ls hl => ?_)
      refine lv_goto (tgt := 41) hx hb dX2_findWanted_98 (by decide) ?_
      exact ih _ _ _ hf _ _ _ hM (lv_sub hl [1, 2, 0] rfl)
theorem w_X2_findWanted_25 {p : Program} {l : Launch} {e : Env} {s : State} {m : MethodId} {args : Array Value} {below : List Frame} {meth : Method} {c : Code} {r : GR} {A : Nat → Prop} {P : GS → Prop} (K : gC p s m args meth c cX2_findWanted 4 RX2 r A) (hr : meth.sig.returnType = none) : ∀ (n : Nat) (σ : GS) (x1 : Int32), f_X2_findWanted_25 P n σ x1 → gW dM p l e (gRm 69 2663 0 0) s m args below meth c r A (zV P) 0 0 4 25 [(0, .ref r.2.1), (1, .int x1)] [] 0 0 σ := by
  obtain ⟨hx, hb, hml, hown, hts, hlk, hKK, hA⟩ := id K
  intro n
  induction n with
  | zero =>
    intro σ x1 hf
    exact absurd hf (fun h => h)
  | succ n ih =>
    intro σ x1 hf H locs ls hM hl
    rw [f_X2_findWanted_25] at hf
    refine lv_iload_n hx hb dX2_findWanted_25 rfl (lv_at hl 1 rfl) ?_
    refine lv_aload_n hx hb dX2_findWanted_26 rfl (lv_at hl 0 rfl) ?_
    refine g_geti K kM hM 8 rfl q1461 rfl dX2_findWanted_27 rfl ?_
    refine lv_icmp_ge (tgt := 107) hx hb dX2_findWanted_30 (by decide) (fun b1 => ?_) (fun b1 => ?_)
    · replace hf := hf.1 b1
      exact g_retv K hr hM ⟨Nat.le_refl _, Nat.le_refl _⟩ hf dX2_findWanted_107
    · replace hf := hf.2 b1
      refine lv_aload_n hx hb dX2_findWanted_33 rfl (lv_at hl 0 rfl) ?_
      refine lv_iload_n hx hb dX2_findWanted_34 rfl (lv_at hl 1 rfl) ?_
      refine g_cVi [.int x1] [] K kM hM hl (c_X2_bestOf l r A _ _ _ hf) q1755 q1757 qs57 q84 q1758 hdX2_bestOf ⟨Nat.le_of_ble_eq_true rfl, Nat.le_of_ble_eq_true rfl⟩ ⟨Nat.le_refl _, Nat.le_refl _⟩ rfl (Nat.le_of_ble_eq_true rfl) dX2_findWanted_35 (fun σ2 v3 H locs hf hM => ?_)
      refine lv_istore_n (lv' := [(2, .int v3), (0, .ref r.2.1), (1, .int x1)]) hx hb dX2_findWanted_38 rfl hl (by decide) rfl (fun ls hl => ?_)
      refine lv_iconst (v := 0) hx hb dX2_findWanted_39 rfl ?_
      refine lv_istore_n (lv' := [(3, .int (0 : Int32)), (2, .int v3), (0, .ref r.2.1), (1, .int x1)]) hx hb dX2_findWanted_40 rfl hl (by decide) rfl (fun ls hl => ?_)
      obtain ⟨n_, hf⟩ := hf
      exact w_X2_findWanted_41 K hr ih n_ _ _ _ hf _ _ _ hM (lv_sub hl [2, 3, 0] rfl)
theorem w_X2_findWanted_2 {p : Program} {l : Launch} {e : Env} {s : State} {m : MethodId} {args : Array Value} {below : List Frame} {meth : Method} {c : Code} {r : GR} {A : Nat → Prop} {P : GS → Prop} (K : gC p s m args meth c cX2_findWanted 4 RX2 r A) (hr : meth.sig.returnType = none) : ∀ (n : Nat) (σ : GS) (x1 : Int32), f_X2_findWanted_2 P n σ x1 → gW dM p l e (gRm 69 2663 0 0) s m args below meth c r A (zV P) 0 0 4 2 [(0, .ref r.2.1), (1, .int x1)] [] 0 0 σ := by
  obtain ⟨hx, hb, hml, hown, hts, hlk, hKK, hA⟩ := id K
  intro n
  induction n with
  | zero =>
    intro σ x1 hf
    exact absurd hf (fun h => h)
  | succ n ih =>
    intro σ x1 hf H locs ls hM hl
    rw [f_X2_findWanted_2] at hf
    refine lv_iload_n hx hb dX2_findWanted_2 rfl (lv_at hl 1 rfl) ?_
    refine lv_aload_n hx hb dX2_findWanted_3 rfl (lv_at hl 0 rfl) ?_
    refine g_geti K kM hM 6 rfl q1459 rfl dX2_findWanted_4 rfl ?_
    refine lv_icmp_ge (tgt := 23) hx hb dX2_findWanted_7 (by decide) (fun b1 => ?_) (fun b1 => ?_)
    · replace hf := hf.1 b1
      refine lv_iconst (v := 0) hx hb dX2_findWanted_23 rfl ?_
      refine lv_istore_n (lv' := [(1, .int (0 : Int32)), (0, .ref r.2.1)]) hx hb dX2_findWanted_24 rfl hl (by decide) rfl (fun ls hl => ?_)
      obtain ⟨n_, hf⟩ := hf
      exact w_X2_findWanted_25 K hr n_ _ _ hf _ _ _ hM (lv_sub hl [1, 0] rfl)
    · replace hf := hf.2 b1
      refine lv_aload_n hx hb dX2_findWanted_10 rfl (lv_at hl 0 rfl) ?_
      refine g_geta K kM hM 33 rfl q1486 rfl dX2_findWanted_11 rfl ?_
      refine lv_iload_n hx hb dX2_findWanted_14 rfl (lv_at hl 1 rfl) ?_
      refine lv_iconst (v := 0) hx hb dX2_findWanted_15 rfl ?_
      obtain ⟨g2, hf⟩ := hf
      refine g_iastN K hM 33 rfl rfl rfl g2 dX2_findWanted_16 (fun H locs σ3 hσ3 hM => ?_)
      have hf := hf σ3 hσ3
      refine lv_iinc (v := x1 + 1) (lv' := [(1, .int (x1 + 1)), (0, .ref r.2.1)]) hx hb dX2_findWanted_17 hl (k := 1) rfl rfl (by decide) rfl (fun ls hl => ?_)
      refine lv_goto (tgt := 2) hx hb dX2_findWanted_20 (by decide) ?_
      exact ih _ _ hf _ _ _ hM (lv_sub hl [1, 0] rfl)
theorem c_X2_findWanted (l : Launch) (r : GR) (A : Nat → Prop) (σ : GS) (P : GS → Prop) (hf : f_X2_findWanted σ P) : gMet dM l yX2_findWanted cX2_findWanted 4 none 69 2663 0 0 r A σ [.ref r.2.1] (zV P) := by
  refine g_enter (lv := [(0, .ref r.2.1)]) (by decide) (Nat.le_of_ble_eq_true rfl) rfl ?_
  intro p e s m below meth c ls K hr hM hl _
  obtain ⟨hx, hb, hml, hown, hts, hlk, hKK, hA⟩ := id K
  unfold f_X2_findWanted at hf
  refine lv_iconst (v := 0) hx hb dX2_findWanted_0 rfl ?_
  refine lv_istore_n (lv' := [(1, .int (0 : Int32)), (0, .ref r.2.1)]) hx hb dX2_findWanted_1 rfl hl (by decide) rfl (fun ls hl => ?_)
  obtain ⟨n_, hf⟩ := hf
  exact w_X2_findWanted_2 K hr n_ _ _ hf _ _ _ hM (lv_sub hl [1, 0] rfl)
theorem w_X2_wanted_42 {p : Program} {l : Launch} {e : Env} {s : State} {m : MethodId} {args : Array Value} {below : List Frame} {meth : Method} {c : Code} {r : GR} {A : Nat → Prop} {P : GS → Int32 → Prop} (K : gC p s m args meth c cX2_wanted 4 RX2 r A) (hr : meth.sig.returnType = (some .int)) : ∀ (σ : GS) (x1 : Int32) (x2 : Int32) (x3 : Int32), f_X2_wanted_42 P σ x1 x2 x3 → gW dM p l e (gRm 70 2686 0 0) s m args below meth c r A (zI P) 0 0 4 42 [(0, .ref r.2.1), (1, .int x1), (2, .int x2), (3, .int x3)] [] 0 0 σ := by
  obtain ⟨hx, hb, hml, hown, hts, hlk, hKK, hA⟩ := id K
  intro σ x1 x2 x3 hf H locs ls hM hl
  unfold f_X2_wanted_42 at hf
  refine lv_aload_n hx hb dX2_wanted_42 rfl (lv_at hl 0 rfl) ?_
  refine g_cVv [] [] K kM hM hl (c_X2_findWanted l r A _ _ hf) q1784 q1786 qs63 q84 q1787 hdX2_findWanted ⟨Nat.le_of_ble_eq_true rfl, Nat.le_of_ble_eq_true rfl⟩ ⟨Nat.le_refl _, Nat.le_refl _⟩ rfl (Nat.le_of_ble_eq_true rfl) dX2_wanted_43 (fun σ1 H locs hf hM => ?_)
  refine lv_iload_n hx hb dX2_wanted_46 rfl (lv_at hl 3 rfl) ?_
  refine lv_if_eq (tgt := 57) hx hb dX2_wanted_47 (by decide) (fun b3 => ?_) (fun b3 => ?_)
  · replace hf := hf.1 b3
    refine lv_iload_n hx hb dX2_wanted_57 rfl (lv_at hl 2 rfl) ?_
    refine lv_if_ne (tgt := 70) hx hb dX2_wanted_58 (by decide) (fun b4 => ?_) (fun b4 => ?_)
    · replace hf := hf.2 b4
      refine lv_aload_n hx hb dX2_wanted_70 rfl (lv_at hl 0 rfl) ?_
      refine lv_iload_n hx hb dX2_wanted_71 rfl (lv_at hl 1 rfl) ?_
      refine g_cVi [.int x1] [] K kM hM hl (c_X2_over l r A _ _ _ hf) q1792 q1794 qs65 q84 q1795 hdX2_over ⟨Nat.le_of_ble_eq_true rfl, Nat.le_of_ble_eq_true rfl⟩ ⟨Nat.le_refl _, Nat.le_refl _⟩ rfl (Nat.le_of_ble_eq_true rfl) dX2_wanted_72 (fun σ5 v6 H locs hf hM => ?_)
      exact g_reti K hr hM ⟨Nat.le_refl _, Nat.le_refl _⟩ hf dX2_wanted_75
    · replace hf := hf.1 b4
      refine lv_aload_n hx hb dX2_wanted_61 rfl (lv_at hl 0 rfl) ?_
      refine g_geta K kM hM 33 rfl q1486 rfl dX2_wanted_62 rfl ?_
      refine lv_iload_n hx hb dX2_wanted_65 rfl (lv_at hl 1 rfl) ?_
      obtain ⟨g7, hf⟩ := hf
      refine g_iald K hM 33 rfl rfl rfl g7 dX2_wanted_66 ?_
      refine lv_goto (tgt := 75) hx hb dX2_wanted_67 (by decide) ?_
      exact g_reti K hr hM ⟨Nat.le_refl _, Nat.le_refl _⟩ hf dX2_wanted_75
  · replace hf := hf.2 b3
    refine lv_aload_n hx hb dX2_wanted_50 rfl (lv_at hl 0 rfl) ?_
    refine g_cVi [] [] K kM hM hl (c_X2_bothOver l r A _ _ hf) q1788 q1790 qs64 q84 q1791 hdX2_bothOver ⟨Nat.le_of_ble_eq_true rfl, Nat.le_of_ble_eq_true rfl⟩ ⟨Nat.le_refl _, Nat.le_refl _⟩ rfl (Nat.le_of_ble_eq_true rfl) dX2_wanted_51 (fun σ8 v9 H locs hf hM => ?_)
    refine lv_goto (tgt := 75) hx hb dX2_wanted_54 (by decide) ?_
    exact g_reti K hr hM ⟨Nat.le_refl _, Nat.le_refl _⟩ hf dX2_wanted_75
theorem w_X2_wanted_15 {p : Program} {l : Launch} {e : Env} {s : State} {m : MethodId} {args : Array Value} {below : List Frame} {meth : Method} {c : Code} {r : GR} {A : Nat → Prop} {P : GS → Int32 → Prop} (K : gC p s m args meth c cX2_wanted 4 RX2 r A) (hr : meth.sig.returnType = (some .int)) : ∀ (σ : GS) (x1 : Int32) (x2 : Int32) (t0 : Int32), f_X2_wanted_15 P σ x1 x2 t0 → gW dM p l e (gRm 70 2686 0 0) s m args below meth c r A (zI P) 0 0 4 15 [(0, .ref r.2.1), (1, .int x1), (2, .int x2)] [.int t0] 0 0 σ := by
  obtain ⟨hx, hb, hml, hown, hts, hlk, hKK, hA⟩ := id K
  intro σ x1 x2 t0 hf H locs ls hM hl
  unfold f_X2_wanted_15 at hf
  refine lv_istore_n (lv' := [(3, .int t0), (0, .ref r.2.1), (1, .int x1), (2, .int x2)]) hx hb dX2_wanted_15 rfl hl (by decide) rfl (fun ls hl => ?_)
  refine lv_iload_n hx hb dX2_wanted_16 rfl (lv_at hl 0 rfl) ?_
  refine lv_if_ne (tgt := 42) hx hb dX2_wanted_17 (by decide) (fun b1 => ?_) (fun b1 => ?_)
  · replace hf := hf.2 b1
    exact w_X2_wanted_42 K hr _ _ _ _ hf _ _ _ hM (lv_sub hl [1, 2, 3, 0] rfl)
  · replace hf := hf.1 b1
    refine lv_aload_n hx hb dX2_wanted_20 rfl (lv_at hl 1 rfl) ?_
    refine lv_iload_n hx hb dX2_wanted_21 rfl (lv_at hl 2 rfl) ?_
    refine g_cVi [.int x1] [] K kM hM hl (c_X2_isThing l r A _ _ _ hf) q1657 q1659 qs41 q84 q1660 hdX2_isThing ⟨Nat.le_of_ble_eq_true rfl, Nat.le_of_ble_eq_true rfl⟩ ⟨Nat.le_refl _, Nat.le_refl _⟩ rfl (Nat.le_of_ble_eq_true rfl) dX2_wanted_22 (fun σ2 v3 H locs hf hM => ?_)
    refine lv_if_eq (tgt := 38) hx hb dX2_wanted_25 (by decide) (fun b4 => ?_) (fun b4 => ?_)
    · replace hf := hf.1 b4
      refine lv_ldcw hx hb hown (hts _ q1783) dX2_wanted_38 ?_
      exact g_reti K hr hM ⟨Nat.le_refl _, Nat.le_refl _⟩ hf dX2_wanted_41
    · replace hf := hf.2 b4
      refine lv_iload_n hx hb dX2_wanted_28 rfl (lv_at hl 3 rfl) ?_
      refine lv_i2l hx hb dX2_wanted_29 rfl ?_
      refine lv_lconst (v := 0) hx hb dX2_wanted_30 rfl ?_
      refine lv_lconst (v := 1) hx hb dX2_wanted_31 rfl ?_
      refine g_cSi [.long x2.toInt64, .long (0 : Int64), .long (1 : Int64)] [] K hM hl (c_X2_within l r A _ _ _ _ _ hf) q1632 q1633 q84 q1634 hdX2_within ⟨Nat.le_of_ble_eq_true rfl, Nat.le_of_ble_eq_true rfl⟩ ⟨Nat.le_refl _, Nat.le_refl _⟩ rfl (Nat.le_of_ble_eq_true rfl) dX2_wanted_32 (fun σ5 v6 H locs hf hM => ?_)
      refine lv_if_ne (tgt := 42) hx hb dX2_wanted_35 (by decide) (fun b7 => ?_) (fun b7 => ?_)
      · replace hf := hf.2 b7
        exact w_X2_wanted_42 K hr _ _ _ _ hf _ _ _ hM (lv_sub hl [1, 2, 3, 0] rfl)
      · replace hf := hf.1 b7
        refine lv_ldcw hx hb hown (hts _ q1783) dX2_wanted_38 ?_
        exact g_reti K hr hM ⟨Nat.le_refl _, Nat.le_refl _⟩ hf dX2_wanted_41
theorem w_X2_wanted_14 {p : Program} {l : Launch} {e : Env} {s : State} {m : MethodId} {args : Array Value} {below : List Frame} {meth : Method} {c : Code} {r : GR} {A : Nat → Prop} {P : GS → Int32 → Prop} (K : gC p s m args meth c cX2_wanted 4 RX2 r A) (hr : meth.sig.returnType = (some .int)) : ∀ (σ : GS) (x1 : Int32) (x2 : Int32), f_X2_wanted_14 P σ x1 x2 → gW dM p l e (gRm 70 2686 0 0) s m args below meth c r A (zI P) 0 0 4 14 [(0, .ref r.2.1), (1, .int x1), (2, .int x2)] [] 0 0 σ := by
  obtain ⟨hx, hb, hml, hown, hts, hlk, hKK, hA⟩ := id K
  intro σ x1 x2 hf H locs ls hM hl
  unfold f_X2_wanted_14 at hf
  refine lv_iconst (v := 0) hx hb dX2_wanted_14 rfl ?_
  exact w_X2_wanted_15 K hr _ _ _ _ hf _ _ _ hM (lv_sub hl [0, 1, 2] rfl)
theorem c_X2_wanted (l : Launch) (r : GR) (A : Nat → Prop) (σ : GS) (x1 : Int32) (x2 : Int32) (P : GS → Int32 → Prop) (hf : f_X2_wanted σ x1 x2 P) : gMet dM l yX2_wanted cX2_wanted 4 (some .int) 70 2686 0 0 r A σ [.ref r.2.1, .int x1, .int x2] (zI P) := by
  refine g_enter (lv := [(0, .ref r.2.1), (1, .int x1), (2, .int x2)]) (by decide) (Nat.le_of_ble_eq_true rfl) rfl ?_
  intro p e s m below meth c ls K hr hM hl _
  obtain ⟨hx, hb, hml, hown, hts, hlk, hKK, hA⟩ := id K
  unfold f_X2_wanted at hf
  refine lv_iload_n hx hb dX2_wanted_0 rfl (lv_at hl 1 rfl) ?_
  refine lv_iconst (v := -1) hx hb dX2_wanted_1 rfl ?_
  refine lv_icmp_ne (tgt := 14) hx hb dX2_wanted_2 (by decide) (fun b1 => ?_) (fun b1 => ?_)
  · replace hf := hf.2 b1
    exact w_X2_wanted_14 K hr _ _ _ hf _ _ _ hM (lv_sub hl [0, 1, 2] rfl)
  · replace hf := hf.1 b1
    refine lv_iload_n hx hb dX2_wanted_5 rfl (lv_at hl 2 rfl) ?_
    refine lv_iconst (v := 1) hx hb dX2_wanted_6 rfl ?_
    refine lv_icmp_ne (tgt := 14) hx hb dX2_wanted_7 (by decide) (fun b2 => ?_) (fun b2 => ?_)
    · replace hf := hf.2 b2
      exact w_X2_wanted_14 K hr _ _ _ hf _ _ _ hM (lv_sub hl [0, 1, 2] rfl)
    · replace hf := hf.1 b2
      refine lv_iconst (v := 1) hx hb dX2_wanted_10 rfl ?_
      refine lv_goto (tgt := 15) hx hb dX2_wanted_11 (by decide) ?_
      exact w_X2_wanted_15 K hr _ _ _ _ hf _ _ _ hM (lv_sub hl [0, 1, 2] rfl)
theorem c_X2_led (l : Launch) (r : GR) (A : Nat → Prop) (σ : GS) (x1 : Int32) (x2 : Int32) (P : GS → Int32 → Prop) (hf : f_X2_led σ x1 x2 P) : gMet dM l yX2_led cX2_led 3 (some .int) 70 2686 0 0 r A σ [.ref r.2.1, .int x1, .int x2] (zI P) := by
  refine g_enter (lv := [(0, .ref r.2.1), (1, .int x1), (2, .int x2)]) (by decide) (Nat.le_of_ble_eq_true rfl) rfl ?_
  intro p e s m below meth c ls K hr hM hl _
  obtain ⟨hx, hb, hml, hown, hts, hlk, hKK, hA⟩ := id K
  unfold f_X2_led at hf
  refine lv_aload_n hx hb dX2_led_0 rfl (lv_at hl 0 rfl) ?_
  refine lv_iload_n hx hb dX2_led_1 rfl (lv_at hl 1 rfl) ?_
  refine g_cVi [.int x1] [] K kM hM hl (c_X2_isThing l r A _ _ _ hf) q1657 q1659 qs41 q84 q1660 hdX2_isThing ⟨Nat.le_of_ble_eq_true rfl, Nat.le_of_ble_eq_true rfl⟩ ⟨Nat.le_refl _, Nat.le_refl _⟩ rfl (Nat.le_of_ble_eq_true rfl) dX2_led_2 (fun σ1 v2 H locs hf hM => ?_)
  refine lv_if_eq (tgt := 16) hx hb dX2_led_5 (by decide) (fun b3 => ?_) (fun b3 => ?_)
  · replace hf := hf.1 b3
    refine lv_iconst (v := -1) hx hb dX2_led_16 rfl ?_
    exact g_reti K hr hM ⟨Nat.le_refl _, Nat.le_refl _⟩ hf dX2_led_17
  · replace hf := hf.2 b3
    refine lv_aload_n hx hb dX2_led_8 rfl (lv_at hl 0 rfl) ?_
    refine lv_iload_n hx hb dX2_led_9 rfl (lv_at hl 2 rfl) ?_
    refine g_cVi [.int x2] [] K kM hM hl (c_X2_isSort l r A _ _ _ hf) q1674 q1676 qs43 q84 q1677 hdX2_isSort ⟨Nat.le_of_ble_eq_true rfl, Nat.le_of_ble_eq_true rfl⟩ ⟨Nat.le_refl _, Nat.le_refl _⟩ rfl (Nat.le_of_ble_eq_true rfl) dX2_led_10 (fun σ4 v5 H locs hf hM => ?_)
    refine lv_if_ne (tgt := 18) hx hb dX2_led_13 (by decide) (fun b6 => ?_) (fun b6 => ?_)
    · replace hf := hf.2 b6
      refine lv_aload_n hx hb dX2_led_18 rfl (lv_at hl 0 rfl) ?_
      refine g_cVv [] [] K kM hM hl (c_X2_findWanted l r A _ _ hf) q1784 q1786 qs63 q84 q1787 hdX2_findWanted ⟨Nat.le_of_ble_eq_true rfl, Nat.le_of_ble_eq_true rfl⟩ ⟨Nat.le_refl _, Nat.le_refl _⟩ rfl (Nat.le_of_ble_eq_true rfl) dX2_led_19 (fun σ7 H locs hf hM => ?_)
      refine lv_aload_n hx hb dX2_led_22 rfl (lv_at hl 0 rfl) ?_
      refine g_geta K kM hM 34 rfl q1487 rfl dX2_led_23 rfl ?_
      refine lv_bipush (v := 6) hx hb dX2_led_26 rfl ?_
      refine lv_iload_n hx hb dX2_led_28 rfl (lv_at hl 2 rfl) ?_
      refine lv_imul hx hb dX2_led_29 ?_
      refine lv_iload_n hx hb dX2_led_30 rfl (lv_at hl 1 rfl) ?_
      refine lv_iadd hx hb dX2_led_31 ?_
      obtain ⟨g9, hf⟩ := hf
      refine g_iald K hM 34 rfl rfl rfl g9 dX2_led_32 ?_
      exact g_reti K hr hM ⟨Nat.le_refl _, Nat.le_refl _⟩ hf dX2_led_33
    · replace hf := hf.1 b6
      refine lv_iconst (v := -1) hx hb dX2_led_16 rfl ?_
      exact g_reti K hr hM ⟨Nat.le_refl _, Nat.le_refl _⟩ hf dX2_led_17

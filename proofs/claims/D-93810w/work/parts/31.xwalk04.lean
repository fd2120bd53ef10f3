set_option maxRecDepth 100000
set_option maxHeartbeats 4000000
theorem w_X0_months_65 {p : Program} {l : Launch} {e : Env} {s : State} {m : MethodId} {args : Array Value} {below : List Frame} {meth : Method} {c : Code} {r : GR} {A : Nat → Prop} {P : GS → Int32 → Prop} (K : gC p s m args meth c cX0_months 13 RX0 r A) (hr : meth.sig.returnType = (some .int)) : ∀ (n : Nat) (σ : GS) (x2 : Int32) (x3 : Int32) (x4 : Int32) (x5 : Nat) (x6 : Int32) (x7 : Int32) (x8 : Int32) (x9 : Int32), f_X0_months_65 r P n σ x2 x3 x4 x5 x6 x7 x8 x9 → gW dX p l e (gRm 205 8121 0 0) s m args below meth c r A (zI P) 0 0 13 65 [(0, .ref r.2.1), (2, .int x2), (3, .int x3), (4, .int x4), (5, .ref x5), (6, .int x6), (7, .int x7), (8, .int x8), (9, .int x9)] [] 0 0 σ := by
  obtain ⟨hx, hb, hml, hown, hts, hlk, hKK, hA⟩ := id K
  intro n
  induction n with
  | zero =>
    intro σ x2 x3 x4 x5 x6 x7 x8 x9 hf
    exact absurd hf (fun h => h)
  | succ n ih =>
    intro σ x2 x3 x4 x5 x6 x7 x8 x9 hf H locs ls hM hl
    rw [f_X0_months_65] at hf
    refine lv_iload hx hb dX0_months_65 (lv_at hl 8 rfl) ?_
    refine lv_iload_n hx hb dX0_months_67 rfl (lv_at hl 1 rfl) ?_
    refine lv_icmp_ge (tgt := 144) hx hb dX0_months_68 (by decide) (fun b1 => ?_) (fun b1 => ?_)
    · replace hf := hf.1 b1
      refine lv_iload hx hb dX0_months_144 (lv_at hl 3 rfl) ?_
      refine lv_if_ne (tgt := 154) hx hb dX0_months_146 (by decide) (fun b2 => ?_) (fun b2 => ?_)
      · replace hf := hf.2 b2
        refine lv_iload hx hb dX0_months_154 (lv_at hl 6 rfl) ?_
        refine lv_iload hx hb dX0_months_156 (lv_at hl 7 rfl) ?_
        refine lv_iadd hx hb dX0_months_158 ?_
        exact g_reti K hr hM ⟨Nat.le_refl _, Nat.le_refl _⟩ hf dX0_months_159
      · replace hf := hf.1 b2
        refine lv_iload hx hb dX0_months_149 (lv_at hl 5 rfl) ?_
        refine lv_goto (tgt := 159) hx hb dX0_months_151 (by decide) ?_
        exact g_reti K hr hM ⟨Nat.le_refl _, Nat.le_refl _⟩ hf dX0_months_159
    · replace hf := hf.2 b1
      refine lv_iconst (v := 0) hx hb dX0_months_71 rfl ?_
      refine lv_iload hx hb dX0_months_72 (lv_at hl 7 rfl) ?_
      refine lv_iload_n hx hb dX0_months_74 rfl (lv_at hl 2 rfl) ?_
      refine lv_isub hx hb dX0_months_75 ?_
      refine va_mmax hx hb (hml.trans hl.1.symm) hown (hts _ q811) (hts _ q642) (hts _ q99) (hts _ q643) (Nat.le_of_ble_eq_true rfl) (Nat.le_of_ble_eq_true rfl) (Nat.zero_le _) (Nat.zero_le _) dX0_months_76 ?_
      refine lv_topi (fun z3 hz3 => ?_)
      have hf := hf z3 hz3
      refine lv_istore (lv' := [(10, .int z3), (0, .ref r.2.1), (2, .int x2), (3, .int x3), (4, .int x4), (5, .ref x5), (6, .int x6), (7, .int x7), (8, .int x8), (9, .int x9)]) hx hb dX0_months_79 hl (by decide) rfl (fun ls hl => ?_)
      refine lv_iload hx hb dX0_months_81 (lv_at hl 7 rfl) ?_
      refine lv_iload hx hb dX0_months_83 (lv_at hl 0 rfl) ?_
      refine lv_iadd hx hb dX0_months_85 ?_
      refine lv_istore (lv' := [(7, .int (x7 + z3)), (10, .int z3), (0, .ref r.2.1), (2, .int x2), (3, .int x3), (4, .int x4), (5, .ref x5), (6, .int x6), (8, .int x8), (9, .int x9)]) hx hb dX0_months_86 hl (by decide) rfl (fun ls hl => ?_)
      refine lv_aload hx hb dX0_months_88 (lv_at hl 6 rfl) ?_
      obtain ⟨f6, h7, hf⟩ := hf
      refine g_runi (rP [] [] K kY5 hM hl h7 (c_X5_points l r A _ _ _ hf) q467 q468 q469 q95 q470 hdX5_points ⟨Nat.le_of_ble_eq_true rfl, Nat.le_of_ble_eq_true rfl⟩ ⟨Nat.le_refl _, Nat.le_refl _⟩ rfl (Nat.le_of_ble_eq_true rfl) dX0_months_90) hM (fun σ4 v5 H locs hf hM => ?_)
      refine lv_iload hx hb dX0_months_93 (lv_at hl 8 rfl) ?_
      refine lv_iadd hx hb dX0_months_95 ?_
      refine lv_iload hx hb dX0_months_96 (lv_at hl 1 rfl) ?_
      refine lv_isub hx hb dX0_months_98 ?_
      refine lv_istore (lv' := [(11, .int ((v5 + x8) - z3)), (7, .int (x7 + z3)), (10, .int z3), (0, .ref r.2.1), (2, .int x2), (3, .int x3), (4, .int x4), (5, .ref x5), (6, .int x6), (8, .int x8), (9, .int x9)]) hx hb dX0_months_99 hl (by decide) rfl (fun ls hl => ?_)
      refine lv_aload_n hx hb dX0_months_101 rfl (lv_at hl 3 rfl) ?_
      refine lv_aload hx hb dX0_months_102 (lv_at hl 7 rfl) ?_
      obtain ⟨v9, h8, hf⟩ := hf
      refine p_getN K kY5 hM 3 rfl q442 rfl dX0_months_104 h8 ?_
      refine lv_iload hx hb dX0_months_107 (lv_at hl 0 rfl) ?_
      refine g_runi (rV [.int v9, .int ((v5 + x8) - z3)] [] K kX hM hl (c_X0_bestBy l r A _ _ _ _ hf) q832 q834 qs24 q82 q835 hdX0_bestBy ⟨Nat.le_of_ble_eq_true rfl, Nat.le_of_ble_eq_true rfl⟩ ⟨Nat.le_refl _, Nat.le_refl _⟩ rfl (Nat.le_of_ble_eq_true rfl) dX0_months_109) hM (fun σ10 v11 H locs hf hM => ?_)
      refine lv_istore (lv' := [(12, .int v11), (11, .int ((v5 + x8) - z3)), (7, .int (x7 + z3)), (10, .int z3), (0, .ref r.2.1), (2, .int x2), (3, .int x3), (4, .int x4), (5, .ref x5), (6, .int x6), (8, .int x8), (9, .int x9)]) hx hb dX0_months_112 hl (by decide) rfl (fun ls hl => ?_)
      refine lv_iload hx hb dX0_months_114 (lv_at hl 9 rfl) ?_
      refine lv_aload_n hx hb dX0_months_116 rfl (lv_at hl 4 rfl) ?_
      refine g_geta K kX hM 12 rfl q175 rfl dX0_months_117 rfl ?_
      refine lv_iload hx hb dX0_months_120 (lv_at hl 0 rfl) ?_
      obtain ⟨g12, hf⟩ := hf
      refine g_iald K hM 12 rfl rfl rfl g12 dX0_months_122 ?_
      refine lv_iadd hx hb dX0_months_123 ?_
      refine lv_istore (lv' := [(6, .int (x6 + (gA σ10 12 v11.toNatClampNeg))), (12, .int v11), (11, .int ((v5 + x8) - z3)), (7, .int (x7 + z3)), (10, .int z3), (0, .ref r.2.1), (2, .int x2), (3, .int x3), (4, .int x4), (5, .ref x5), (8, .int x8), (9, .int x9)]) hx hb dX0_months_124 hl (by decide) rfl (fun ls hl => ?_)
      refine lv_iload hx hb dX0_months_126 (lv_at hl 2 rfl) ?_
      refine lv_aload_n hx hb dX0_months_128 rfl (lv_at hl 5 rfl) ?_
      refine g_geta K kX hM 14 rfl q177 rfl dX0_months_129 rfl ?_
      refine lv_iload hx hb dX0_months_132 (lv_at hl 1 rfl) ?_
      obtain ⟨g13, hf⟩ := hf
      refine g_iald K hM 14 rfl rfl rfl g13 dX0_months_134 ?_
      refine lv_isub hx hb dX0_months_135 ?_
      refine lv_topi (fun z14 hz14 => ?_)
      have hf := hf z14 hz14
      refine lv_istore (lv' := [(8, .int z14), (6, .int (x6 + (gA σ10 12 v11.toNatClampNeg))), (12, .int v11), (11, .int ((v5 + x8) - z3)), (7, .int (x7 + z3)), (10, .int z3), (0, .ref r.2.1), (2, .int x2), (3, .int x3), (4, .int x4), (5, .ref x5), (9, .int x9)]) hx hb dX0_months_136 hl (by decide) rfl (fun ls hl => ?_)
      refine lv_iinc (v := x9 + 1) (lv' := [(9, .int (x9 + 1)), (8, .int z14), (6, .int (x6 + (gA σ10 12 v11.toNatClampNeg))), (12, .int v11), (11, .int ((v5 + x8) - z3)), (7, .int (x7 + z3)), (10, .int z3), (0, .ref r.2.1), (2, .int x2), (3, .int x3), (4, .int x4), (5, .ref x5)]) hx hb dX0_months_138 hl (k := 11) rfl rfl (by decide) rfl (fun ls hl => ?_)
      refine lv_goto (tgt := 65) hx hb dX0_months_141 (by decide) ?_
      exact ih _ _ _ _ _ _ _ _ _ hf _ _ _ hM (lv_sub hl [7, 8, 9, 10, 11, 2, 5, 1, 0] rfl)
theorem c_X0_months (l : Launch) (r : GR) (A : Nat → Prop) (σ : GS) (x1 : Int32) (x2 : Int32) (x3 : Int32) (x4 : Int32) (P : GS → Int32 → Prop) (hf : f_X0_months r σ x1 x2 x3 x4 P) : gMet dX l yX0_months cX0_months 13 (some .int) 205 8121 0 0 r A σ [.ref r.2.1, .int x1, .int x2, .int x3, .int x4] (zI P) := by
  refine g_enter (lv := [(0, .ref r.2.1), (1, .int x1), (2, .int x2), (3, .int x3), (4, .int x4)]) (by decide) (Nat.le_of_ble_eq_true rfl) rfl ?_
  intro p e s m below meth c ls K hr hM hl hi
  obtain ⟨hx, hb, hml, hown, hts, hlk, hKK, hA⟩ := id K
  unfold f_X0_months at hf
  refine lv_aload_n hx hb dX0_months_0 rfl (lv_at hl 0 rfl) ?_
  refine lv_iload_n hx hb dX0_months_1 rfl (lv_at hl 1 rfl) ?_
  refine g_runi (rV [.int x1] [] K kX hM hl (c_X0_isSort l r A _ _ _ hf) q463 q465 qs2 q82 q466 hdX0_isSort ⟨Nat.le_of_ble_eq_true rfl, Nat.le_of_ble_eq_true rfl⟩ ⟨Nat.le_refl _, Nat.le_refl _⟩ rfl (Nat.le_of_ble_eq_true rfl) dX0_months_2) hM (fun σ1 v2 H locs hf hM => ?_)
  refine lv_if_eq (tgt := 38) hx hb dX0_months_5 (by decide) (fun b3 => ?_) (fun b3 => ?_)
  · replace hf := hf.1 b3
    refine lv_iconst (v := -1) hx hb dX0_months_38 rfl ?_
    exact g_reti K hr hM ⟨Nat.le_refl _, Nat.le_refl _⟩ hf dX0_months_39
  · replace hf := hf.2 b3
    refine lv_iload_n hx hb dX0_months_8 rfl (lv_at hl 2 rfl) ?_
    refine lv_iconst (v := 1) hx hb dX0_months_9 rfl ?_
    refine lv_bipush (v := 12) hx hb dX0_months_10 rfl ?_
    refine g_runi (rS [.int x2, .int (1 : Int32), .int (12 : Int32)] [] K hM hl (c_X0_in l r A _ _ _ _ _ hf) q261 q262 q82 q263 hdX0_in ⟨Nat.le_of_ble_eq_true rfl, Nat.le_of_ble_eq_true rfl⟩ ⟨Nat.le_refl _, Nat.le_refl _⟩ rfl (Nat.le_of_ble_eq_true rfl) dX0_months_12) hM (fun σ4 v5 H locs hf hM => ?_)
    refine lv_if_eq (tgt := 38) hx hb dX0_months_15 (by decide) (fun b6 => ?_) (fun b6 => ?_)
    · replace hf := hf.1 b6
      refine lv_iconst (v := -1) hx hb dX0_months_38 rfl ?_
      exact g_reti K hr hM ⟨Nat.le_refl _, Nat.le_refl _⟩ hf dX0_months_39
    · replace hf := hf.2 b6
      refine lv_iload_n hx hb dX0_months_18 rfl (lv_at hl 3 rfl) ?_
      refine lv_iconst (v := 0) hx hb dX0_months_19 rfl ?_
      refine lv_bipush (v := 99) hx hb dX0_months_20 rfl ?_
      refine g_runi (rS [.int x3, .int (0 : Int32), .int (99 : Int32)] [] K hM hl (c_X0_in l r A _ _ _ _ _ hf) q261 q262 q82 q263 hdX0_in ⟨Nat.le_of_ble_eq_true rfl, Nat.le_of_ble_eq_true rfl⟩ ⟨Nat.le_refl _, Nat.le_refl _⟩ rfl (Nat.le_of_ble_eq_true rfl) dX0_months_22) hM (fun σ7 v8 H locs hf hM => ?_)
      refine lv_if_eq (tgt := 38) hx hb dX0_months_25 (by decide) (fun b9 => ?_) (fun b9 => ?_)
      · replace hf := hf.1 b9
        refine lv_iconst (v := -1) hx hb dX0_months_38 rfl ?_
        exact g_reti K hr hM ⟨Nat.le_refl _, Nat.le_refl _⟩ hf dX0_months_39
      · replace hf := hf.2 b9
        refine lv_iload hx hb dX0_months_28 (lv_at hl 4 rfl) ?_
        refine lv_iconst (v := 0) hx hb dX0_months_30 rfl ?_
        refine lv_iconst (v := 1) hx hb dX0_months_31 rfl ?_
        refine g_runi (rS [.int x4, .int (0 : Int32), .int (1 : Int32)] [] K hM hl (c_X0_in l r A _ _ _ _ _ hf) q261 q262 q82 q263 hdX0_in ⟨Nat.le_of_ble_eq_true rfl, Nat.le_of_ble_eq_true rfl⟩ ⟨Nat.le_refl _, Nat.le_refl _⟩ rfl (Nat.le_of_ble_eq_true rfl) dX0_months_32) hM (fun σ10 v11 H locs hf hM => ?_)
        refine lv_if_ne (tgt := 40) hx hb dX0_months_35 (by decide) (fun b12 => ?_) (fun b12 => ?_)
        · replace hf := hf.2 b12
          refine lv_aload_n hx hb dX0_months_40 rfl (lv_at hl 0 rfl) ?_
          refine g_geta K kX hM 1 rfl q162 rfl dX0_months_41 rfl ?_
          refine lv_iload_n hx hb dX0_months_44 rfl (lv_at hl 1 rfl) ?_
          obtain ⟨g13, hf⟩ := hf
          obtain ⟨a14, h15, hf⟩ := hf
          refine g_aaldS K hM 1 rfl rfl rfl rfl g13 h15 dX0_months_45 ?_
          refine lv_astore (lv' := [(5, .ref a14), (0, .ref r.2.1), (1, .int x1), (2, .int x2), (3, .int x3), (4, .int x4)]) hx hb dX0_months_46 hl (by decide) rfl (fun ls hl => ?_)
          refine lv_aload_n hx hb dX0_months_48 rfl (lv_at hl 1 rfl) ?_
          refine lv_iload_n hx hb dX0_months_49 rfl (lv_at hl 2 rfl) ?_
          refine g_runv (rV [.int x1] [] K kX hM hl (c_X0_look l r A _ _ _ hf) q820 q822 qs21 q82 q823 hdX0_look ⟨Nat.le_of_ble_eq_true rfl, Nat.le_of_ble_eq_true rfl⟩ ⟨Nat.le_refl _, Nat.le_refl _⟩ rfl (Nat.le_of_ble_eq_true rfl) dX0_months_50) hM (fun σ16 H locs hf hM => ?_)
          refine lv_iconst (v := 0) hx hb dX0_months_53 rfl ?_
          refine lv_istore (lv' := [(6, .int (0 : Int32)), (5, .ref a14), (0, .ref r.2.1), (1, .int x1), (2, .int x2), (3, .int x3), (4, .int x4)]) hx hb dX0_months_54 hl (by decide) rfl (fun ls hl => ?_)
          refine lv_iconst (v := 0) hx hb dX0_months_56 rfl ?_
          refine lv_istore (lv' := [(7, .int (0 : Int32)), (6, .int (0 : Int32)), (5, .ref a14), (0, .ref r.2.1), (1, .int x1), (2, .int x2), (3, .int x3), (4, .int x4)]) hx hb dX0_months_57 hl (by decide) rfl (fun ls hl => ?_)
          refine lv_iconst (v := 0) hx hb dX0_months_59 rfl ?_
          refine lv_istore (lv' := [(8, .int (0 : Int32)), (7, .int (0 : Int32)), (6, .int (0 : Int32)), (5, .ref a14), (0, .ref r.2.1), (1, .int x1), (2, .int x2), (3, .int x3), (4, .int x4)]) hx hb dX0_months_60 hl (by decide) rfl (fun ls hl => ?_)
          refine lv_iconst (v := 0) hx hb dX0_months_62 rfl ?_
          refine lv_istore (lv' := [(9, .int (0 : Int32)), (8, .int (0 : Int32)), (7, .int (0 : Int32)), (6, .int (0 : Int32)), (5, .ref a14), (0, .ref r.2.1), (1, .int x1), (2, .int x2), (3, .int x3), (4, .int x4)]) hx hb dX0_months_63 hl (by decide) rfl (fun ls hl => ?_)
          obtain ⟨n_, hf⟩ := hf
          exact w_X0_months_65 K hr n_ _ _ _ _ _ _ _ _ _ hf _ _ _ hM (lv_sub hl [5, 7, 8, 9, 4, 3, 2, 1, 0] rfl)
        · replace hf := hf.1 b12
          refine lv_iconst (v := -1) hx hb dX0_months_38 rfl ?_
          exact g_reti K hr hM ⟨Nat.le_refl _, Nat.le_refl _⟩ hf dX0_months_39
theorem w_X0_foresight_181 {p : Program} {l : Launch} {e : Env} {s : State} {m : MethodId} {args : Array Value} {below : List Frame} {meth : Method} {c : Code} {r : GR} {A : Nat → Prop} {P : GS → Int32 → Prop} (K : gC p s m args meth c cX0_foresight 7 RX0 r A) (hr : meth.sig.returnType = (some .int)) : ∀ (n : Nat) (σ : GS) (x2 : Nat) (x3 : Int32) (x4 : Int32) (x5 : Int32) (x6 : Int32), f_X0_foresight_181 r P n σ x2 x3 x4 x5 x6 → gW dX p l e (gRm 207 8163 0 0) s m args below meth c r A (zI P) 0 0 7 181 [(0, .ref r.2.1), (2, .ref x2), (3, .int x3), (4, .int x4), (5, .int x5), (6, .int x6)] [] 0 0 σ := by
  obtain ⟨hx, hb, hml, hown, hts, hlk, hKK, hA⟩ := id K
  intro n
  induction n with
  | zero =>
    intro σ x2 x3 x4 x5 x6 hf
    exact absurd hf (fun h => h)
  | succ n ih =>
    intro σ x2 x3 x4 x5 x6 hf H locs ls hM hl
    rw [f_X0_foresight_181] at hf
    refine lv_iload hx hb dX0_foresight_181 (lv_at hl 5 rfl) ?_
    refine lv_aload_n hx hb dX0_foresight_183 rfl (lv_at hl 1 rfl) ?_
    obtain ⟨f3, h4, hf⟩ := hf
    refine g_runi (rP [] [.int x6] K kY5 hM hl h4 (c_X5_points l r A _ _ _ hf) q467 q468 q469 q95 q470 hdX5_points ⟨Nat.le_of_ble_eq_true rfl, Nat.le_of_ble_eq_true rfl⟩ ⟨Nat.le_refl _, Nat.le_refl _⟩ rfl (Nat.le_of_ble_eq_true rfl) dX0_foresight_184) hM (fun σ1 v2 H locs hf hM => ?_)
    refine lv_icmp_gt (tgt := 221) hx hb dX0_foresight_187 (by decide) (fun b5 => ?_) (fun b5 => ?_)
    · replace hf := hf.1 b5
      refine lv_iload hx hb dX0_foresight_221 (lv_at hl 4 rfl) ?_
      refine lv_iconst (v := 2) hx hb dX0_foresight_223 rfl ?_
      refine lv_iload_n hx hb dX0_foresight_224 rfl (lv_at hl 2 rfl) ?_
      refine lv_imul hx hb dX0_foresight_225 ?_
      refine lv_isub hx hb dX0_foresight_226 ?_
      exact g_reti K hr hM ⟨Nat.le_refl _, Nat.le_refl _⟩ hf dX0_foresight_227
    · replace hf := hf.2 b5
      refine lv_iload hx hb dX0_foresight_190 (lv_at hl 4 rfl) ?_
      refine lv_aload_n hx hb dX0_foresight_192 rfl (lv_at hl 0 rfl) ?_
      refine g_geta K kX hM 24 rfl q187 rfl dX0_foresight_193 rfl ?_
      refine lv_iload hx hb dX0_foresight_196 (lv_at hl 5 rfl) ?_
      obtain ⟨g6, hf⟩ := hf
      refine g_iald K hM 24 rfl rfl rfl g6 dX0_foresight_198 ?_
      refine lv_aload_n hx hb dX0_foresight_199 rfl (lv_at hl 0 rfl) ?_
      refine g_geta K kX hM 24 rfl q187 rfl dX0_foresight_200 rfl ?_
      refine lv_iload hx hb dX0_foresight_203 (lv_at hl 3 rfl) ?_
      refine lv_iload hx hb dX0_foresight_205 (lv_at hl 5 rfl) ?_
      refine lv_isub hx hb dX0_foresight_207 ?_
      obtain ⟨g7, hf⟩ := hf
      refine g_iald K hM 24 rfl rfl rfl g7 dX0_foresight_208 ?_
      refine lv_iadd hx hb dX0_foresight_209 ?_
      refine va_mmax hx hb (hml.trans hl.1.symm) hown (hts _ q811) (hts _ q642) (hts _ q99) (hts _ q643) (Nat.le_of_ble_eq_true rfl) (Nat.le_of_ble_eq_true rfl) (Nat.zero_le _) (Nat.zero_le _) dX0_foresight_210 ?_
      refine lv_topi (fun z8 hz8 => ?_)
      have hf := hf z8 hz8
      refine lv_istore (lv' := [(5, .int z8), (0, .ref r.2.1), (2, .ref x2), (3, .int x3), (4, .int x4), (6, .int x6)]) hx hb dX0_foresight_213 hl (by decide) rfl (fun ls hl => ?_)
      refine lv_iinc (v := x6 + 1) (lv' := [(6, .int (x6 + 1)), (5, .int z8), (0, .ref r.2.1), (2, .ref x2), (3, .int x3), (4, .int x4)]) hx hb dX0_foresight_215 hl (k := 5) rfl rfl (by decide) rfl (fun ls hl => ?_)
      refine lv_goto (tgt := 181) hx hb dX0_foresight_218 (by decide) ?_
      exact ih _ _ _ _ _ _ hf _ _ _ hM (lv_sub hl [2, 3, 4, 5, 1, 0] rfl)
theorem w_X0_foresight_136 {p : Program} {l : Launch} {e : Env} {s : State} {m : MethodId} {args : Array Value} {below : List Frame} {meth : Method} {c : Code} {r : GR} {A : Nat → Prop} {P : GS → Int32 → Prop} (K : gC p s m args meth c cX0_foresight 7 RX0 r A) (hr : meth.sig.returnType = (some .int)) : ∀ (n : Nat) (σ : GS) (x2 : Nat) (x3 : Int32) (x4 : Int32) (x5 : Int32), f_X0_foresight_136 r P n σ x2 x3 x4 x5 → gW dX p l e (gRm 207 8163 0 0) s m args below meth c r A (zI P) 0 0 7 136 [(0, .ref r.2.1), (2, .ref x2), (3, .int x3), (4, .int x4), (5, .int x5)] [] 0 0 σ := by
  obtain ⟨hx, hb, hml, hown, hts, hlk, hKK, hA⟩ := id K
  intro n
  induction n with
  | zero =>
    intro σ x2 x3 x4 x5 hf
    exact absurd hf (fun h => h)
  | succ n ih =>
    intro σ x2 x3 x4 x5 hf H locs ls hM hl
    rw [f_X0_foresight_136] at hf
    refine lv_iload hx hb dX0_foresight_136 (lv_at hl 4 rfl) ?_
    refine lv_iload hx hb dX0_foresight_138 (lv_at hl 3 rfl) ?_
    refine lv_icmp_gt (tgt := 175) hx hb dX0_foresight_140 (by decide) (fun b1 => ?_) (fun b1 => ?_)
    · replace hf := hf.1 b1
      refine lv_iconst (v := 0) hx hb dX0_foresight_175 rfl ?_
      refine lv_istore (lv' := [(5, .int (0 : Int32)), (0, .ref r.2.1), (2, .ref x2), (3, .int x3), (4, .int x4)]) hx hb dX0_foresight_176 hl (by decide) rfl (fun ls hl => ?_)
      refine lv_iconst (v := 0) hx hb dX0_foresight_178 rfl ?_
      refine lv_istore (lv' := [(6, .int (0 : Int32)), (5, .int (0 : Int32)), (0, .ref r.2.1), (2, .ref x2), (3, .int x3), (4, .int x4)]) hx hb dX0_foresight_179 hl (by decide) rfl (fun ls hl => ?_)
      obtain ⟨n_, hf⟩ := hf
      exact w_X0_foresight_181 K hr n_ _ _ _ _ _ _ hf _ _ _ hM (lv_sub hl [2, 3, 4, 5, 1, 0] rfl)
    · replace hf := hf.2 b1
      refine lv_aload_n hx hb dX0_foresight_143 rfl (lv_at hl 0 rfl) ?_
      refine g_geta K kX hM 24 rfl q187 rfl dX0_foresight_144 rfl ?_
      refine lv_iload hx hb dX0_foresight_147 (lv_at hl 4 rfl) ?_
      refine lv_aload_n hx hb dX0_foresight_149 rfl (lv_at hl 0 rfl) ?_
      refine g_geta K kX hM 24 rfl q187 rfl dX0_foresight_150 rfl ?_
      refine lv_iload hx hb dX0_foresight_153 (lv_at hl 4 rfl) ?_
      obtain ⟨g2, hf⟩ := hf
      refine g_iald K hM 24 rfl rfl rfl g2 dX0_foresight_155 ?_
      refine lv_aload_n hx hb dX0_foresight_156 rfl (lv_at hl 0 rfl) ?_
      refine g_geta K kX hM 24 rfl q187 rfl dX0_foresight_157 rfl ?_
      refine lv_iload hx hb dX0_foresight_160 (lv_at hl 4 rfl) ?_
      refine lv_iconst (v := 1) hx hb dX0_foresight_162 rfl ?_
      refine lv_isub hx hb dX0_foresight_163 ?_
      obtain ⟨g3, hf⟩ := hf
      refine g_iald K hM 24 rfl rfl rfl g3 dX0_foresight_164 ?_
      refine va_mmax hx hb (hml.trans hl.1.symm) hown (hts _ q811) (hts _ q642) (hts _ q99) (hts _ q643) (Nat.le_of_ble_eq_true rfl) (Nat.le_of_ble_eq_true rfl) (Nat.zero_le _) (Nat.zero_le _) dX0_foresight_165 ?_
      obtain ⟨g4, hf⟩ := hf
      refine g_iastN K hM 24 rfl rfl rfl g4 dX0_foresight_168 (fun H locs σ5 hσ5 hM => ?_)
      have hf := hf σ5 hσ5
      refine lv_iinc (v := x5 + 1) (lv' := [(5, .int (x5 + 1)), (0, .ref r.2.1), (2, .ref x2), (3, .int x3), (4, .int x4)]) hx hb dX0_foresight_169 hl (k := 4) rfl rfl (by decide) rfl (fun ls hl => ?_)
      refine lv_goto (tgt := 136) hx hb dX0_foresight_172 (by decide) ?_
      exact ih _ _ _ _ _ hf _ _ _ hM (lv_sub hl [1, 2, 3, 4, 0] rfl)
theorem w_X0_foresight_127 {p : Program} {l : Launch} {e : Env} {s : State} {m : MethodId} {args : Array Value} {below : List Frame} {meth : Method} {c : Code} {r : GR} {A : Nat → Prop} {P : GS → Int32 → Prop} {k58 : GS → Nat → Int32 → Int32 → Int32 → Prop} (K : gC p s m args meth c cX0_foresight 7 RX0 r A) (hr : meth.sig.returnType = (some .int)) (H58 : ∀ (σ : GS) (x2 : Nat) (x3 : Int32) (x4 : Int32) (x5 : Int32), k58 σ x2 x3 x4 x5 → gW dX p l e (gRm 207 8163 0 0) s m args below meth c r A (zI P) 0 0 7 58 [(0, .ref r.2.1), (2, .ref x2), (3, .int x3), (4, .int x4), (5, .int x5)] [] 0 0 σ) : ∀ (σ : GS) (x2 : Nat) (x3 : Int32) (x4 : Int32) (x5 : Int32), f_X0_foresight_127 r k58 P σ x2 x3 x4 x5 → gW dX p l e (gRm 207 8163 0 0) s m args below meth c r A (zI P) 0 0 7 127 [(0, .ref r.2.1), (2, .ref x2), (3, .int x3), (4, .int x4), (5, .int x5)] [] 0 0 σ := by
  obtain ⟨hx, hb, hml, hown, hts, hlk, hKK, hA⟩ := id K
  intro σ x2 x3 x4 x5 hf H locs ls hM hl
  unfold f_X0_foresight_127 at hf
  refine lv_iinc (v := x5 + 1) (lv' := [(5, .int (x5 + 1)), (0, .ref r.2.1), (2, .ref x2), (3, .int x3), (4, .int x4)]) hx hb dX0_foresight_127 hl (k := 4) rfl rfl (by decide) rfl (fun ls hl => ?_)
  refine lv_goto (tgt := 58) hx hb dX0_foresight_130 (by decide) ?_
  exact H58 _ _ _ _ _ hf _ _ _ hM (lv_sub hl [1, 2, 3, 4, 0] rfl)
theorem w_X0_foresight_58 {p : Program} {l : Launch} {e : Env} {s : State} {m : MethodId} {args : Array Value} {below : List Frame} {meth : Method} {c : Code} {r : GR} {A : Nat → Prop} {P : GS → Int32 → Prop} (K : gC p s m args meth c cX0_foresight 7 RX0 r A) (hr : meth.sig.returnType = (some .int)) : ∀ (n : Nat) (σ : GS) (x2 : Nat) (x3 : Int32) (x4 : Int32) (x5 : Int32), f_X0_foresight_58 r P n σ x2 x3 x4 x5 → gW dX p l e (gRm 207 8163 0 0) s m args below meth c r A (zI P) 0 0 7 58 [(0, .ref r.2.1), (2, .ref x2), (3, .int x3), (4, .int x4), (5, .int x5)] [] 0 0 σ := by
  obtain ⟨hx, hb, hml, hown, hts, hlk, hKK, hA⟩ := id K
  intro n
  induction n with
  | zero =>
    intro σ x2 x3 x4 x5 hf
    exact absurd hf (fun h => h)
  | succ n ih =>
    intro σ x2 x3 x4 x5 hf H locs ls hM hl
    rw [f_X0_foresight_58] at hf
    refine lv_iload hx hb dX0_foresight_58 (lv_at hl 4 rfl) ?_
    refine lv_aload_n hx hb dX0_foresight_60 rfl (lv_at hl 0 rfl) ?_
    refine g_runi (rV [] [.int x5] K kX hM hl (c_X0_basketMany l r A _ _ hf) q824 q826 qs22 q82 q827 hdX0_basketMany ⟨Nat.le_of_ble_eq_true rfl, Nat.le_of_ble_eq_true rfl⟩ ⟨Nat.le_refl _, Nat.le_refl _⟩ rfl (Nat.le_of_ble_eq_true rfl) dX0_foresight_61) hM (fun σ1 v2 H locs hf hM => ?_)
    refine lv_icmp_ge (tgt := 133) hx hb dX0_foresight_64 (by decide) (fun b3 => ?_) (fun b3 => ?_)
    · replace hf := hf.1 b3
      refine lv_iconst (v := 1) hx hb dX0_foresight_133 rfl ?_
      refine lv_istore (lv' := [(5, .int (1 : Int32)), (0, .ref r.2.1), (2, .ref x2), (3, .int x3), (4, .int x4)]) hx hb dX0_foresight_134 hl (by decide) rfl (fun ls hl => ?_)
      obtain ⟨n_, hf⟩ := hf
      exact w_X0_foresight_136 K hr n_ _ _ _ _ _ hf _ _ _ hM (lv_sub hl [1, 2, 3, 4, 0] rfl)
    · replace hf := hf.2 b3
      refine lv_aload_n hx hb dX0_foresight_67 rfl (lv_at hl 0 rfl) ?_
      refine g_geta K kX hM 13 rfl q176 rfl dX0_foresight_68 rfl ?_
      refine lv_iload hx hb dX0_foresight_71 (lv_at hl 4 rfl) ?_
      obtain ⟨g4, hf⟩ := hf
      refine g_iald K hM 13 rfl rfl rfl g4 dX0_foresight_73 ?_
      refine lv_aload_n hx hb dX0_foresight_74 rfl (lv_at hl 1 rfl) ?_
      obtain ⟨v6, h5, hf⟩ := hf
      refine p_getN K kY5 hM 3 rfl q442 rfl dX0_foresight_75 h5 ?_
      refine lv_icmp_gt (tgt := 127) hx hb dX0_foresight_78 (by decide) (fun b7 => ?_) (fun b7 => ?_)
      · replace hf := hf.1 b7
        exact w_X0_foresight_127 K hr ih _ _ _ _ _ hf _ _ _ hM (lv_sub hl [0, 1, 2, 3, 4] rfl)
      · replace hf := hf.2 b7
        refine lv_aload_n hx hb dX0_foresight_81 rfl (lv_at hl 0 rfl) ?_
        refine g_geta K kX hM 14 rfl q177 rfl dX0_foresight_82 rfl ?_
        refine lv_iload hx hb dX0_foresight_85 (lv_at hl 4 rfl) ?_
        obtain ⟨g8, hf⟩ := hf
        refine g_iald K hM 14 rfl rfl rfl g8 dX0_foresight_87 ?_
        refine lv_iload hx hb dX0_foresight_88 (lv_at hl 3 rfl) ?_
        refine lv_icmp_gt (tgt := 127) hx hb dX0_foresight_90 (by decide) (fun b9 => ?_) (fun b9 => ?_)
        · replace hf := hf.1 b9
          exact w_X0_foresight_127 K hr ih _ _ _ _ _ hf _ _ _ hM (lv_sub hl [0, 1, 2, 3, 4] rfl)
        · replace hf := hf.2 b9
          refine lv_aload_n hx hb dX0_foresight_93 rfl (lv_at hl 0 rfl) ?_
          refine g_geta K kX hM 24 rfl q187 rfl dX0_foresight_94 rfl ?_
          refine lv_aload_n hx hb dX0_foresight_97 rfl (lv_at hl 0 rfl) ?_
          refine g_geta K kX hM 14 rfl q177 rfl dX0_foresight_98 rfl ?_
          refine lv_iload hx hb dX0_foresight_101 (lv_at hl 4 rfl) ?_
          obtain ⟨g10, hf⟩ := hf
          refine g_iald K hM 14 rfl rfl rfl g10 dX0_foresight_103 ?_
          refine lv_aload_n hx hb dX0_foresight_104 rfl (lv_at hl 0 rfl) ?_
          refine g_geta K kX hM 24 rfl q187 rfl dX0_foresight_105 rfl ?_
          refine lv_aload_n hx hb dX0_foresight_108 rfl (lv_at hl 0 rfl) ?_
          refine g_geta K kX hM 14 rfl q177 rfl dX0_foresight_109 rfl ?_
          refine lv_iload hx hb dX0_foresight_112 (lv_at hl 4 rfl) ?_
          obtain ⟨g11, hf⟩ := hf
          refine g_iald K hM 14 rfl rfl rfl g11 dX0_foresight_114 ?_
          obtain ⟨g12, hf⟩ := hf
          refine g_iald K hM 24 rfl rfl rfl g12 dX0_foresight_115 ?_
          refine lv_aload_n hx hb dX0_foresight_116 rfl (lv_at hl 0 rfl) ?_
          refine g_geta K kX hM 12 rfl q175 rfl dX0_foresight_117 rfl ?_
          refine lv_iload hx hb dX0_foresight_120 (lv_at hl 4 rfl) ?_
          obtain ⟨g13, hf⟩ := hf
          refine g_iald K hM 12 rfl rfl rfl g13 dX0_foresight_122 ?_
          refine va_mmax hx hb (hml.trans hl.1.symm) hown (hts _ q811) (hts _ q642) (hts _ q99) (hts _ q643) (Nat.le_of_ble_eq_true rfl) (Nat.le_of_ble_eq_true rfl) (Nat.zero_le _) (Nat.zero_le _) dX0_foresight_123 ?_
          obtain ⟨g14, hf⟩ := hf
          refine g_iastN K hM 24 rfl rfl rfl g14 dX0_foresight_126 (fun H locs σ15 hσ15 hM => ?_)
          have hf := hf σ15 hσ15
          exact w_X0_foresight_127 K hr ih _ _ _ _ _ hf _ _ _ hM (lv_sub hl [0, 1, 2, 3, 4] rfl)
theorem w_X0_foresight_34 {p : Program} {l : Launch} {e : Env} {s : State} {m : MethodId} {args : Array Value} {below : List Frame} {meth : Method} {c : Code} {r : GR} {A : Nat → Prop} {P : GS → Int32 → Prop} (K : gC p s m args meth c cX0_foresight 7 RX0 r A) (hr : meth.sig.returnType = (some .int)) : ∀ (n : Nat) (σ : GS) (x2 : Nat) (x3 : Int32) (x4 : Int32) (x5 : Int32), f_X0_foresight_34 r P n σ x2 x3 x4 x5 → gW dX p l e (gRm 207 8163 0 0) s m args below meth c r A (zI P) 0 0 7 34 [(0, .ref r.2.1), (2, .ref x2), (3, .int x3), (4, .int x4), (5, .int x5)] [] 0 0 σ := by
  obtain ⟨hx, hb, hml, hown, hts, hlk, hKK, hA⟩ := id K
  intro n
  induction n with
  | zero =>
    intro σ x2 x3 x4 x5 hf
    exact absurd hf (fun h => h)
  | succ n ih =>
    intro σ x2 x3 x4 x5 hf H locs ls hM hl
    rw [f_X0_foresight_34] at hf
    refine lv_iload hx hb dX0_foresight_34 (lv_at hl 4 rfl) ?_
    refine lv_iload hx hb dX0_foresight_36 (lv_at hl 3 rfl) ?_
    refine lv_icmp_gt (tgt := 55) hx hb dX0_foresight_38 (by decide) (fun b1 => ?_) (fun b1 => ?_)
    · replace hf := hf.1 b1
      refine lv_iconst (v := 0) hx hb dX0_foresight_55 rfl ?_
      refine lv_istore (lv' := [(5, .int (0 : Int32)), (0, .ref r.2.1), (2, .ref x2), (3, .int x3), (4, .int x4)]) hx hb dX0_foresight_56 hl (by decide) rfl (fun ls hl => ?_)
      obtain ⟨n_, hf⟩ := hf
      exact w_X0_foresight_58 K hr n_ _ _ _ _ _ hf _ _ _ hM (lv_sub hl [1, 2, 3, 4, 0] rfl)
    · replace hf := hf.2 b1
      refine lv_aload_n hx hb dX0_foresight_41 rfl (lv_at hl 0 rfl) ?_
      refine g_geta K kX hM 24 rfl q187 rfl dX0_foresight_42 rfl ?_
      refine lv_iload hx hb dX0_foresight_45 (lv_at hl 4 rfl) ?_
      refine lv_iconst (v := 0) hx hb dX0_foresight_47 rfl ?_
      obtain ⟨g2, hf⟩ := hf
      refine g_iastN K hM 24 rfl rfl rfl g2 dX0_foresight_48 (fun H locs σ3 hσ3 hM => ?_)
      have hf := hf σ3 hσ3
      refine lv_iinc (v := x5 + 1) (lv' := [(5, .int (x5 + 1)), (0, .ref r.2.1), (2, .ref x2), (3, .int x3), (4, .int x4)]) hx hb dX0_foresight_49 hl (k := 4) rfl rfl (by decide) rfl (fun ls hl => ?_)
      refine lv_goto (tgt := 34) hx hb dX0_foresight_52 (by decide) ?_
      exact ih _ _ _ _ _ hf _ _ _ hM (lv_sub hl [1, 2, 3, 4, 0] rfl)
theorem c_X0_foresight (l : Launch) (r : GR) (A : Nat → Prop) (σ : GS) (x1 : Int32) (P : GS → Int32 → Prop) (hf : f_X0_foresight r σ x1 P) : gMet dX l yX0_foresight cX0_foresight 7 (some .int) 207 8163 0 0 r A σ [.ref r.2.1, .int x1] (zI P) := by
  refine g_enter (lv := [(0, .ref r.2.1), (1, .int x1)]) (by decide) (Nat.le_of_ble_eq_true rfl) rfl ?_
  intro p e s m below meth c ls K hr hM hl hi
  obtain ⟨hx, hb, hml, hown, hts, hlk, hKK, hA⟩ := id K
  unfold f_X0_foresight at hf
  refine lv_aload_n hx hb dX0_foresight_0 rfl (lv_at hl 0 rfl) ?_
  refine lv_iload_n hx hb dX0_foresight_1 rfl (lv_at hl 1 rfl) ?_
  refine g_runi (rV [.int x1] [] K kX hM hl (c_X0_isSort l r A _ _ _ hf) q463 q465 qs2 q82 q466 hdX0_isSort ⟨Nat.le_of_ble_eq_true rfl, Nat.le_of_ble_eq_true rfl⟩ ⟨Nat.le_refl _, Nat.le_refl _⟩ rfl (Nat.le_of_ble_eq_true rfl) dX0_foresight_2) hM (fun σ1 v2 H locs hf hM => ?_)
  refine lv_if_ne (tgt := 10) hx hb dX0_foresight_5 (by decide) (fun b3 => ?_) (fun b3 => ?_)
  · replace hf := hf.2 b3
    refine lv_aload_n hx hb dX0_foresight_10 rfl (lv_at hl 0 rfl) ?_
    refine g_geta K kX hM 1 rfl q162 rfl dX0_foresight_11 rfl ?_
    refine lv_iload_n hx hb dX0_foresight_14 rfl (lv_at hl 1 rfl) ?_
    obtain ⟨g4, hf⟩ := hf
    obtain ⟨a5, h6, hf⟩ := hf
    refine g_aaldS K hM 1 rfl rfl rfl rfl g4 h6 dX0_foresight_15 ?_
    refine lv_astore_n (lv' := [(2, .ref a5), (0, .ref r.2.1), (1, .int x1)]) hx hb dX0_foresight_16 rfl hl (by decide) rfl (fun ls hl => ?_)
    refine lv_aload_n hx hb dX0_foresight_17 rfl (lv_at hl 1 rfl) ?_
    refine lv_iload_n hx hb dX0_foresight_18 rfl (lv_at hl 2 rfl) ?_
    refine g_runi (rV [.int x1] [] K kX hM hl (c_X0_bestWorth l r A _ _ _ hf) q900 q902 qs33 q82 q903 hdX0_bestWorth ⟨Nat.le_of_ble_eq_true rfl, Nat.le_of_ble_eq_true rfl⟩ ⟨Nat.le_refl _, Nat.le_refl _⟩ rfl (Nat.le_of_ble_eq_true rfl) dX0_foresight_19) hM (fun σ7 v8 H locs hf hM => ?_)
    refine lv_istore_n (lv' := [(3, .int v8), (2, .ref a5), (0, .ref r.2.1), (1, .int x1)]) hx hb dX0_foresight_22 rfl hl (by decide) rfl (fun ls hl => ?_)
    refine lv_iconst (v := 2) hx hb dX0_foresight_23 rfl ?_
    refine lv_aload_n hx hb dX0_foresight_24 rfl (lv_at hl 1 rfl) ?_
    obtain ⟨f11, h12, hf⟩ := hf
    refine g_runi (rP [] [.int (2 : Int32)] K kY5 hM hl h12 (c_X5_points l r A _ _ _ hf) q467 q468 q469 q95 q470 hdX5_points ⟨Nat.le_of_ble_eq_true rfl, Nat.le_of_ble_eq_true rfl⟩ ⟨Nat.le_refl _, Nat.le_refl _⟩ rfl (Nat.le_of_ble_eq_true rfl) dX0_foresight_25) hM (fun σ9 v10 H locs hf hM => ?_)
    refine lv_imul hx hb dX0_foresight_28 ?_
    refine lv_istore (lv' := [(4, .int ((2 : Int32) * v10)), (3, .int v8), (2, .ref a5), (0, .ref r.2.1), (1, .int x1)]) hx hb dX0_foresight_29 hl (by decide) rfl (fun ls hl => ?_)
    refine lv_iconst (v := 0) hx hb dX0_foresight_31 rfl ?_
    refine lv_istore (lv' := [(5, .int (0 : Int32)), (4, .int ((2 : Int32) * v10)), (3, .int v8), (2, .ref a5), (0, .ref r.2.1), (1, .int x1)]) hx hb dX0_foresight_32 hl (by decide) rfl (fun ls hl => ?_)
    obtain ⟨n_, hf⟩ := hf
    exact w_X0_foresight_34 K hr n_ _ _ _ _ _ hf _ _ _ hM (lv_sub hl [4, 3, 2, 1, 0] rfl)
  · replace hf := hf.1 b3
    refine lv_iconst (v := -1) hx hb dX0_foresight_8 rfl ?_
    exact g_reti K hr hM ⟨Nat.le_refl _, Nat.le_refl _⟩ hf dX0_foresight_9
theorem w_X0_cheap_78 {p : Program} {l : Launch} {e : Env} {s : State} {m : MethodId} {args : Array Value} {below : List Frame} {meth : Method} {c : Code} {r : GR} {A : Nat → Prop} {P : GS → Int32 → Prop} {k17 : GS → Int32 → Int32 → Int32 → Prop} (K : gC p s m args meth c cX0_cheap 4 RX0 r A) (hr : meth.sig.returnType = (some .int)) (H17 : ∀ (σ : GS) (x1 : Int32) (x2 : Int32) (x3 : Int32), k17 σ x1 x2 x3 → gW dX p l e (gRm 1 22 0 0) s m args below meth c r A (zI P) 0 0 4 17 [(0, .ref r.2.1), (1, .int x1), (2, .int x2), (3, .int x3)] [] 0 0 σ) : ∀ (σ : GS) (x1 : Int32) (x2 : Int32) (x3 : Int32), f_X0_cheap_78 r k17 P σ x1 x2 x3 → gW dX p l e (gRm 1 22 0 0) s m args below meth c r A (zI P) 0 0 4 78 [(0, .ref r.2.1), (1, .int x1), (2, .int x2), (3, .int x3)] [] 0 0 σ := by
  obtain ⟨hx, hb, hml, hown, hts, hlk, hKK, hA⟩ := id K
  intro σ x1 x2 x3 hf H locs ls hM hl
  unfold f_X0_cheap_78 at hf
  refine lv_iinc (v := x3 + 1) (lv' := [(3, .int (x3 + 1)), (0, .ref r.2.1), (1, .int x1), (2, .int x2)]) hx hb dX0_cheap_78 hl (k := 3) rfl rfl (by decide) rfl (fun ls hl => ?_)
  refine lv_goto (tgt := 17) hx hb dX0_cheap_81 (by decide) ?_
  exact H17 _ _ _ _ hf _ _ _ hM (lv_sub hl [1, 2, 3, 0] rfl)
theorem w_X0_cheap_76 {p : Program} {l : Launch} {e : Env} {s : State} {m : MethodId} {args : Array Value} {below : List Frame} {meth : Method} {c : Code} {r : GR} {A : Nat → Prop} {P : GS → Int32 → Prop} {k17 : GS → Int32 → Int32 → Int32 → Prop} (K : gC p s m args meth c cX0_cheap 4 RX0 r A) (hr : meth.sig.returnType = (some .int)) (H17 : ∀ (σ : GS) (x1 : Int32) (x2 : Int32) (x3 : Int32), k17 σ x1 x2 x3 → gW dX p l e (gRm 1 22 0 0) s m args below meth c r A (zI P) 0 0 4 17 [(0, .ref r.2.1), (1, .int x1), (2, .int x2), (3, .int x3)] [] 0 0 σ) : ∀ (σ : GS) (x1 : Int32) (x3 : Int32), f_X0_cheap_76 r k17 P σ x1 x3 → gW dX p l e (gRm 1 22 0 0) s m args below meth c r A (zI P) 0 0 4 76 [(0, .ref r.2.1), (1, .int x1), (3, .int x3)] [] 0 0 σ := by
  obtain ⟨hx, hb, hml, hown, hts, hlk, hKK, hA⟩ := id K
  intro σ x1 x3 hf H locs ls hM hl
  unfold f_X0_cheap_76 at hf
  refine lv_iload_n hx hb dX0_cheap_76 rfl (lv_at hl 2 rfl) ?_
  refine lv_istore_n (lv' := [(2, .int x3), (0, .ref r.2.1), (1, .int x1), (3, .int x3)]) hx hb dX0_cheap_77 rfl hl (by decide) rfl (fun ls hl => ?_)
  exact w_X0_cheap_78 K hr H17 _ _ _ _ hf _ _ _ hM (lv_sub hl [1, 2, 0, 3] rfl)
theorem w_X0_cheap_17 {p : Program} {l : Launch} {e : Env} {s : State} {m : MethodId} {args : Array Value} {below : List Frame} {meth : Method} {c : Code} {r : GR} {A : Nat → Prop} {P : GS → Int32 → Prop} (K : gC p s m args meth c cX0_cheap 4 RX0 r A) (hr : meth.sig.returnType = (some .int)) : ∀ (n : Nat) (σ : GS) (x1 : Int32) (x2 : Int32) (x3 : Int32), f_X0_cheap_17 r P n σ x1 x2 x3 → gW dX p l e (gRm 1 22 0 0) s m args below meth c r A (zI P) 0 0 4 17 [(0, .ref r.2.1), (1, .int x1), (2, .int x2), (3, .int x3)] [] 0 0 σ := by
  obtain ⟨hx, hb, hml, hown, hts, hlk, hKK, hA⟩ := id K
  intro n
  induction n with
  | zero =>
    intro σ x1 x2 x3 hf
    exact absurd hf (fun h => h)
  | succ n ih =>
    intro σ x1 x2 x3 hf H locs ls hM hl
    rw [f_X0_cheap_17] at hf
    refine lv_iload_n hx hb dX0_cheap_17 rfl (lv_at hl 3 rfl) ?_
    refine lv_aload_n hx hb dX0_cheap_18 rfl (lv_at hl 0 rfl) ?_
    refine g_geti K kX hM 2 rfl q163 rfl dX0_cheap_19 rfl ?_
    refine lv_icmp_ge (tgt := 84) hx hb dX0_cheap_22 (by decide) (fun b1 => ?_) (fun b1 => ?_)
    · replace hf := hf.1 b1
      refine lv_iload_n hx hb dX0_cheap_84 rfl (lv_at hl 2 rfl) ?_
      exact g_reti K hr hM ⟨Nat.le_refl _, Nat.le_refl _⟩ hf dX0_cheap_85
    · replace hf := hf.2 b1
      refine lv_aload_n hx hb dX0_cheap_25 rfl (lv_at hl 0 rfl) ?_
      refine g_geta K kX hM 0 rfl q161 rfl dX0_cheap_26 rfl ?_
      refine lv_iload_n hx hb dX0_cheap_29 rfl (lv_at hl 3 rfl) ?_
      obtain ⟨g2, hf⟩ := hf
      obtain ⟨a3, h4, hf⟩ := hf
      refine g_aaldS K hM 0 rfl rfl rfl rfl g2 h4 dX0_cheap_30 ?_
      obtain ⟨v6, h5, hf⟩ := hf
      refine p_getN K kY3 hM 0 rfl q270 rfl dX0_cheap_31 h5 ?_
      refine lv_aload_n hx hb dX0_cheap_34 rfl (lv_at hl 0 rfl) ?_
      refine g_geta K kX hM 0 rfl q161 rfl dX0_cheap_35 rfl ?_
      refine lv_iload_n hx hb dX0_cheap_38 rfl (lv_at hl 3 rfl) ?_
      obtain ⟨g7, hf⟩ := hf
      obtain ⟨a8, h9, hf⟩ := hf
      refine g_aaldS K hM 0 rfl rfl rfl rfl g7 h9 dX0_cheap_39 ?_
      obtain ⟨v11, h10, hf⟩ := hf
      refine p_getN K kY3 hM 2 rfl q274 rfl dX0_cheap_40 h10 ?_
      refine lv_iload_n hx hb dX0_cheap_43 rfl (lv_at hl 1 rfl) ?_
      refine lv_isub hx hb dX0_cheap_44 ?_
      refine lv_icmp_gt (tgt := 78) hx hb dX0_cheap_45 (by decide) (fun b12 => ?_) (fun b12 => ?_)
      · replace hf := hf.1 b12
        exact w_X0_cheap_78 K hr ih _ _ _ _ hf _ _ _ hM (lv_sub hl [0, 1, 2, 3] rfl)
      · replace hf := hf.2 b12
        refine lv_iload_n hx hb dX0_cheap_48 rfl (lv_at hl 2 rfl) ?_
        refine lv_if_lt (tgt := 76) hx hb dX0_cheap_49 (by decide) (fun b13 => ?_) (fun b13 => ?_)
        · replace hf := hf.1 b13
          exact w_X0_cheap_76 K hr ih _ _ _ hf _ _ _ hM (lv_sub hl [0, 1, 3] rfl)
        · replace hf := hf.2 b13
          refine lv_aload_n hx hb dX0_cheap_52 rfl (lv_at hl 0 rfl) ?_
          refine g_geta K kX hM 0 rfl q161 rfl dX0_cheap_53 rfl ?_
          refine lv_iload_n hx hb dX0_cheap_56 rfl (lv_at hl 3 rfl) ?_
          obtain ⟨g14, hf⟩ := hf
          obtain ⟨a15, h16, hf⟩ := hf
          refine g_aaldS K hM 0 rfl rfl rfl rfl g14 h16 dX0_cheap_57 ?_
          obtain ⟨v18, h17, hf⟩ := hf
          refine p_getN K kY3 hM 3 rfl q276 rfl dX0_cheap_58 h17 ?_
          refine lv_aload_n hx hb dX0_cheap_61 rfl (lv_at hl 0 rfl) ?_
          refine g_geta K kX hM 0 rfl q161 rfl dX0_cheap_62 rfl ?_
          refine lv_iload_n hx hb dX0_cheap_65 rfl (lv_at hl 2 rfl) ?_
          obtain ⟨g19, hf⟩ := hf
          obtain ⟨a20, h21, hf⟩ := hf
          refine g_aaldS K hM 0 rfl rfl rfl rfl g19 h21 dX0_cheap_66 ?_
          obtain ⟨v23, h22, hf⟩ := hf
          refine p_getN K kY3 hM 3 rfl q276 rfl dX0_cheap_67 h22 ?_
          refine lv_icmp_lt (tgt := 76) hx hb dX0_cheap_70 (by decide) (fun b24 => ?_) (fun b24 => ?_)
          · replace hf := hf.1 b24
            exact w_X0_cheap_76 K hr ih _ _ _ hf _ _ _ hM (lv_sub hl [0, 1, 3] rfl)
          · replace hf := hf.2 b24
            refine lv_goto (tgt := 78) hx hb dX0_cheap_73 (by decide) ?_
            exact w_X0_cheap_78 K hr ih _ _ _ _ hf _ _ _ hM (lv_sub hl [0, 1, 2, 3] rfl)
theorem c_X0_cheap (l : Launch) (r : GR) (A : Nat → Prop) (σ : GS) (x1 : Int32) (P : GS → Int32 → Prop) (hf : f_X0_cheap r σ x1 P) : gMet dX l yX0_cheap cX0_cheap 4 (some .int) 1 22 0 0 r A σ [.ref r.2.1, .int x1] (zI P) := by
  refine g_enter (lv := [(0, .ref r.2.1), (1, .int x1)]) (by decide) (Nat.le_of_ble_eq_true rfl) rfl ?_
  intro p e s m below meth c ls K hr hM hl hi
  obtain ⟨hx, hb, hml, hown, hts, hlk, hKK, hA⟩ := id K
  unfold f_X0_cheap at hf
  refine lv_iload_n hx hb dX0_cheap_0 rfl (lv_at hl 1 rfl) ?_
  refine lv_iconst (v := 0) hx hb dX0_cheap_1 rfl ?_
  refine lv_bipush (v := 99) hx hb dX0_cheap_2 rfl ?_
  refine g_runi (rS [.int x1, .int (0 : Int32), .int (99 : Int32)] [] K hM hl (c_X0_in l r A _ _ _ _ _ hf) q261 q262 q82 q263 hdX0_in ⟨Nat.le_of_ble_eq_true rfl, Nat.le_of_ble_eq_true rfl⟩ ⟨Nat.le_refl _, Nat.le_refl _⟩ rfl (Nat.le_of_ble_eq_true rfl) dX0_cheap_4) hM (fun σ1 v2 H locs hf hM => ?_)
  refine lv_if_ne (tgt := 12) hx hb dX0_cheap_7 (by decide) (fun b3 => ?_) (fun b3 => ?_)
  · replace hf := hf.2 b3
    refine lv_bipush (v := -2) hx hb dX0_cheap_12 rfl ?_
    refine lv_istore_n (lv' := [(2, .int (-2 : Int32)), (0, .ref r.2.1), (1, .int x1)]) hx hb dX0_cheap_14 rfl hl (by decide) rfl (fun ls hl => ?_)
    refine lv_iconst (v := 0) hx hb dX0_cheap_15 rfl ?_
    refine lv_istore_n (lv' := [(3, .int (0 : Int32)), (2, .int (-2 : Int32)), (0, .ref r.2.1), (1, .int x1)]) hx hb dX0_cheap_16 rfl hl (by decide) rfl (fun ls hl => ?_)
    obtain ⟨n_, hf⟩ := hf
    exact w_X0_cheap_17 K hr n_ _ _ _ _ hf _ _ _ hM (lv_sub hl [2, 3, 1, 0] rfl)
  · replace hf := hf.1 b3
    refine lv_iconst (v := -1) hx hb dX0_cheap_10 rfl ?_
    exact g_reti K hr hM ⟨Nat.le_refl _, Nat.le_refl _⟩ hf dX0_cheap_11
theorem c_J13_signum (l : Launch) (r : GR) (A : Nat → Prop) (σ : GS) (x0 : Int32) (P : GS → Int32 → Prop) (hf : f_J13_signum r σ x0 P) : gMet dX l yJ13_signum cJ13_signum 1 (some .int) 0 0 0 0 r A σ [.int x0] (zI P) := by
  refine g_enter (lv := [(0, .int x0)]) (by decide) (Nat.le_of_ble_eq_true rfl) rfl ?_
  intro p e s m below meth c ls K hr hM hl hi
  obtain ⟨hx, hb, hml, hown, hts, hlk, hKK, hA⟩ := id K
  unfold f_J13_signum at hf
  refine lv_iload_n hx hb dJ13_signum_0 rfl (lv_at hl 0 rfl) ?_
  refine lv_bipush (v := 31) hx hb dJ13_signum_1 rfl ?_
  refine lv_ishr hx hb dJ13_signum_3 ?_
  refine lv_iload_n hx hb dJ13_signum_4 rfl (lv_at hl 0 rfl) ?_
  refine lv_ineg hx hb dJ13_signum_5 ?_
  refine lv_bipush (v := 31) hx hb dJ13_signum_6 rfl ?_
  refine lv_iushr hx hb dJ13_signum_8 rfl ?_
  refine lv_ior hx hb dJ13_signum_9 ?_
  exact g_reti K hr hM ⟨Nat.le_refl _, Nat.le_refl _⟩ hf dJ13_signum_10
theorem w_X0_wrong_109 {p : Program} {l : Launch} {e : Env} {s : State} {m : MethodId} {args : Array Value} {below : List Frame} {meth : Method} {c : Code} {r : GR} {A : Nat → Prop} {P : GS → Int32 → Prop} (K : gC p s m args meth c cX0_wrong 6 RX0 r A) (hr : meth.sig.returnType = (some .int)) : ∀ (σ : GS) (x2 : Int32), f_X0_wrong_109 r P σ x2 → gW dX p l e (gRm 207 8165 0 0) s m args below meth c r A (zI P) 0 0 6 109 [(2, .int x2)] [] 0 0 σ := by
  obtain ⟨hx, hb, hml, hown, hts, hlk, hKK, hA⟩ := id K
  intro σ x2 hf H locs ls hM hl
  unfold f_X0_wrong_109 at hf
  refine lv_iload_n hx hb dX0_wrong_109 rfl (lv_at hl 0 rfl) ?_
  refine lv_goto (tgt := 131) hx hb dX0_wrong_110 (by decide) ?_
  exact g_reti K hr hM ⟨Nat.le_refl _, Nat.le_refl _⟩ hf dX0_wrong_131
theorem w_X0_wrong_95 {p : Program} {l : Launch} {e : Env} {s : State} {m : MethodId} {args : Array Value} {below : List Frame} {meth : Method} {c : Code} {r : GR} {A : Nat → Prop} {P : GS → Int32 → Prop} {k25 : GS → Int32 → Int32 → Int32 → Int32 → Prop} (K : gC p s m args meth c cX0_wrong 6 RX0 r A) (hr : meth.sig.returnType = (some .int)) (H25 : ∀ (σ : GS) (x1 : Int32) (x2 : Int32) (x3 : Int32) (x4 : Int32), k25 σ x1 x2 x3 x4 → gW dX p l e (gRm 207 8165 0 0) s m args below meth c r A (zI P) 0 0 6 25 [(0, .ref r.2.1), (1, .int x1), (2, .int x2), (3, .int x3), (4, .int x4)] [] 0 0 σ) : ∀ (σ : GS) (x1 : Int32) (x2 : Int32) (x3 : Int32) (x4 : Int32), f_X0_wrong_95 r k25 P σ x1 x2 x3 x4 → gW dX p l e (gRm 207 8165 0 0) s m args below meth c r A (zI P) 0 0 6 95 [(0, .ref r.2.1), (1, .int x1), (2, .int x2), (3, .int x3), (4, .int x4)] [] 0 0 σ := by
  obtain ⟨hx, hb, hml, hown, hts, hlk, hKK, hA⟩ := id K
  intro σ x1 x2 x3 x4 hf H locs ls hM hl
  unfold f_X0_wrong_95 at hf
  refine lv_iinc (v := x4 + 1) (lv' := [(4, .int (x4 + 1)), (0, .ref r.2.1), (1, .int x1), (2, .int x2), (3, .int x3)]) hx hb dX0_wrong_95 hl (k := 4) rfl rfl (by decide) rfl (fun ls hl => ?_)
  refine lv_goto (tgt := 25) hx hb dX0_wrong_98 (by decide) ?_
  exact H25 _ _ _ _ _ hf _ _ _ hM (lv_sub hl [1, 2, 3, 4, 0] rfl)
theorem w_X0_wrong_89 {p : Program} {l : Launch} {e : Env} {s : State} {m : MethodId} {args : Array Value} {below : List Frame} {meth : Method} {c : Code} {r : GR} {A : Nat → Prop} {P : GS → Int32 → Prop} {k25 : GS → Int32 → Int32 → Int32 → Int32 → Prop} (K : gC p s m args meth c cX0_wrong 6 RX0 r A) (hr : meth.sig.returnType = (some .int)) (H25 : ∀ (σ : GS) (x1 : Int32) (x2 : Int32) (x3 : Int32) (x4 : Int32), k25 σ x1 x2 x3 x4 → gW dX p l e (gRm 207 8165 0 0) s m args below meth c r A (zI P) 0 0 6 25 [(0, .ref r.2.1), (1, .int x1), (2, .int x2), (3, .int x3), (4, .int x4)] [] 0 0 σ) : ∀ (σ : GS) (x1 : Int32) (x4 : Int32) (x5 : Int32), f_X0_wrong_89 r k25 P σ x1 x4 x5 → gW dX p l e (gRm 207 8165 0 0) s m args below meth c r A (zI P) 0 0 6 89 [(0, .ref r.2.1), (1, .int x1), (4, .int x4), (5, .int x5)] [] 0 0 σ := by
  obtain ⟨hx, hb, hml, hown, hts, hlk, hKK, hA⟩ := id K
  intro σ x1 x4 x5 hf H locs ls hM hl
  unfold f_X0_wrong_89 at hf
  refine lv_iload hx hb dX0_wrong_89 (lv_at hl 2 rfl) ?_
  refine lv_istore_n (lv' := [(2, .int x4), (0, .ref r.2.1), (1, .int x1), (4, .int x4), (5, .int x5)]) hx hb dX0_wrong_91 rfl hl (by decide) rfl (fun ls hl => ?_)
  refine lv_iload hx hb dX0_wrong_92 (lv_at hl 4 rfl) ?_
  refine lv_istore_n (lv' := [(3, .int x5), (2, .int x4), (0, .ref r.2.1), (1, .int x1), (4, .int x4), (5, .int x5)]) hx hb dX0_wrong_94 rfl hl (by decide) rfl (fun ls hl => ?_)
  exact w_X0_wrong_95 K hr H25 _ _ _ _ _ hf _ _ _ hM (lv_sub hl [2, 3, 1, 0, 4] rfl)
theorem w_X0_wrong_25 {p : Program} {l : Launch} {e : Env} {s : State} {m : MethodId} {args : Array Value} {below : List Frame} {meth : Method} {c : Code} {r : GR} {A : Nat → Prop} {P : GS → Int32 → Prop} (K : gC p s m args meth c cX0_wrong 6 RX0 r A) (hr : meth.sig.returnType = (some .int)) : ∀ (n : Nat) (σ : GS) (x1 : Int32) (x2 : Int32) (x3 : Int32) (x4 : Int32), f_X0_wrong_25 r P n σ x1 x2 x3 x4 → gW dX p l e (gRm 207 8165 0 0) s m args below meth c r A (zI P) 0 0 6 25 [(0, .ref r.2.1), (1, .int x1), (2, .int x2), (3, .int x3), (4, .int x4)] [] 0 0 σ := by
  obtain ⟨hx, hb, hml, hown, hts, hlk, hKK, hA⟩ := id K
  intro n
  induction n with
  | zero =>
    intro σ x1 x2 x3 x4 hf
    exact absurd hf (fun h => h)
  | succ n ih =>
    intro σ x1 x2 x3 x4 hf H locs ls hM hl
    rw [f_X0_wrong_25] at hf
    refine lv_iload hx hb dX0_wrong_25 (lv_at hl 4 rfl) ?_
    refine lv_aload_n hx hb dX0_wrong_27 rfl (lv_at hl 0 rfl) ?_
    refine g_geti K kX hM 2 rfl q163 rfl dX0_wrong_28 rfl ?_
    refine lv_icmp_ge (tgt := 101) hx hb dX0_wrong_31 (by decide) (fun b1 => ?_) (fun b1 => ?_)
    · replace hf := hf.1 b1
      refine lv_iload_n hx hb dX0_wrong_101 rfl (lv_at hl 2 rfl) ?_
      refine lv_if_lt (tgt := 109) hx hb dX0_wrong_102 (by decide) (fun b2 => ?_) (fun b2 => ?_)
      · replace hf := hf.1 b2
        exact w_X0_wrong_109 K hr _ _ hf _ _ _ hM (lv_sub hl [2] rfl)
      · replace hf := hf.2 b2
        refine lv_iload_n hx hb dX0_wrong_105 rfl (lv_at hl 1 rfl) ?_
        refine lv_if_ne (tgt := 113) hx hb dX0_wrong_106 (by decide) (fun b3 => ?_) (fun b3 => ?_)
        · replace hf := hf.2 b3
          refine lv_iload_n hx hb dX0_wrong_113 rfl (lv_at hl 1 rfl) ?_
          refine lv_iconst (v := 1) hx hb dX0_wrong_114 rfl ?_
          refine lv_icmp_ne (tgt := 122) hx hb dX0_wrong_115 (by decide) (fun b4 => ?_) (fun b4 => ?_)
          · replace hf := hf.2 b4
            refine lv_aload_n hx hb dX0_wrong_122 rfl (lv_at hl 0 rfl) ?_
            refine lv_iload_n hx hb dX0_wrong_123 rfl (lv_at hl 2 rfl) ?_
            refine g_runi (rV [.int x2] [] K kX hM hl (c_X0_over l r A _ _ _ hf) q853 q855 qs28 q82 q856 hdX0_over ⟨Nat.le_of_ble_eq_true rfl, Nat.le_of_ble_eq_true rfl⟩ ⟨Nat.le_refl _, Nat.le_refl _⟩ rfl (Nat.le_of_ble_eq_true rfl) dX0_wrong_124) hM (fun σ5 v6 H locs hf hM => ?_)
            refine g_runi (rS [.int v6] [] K hM hl (c_J13_signum l r A _ _ _ hf) q965 q966 q109 q967 hdJ13_signum ⟨Nat.le_of_ble_eq_true rfl, Nat.le_of_ble_eq_true rfl⟩ ⟨Nat.le_refl _, Nat.le_refl _⟩ rfl (Nat.le_of_ble_eq_true rfl) dX0_wrong_127) hM (fun σ7 v8 H locs hf hM => ?_)
            refine lv_ineg hx hb dX0_wrong_130 ?_
            exact g_reti K hr hM ⟨Nat.le_refl _, Nat.le_refl _⟩ hf dX0_wrong_131
          · replace hf := hf.1 b4
            refine lv_iload_n hx hb dX0_wrong_118 rfl (lv_at hl 3 rfl) ?_
            refine lv_goto (tgt := 131) hx hb dX0_wrong_119 (by decide) ?_
            exact g_reti K hr hM ⟨Nat.le_refl _, Nat.le_refl _⟩ hf dX0_wrong_131
        · replace hf := hf.1 b3
          exact w_X0_wrong_109 K hr _ _ hf _ _ _ hM (lv_sub hl [2] rfl)
    · replace hf := hf.2 b1
      refine lv_aload_n hx hb dX0_wrong_34 rfl (lv_at hl 0 rfl) ?_
      refine g_geta K kX hM 0 rfl q161 rfl dX0_wrong_35 rfl ?_
      refine lv_iload hx hb dX0_wrong_38 (lv_at hl 4 rfl) ?_
      obtain ⟨g9, hf⟩ := hf
      obtain ⟨a10, h11, hf⟩ := hf
      refine g_aaldS K hM 0 rfl rfl rfl rfl g9 h11 dX0_wrong_40 ?_
      obtain ⟨v13, h12, hf⟩ := hf
      refine p_getN K kY3 hM 1 rfl q272 rfl dX0_wrong_41 h12 ?_
      refine lv_if_ne (tgt := 50) hx hb dX0_wrong_44 (by decide) (fun b14 => ?_) (fun b14 => ?_)
      · replace hf := hf.2 b14
        refine lv_sipush (v := 1000) hx hb dX0_wrong_50 rfl ?_
        refine lv_aload_n hx hb dX0_wrong_53 rfl (lv_at hl 0 rfl) ?_
        refine lv_iload hx hb dX0_wrong_54 (lv_at hl 4 rfl) ?_
        refine g_runi (rV [.int x4] [.int (1000 : Int32)] K kX hM hl (c_X0_over l r A _ _ _ hf) q853 q855 qs28 q82 q856 hdX0_over ⟨Nat.le_of_ble_eq_true rfl, Nat.le_of_ble_eq_true rfl⟩ ⟨Nat.le_refl _, Nat.le_refl _⟩ rfl (Nat.le_of_ble_eq_true rfl) dX0_wrong_56) hM (fun σ15 v16 H locs hf hM => ?_)
        refine va_mabs hx hb (hml.trans hl.1.symm) hown (hts _ q857) (hts _ q858) (hts _ q99) (hts _ q859) (Nat.le_of_ble_eq_true rfl) (Nat.le_of_ble_eq_true rfl) (Nat.zero_le _) (Nat.zero_le _) dX0_wrong_59 ?_
        refine lv_imul hx hb dX0_wrong_62 ?_
        refine lv_aload_n hx hb dX0_wrong_63 rfl (lv_at hl 0 rfl) ?_
        refine g_geta K kX hM 0 rfl q161 rfl dX0_wrong_64 rfl ?_
        refine lv_iload hx hb dX0_wrong_67 (lv_at hl 4 rfl) ?_
        obtain ⟨g17, hf⟩ := hf
        obtain ⟨a18, h19, hf⟩ := hf
        refine g_aaldS K hM 0 rfl rfl rfl rfl g17 h19 dX0_wrong_69 ?_
        obtain ⟨v21, h20, hf⟩ := hf
        refine p_getN K kY3 hM 1 rfl q272 rfl dX0_wrong_70 h20 ?_
        obtain ⟨g22, hf⟩ := hf
        refine lv_idiv hx hb dX0_wrong_73 g22 ?_
        refine lv_topi (fun z23 hz23 => ?_)
        have hf := hf z23 hz23
        refine lv_istore (lv' := [(5, .int z23), (0, .ref r.2.1), (1, .int x1), (2, .int x2), (3, .int x3), (4, .int x4)]) hx hb dX0_wrong_74 hl (by decide) rfl (fun ls hl => ?_)
        refine lv_iload_n hx hb dX0_wrong_76 rfl (lv_at hl 3 rfl) ?_
        refine lv_if_lt (tgt := 89) hx hb dX0_wrong_77 (by decide) (fun b24 => ?_) (fun b24 => ?_)
        · replace hf := hf.1 b24
          exact w_X0_wrong_89 K hr ih _ _ _ _ hf _ _ _ hM (lv_sub hl [1, 2, 5, 0] rfl)
        · replace hf := hf.2 b24
          refine lv_iload hx hb dX0_wrong_80 (lv_at hl 0 rfl) ?_
          refine lv_iload_n hx hb dX0_wrong_82 rfl (lv_at hl 4 rfl) ?_
          refine lv_icmp_gt (tgt := 89) hx hb dX0_wrong_83 (by decide) (fun b25 => ?_) (fun b25 => ?_)
          · replace hf := hf.1 b25
            exact w_X0_wrong_89 K hr ih _ _ _ _ hf _ _ _ hM (lv_sub hl [1, 2, 5, 0] rfl)
          · replace hf := hf.2 b25
            refine lv_goto (tgt := 95) hx hb dX0_wrong_86 (by decide) ?_
            exact w_X0_wrong_95 K hr ih _ _ _ _ _ hf _ _ _ hM (lv_sub hl [1, 2, 3, 4, 5] rfl)
      · replace hf := hf.1 b14
        refine lv_goto (tgt := 95) hx hb dX0_wrong_47 (by decide) ?_
        exact w_X0_wrong_95 K hr ih _ _ _ _ _ hf _ _ _ hM (lv_sub hl [0, 1, 2, 3, 4] rfl)
theorem c_X0_wrong (l : Launch) (r : GR) (A : Nat → Prop) (σ : GS) (x1 : Int32) (P : GS → Int32 → Prop) (hf : f_X0_wrong r σ x1 P) : gMet dX l yX0_wrong cX0_wrong 6 (some .int) 207 8165 0 0 r A σ [.ref r.2.1, .int x1] (zI P) := by
  refine g_enter (lv := [(0, .ref r.2.1), (1, .int x1)]) (by decide) (Nat.le_of_ble_eq_true rfl) rfl ?_
  intro p e s m below meth c ls K hr hM hl hi
  obtain ⟨hx, hb, hml, hown, hts, hlk, hKK, hA⟩ := id K
  unfold f_X0_wrong at hf
  refine lv_iload_n hx hb dX0_wrong_0 rfl (lv_at hl 1 rfl) ?_
  refine lv_iconst (v := 0) hx hb dX0_wrong_1 rfl ?_
  refine lv_iconst (v := 2) hx hb dX0_wrong_2 rfl ?_
  refine g_runi (rS [.int x1, .int (0 : Int32), .int (2 : Int32)] [] K hM hl (c_X0_in l r A _ _ _ _ _ hf) q261 q262 q82 q263 hdX0_in ⟨Nat.le_of_ble_eq_true rfl, Nat.le_of_ble_eq_true rfl⟩ ⟨Nat.le_refl _, Nat.le_refl _⟩ rfl (Nat.le_of_ble_eq_true rfl) dX0_wrong_3) hM (fun σ1 v2 H locs hf hM => ?_)
  refine lv_if_ne (tgt := 13) hx hb dX0_wrong_6 (by decide) (fun b3 => ?_) (fun b3 => ?_)
  · replace hf := hf.2 b3
    refine lv_aload_n hx hb dX0_wrong_13 rfl (lv_at hl 0 rfl) ?_
    refine g_runv (rV [] [] K kX hM hl (c_X0_findWanted l r A _ _ hf) q845 q847 qs26 q82 q848 hdX0_findWanted ⟨Nat.le_of_ble_eq_true rfl, Nat.le_of_ble_eq_true rfl⟩ ⟨Nat.le_refl _, Nat.le_refl _⟩ rfl (Nat.le_of_ble_eq_true rfl) dX0_wrong_14) hM (fun σ4 H locs hf hM => ?_)
    refine lv_bipush (v := -2) hx hb dX0_wrong_17 rfl ?_
    refine lv_istore_n (lv' := [(2, .int (-2 : Int32)), (0, .ref r.2.1), (1, .int x1)]) hx hb dX0_wrong_19 rfl hl (by decide) rfl (fun ls hl => ?_)
    refine lv_iconst (v := 0) hx hb dX0_wrong_20 rfl ?_
    refine lv_istore_n (lv' := [(3, .int (0 : Int32)), (2, .int (-2 : Int32)), (0, .ref r.2.1), (1, .int x1)]) hx hb dX0_wrong_21 rfl hl (by decide) rfl (fun ls hl => ?_)
    refine lv_iconst (v := 0) hx hb dX0_wrong_22 rfl ?_
    refine lv_istore (lv' := [(4, .int (0 : Int32)), (3, .int (0 : Int32)), (2, .int (-2 : Int32)), (0, .ref r.2.1), (1, .int x1)]) hx hb dX0_wrong_23 hl (by decide) rfl (fun ls hl => ?_)
    obtain ⟨n_, hf⟩ := hf
    exact w_X0_wrong_25 K hr n_ _ _ _ _ _ hf _ _ _ hM (lv_sub hl [3, 4, 2, 1, 0] rfl)
  · replace hf := hf.1 b3
    refine lv_ldcw hx hb hown (hts _ q844) dX0_wrong_9 ?_
    exact g_reti K hr hM ⟨Nat.le_refl _, Nat.le_refl _⟩ hf dX0_wrong_12
theorem c_X14_init (l : Launch) (r : GR) (A : Nat → Prop) (σ : GS) (x0 : Nat) (P : GS → Prop) (hf : f_X14_init r σ x0 P) : gMet dX l yX14_init cX14_init 1 none 1 24 0 0 r A σ [.ref x0] (zV P) := by
  refine g_enter (lv := [(0, .ref x0)]) (by decide) (Nat.le_of_ble_eq_true rfl) rfl ?_
  intro p e s m below meth c ls K hr hM hl hi
  obtain ⟨hx, hb, hml, hown, hts, hlk, hKK, hA⟩ := id K
  unfold f_X14_init at hf
  refine lv_aload_n hx hb dX14_init_0 rfl (lv_at hl 0 rfl) ?_
  refine rO K hl q987 q133 q134 ⟨Nat.le_of_ble_eq_true rfl, Nat.le_of_ble_eq_true rfl⟩ dX14_init_1 ?_
  exact g_retv K hr hM ⟨Nat.le_refl _, Nat.le_refl _⟩ hf dX14_init_4
theorem c_X15_init_c13 (l : Launch) (r : GR) (A : Nat → Prop) (σ : GS) (x0 : Nat) (x2 : Int32) (P : GS → Prop) (hf : f_X15_init_c13 r σ x0 x2 P) : gMet dX l yX15_init cX15_init 3 none 2 44 0 0 r A σ [.ref x0, .ref r.2.1, .int x2] (zV P) := by
  refine g_enter (lv := [(0, .ref x0), (1, .ref r.2.1), (2, .int x2)]) (by decide) (Nat.le_of_ble_eq_true rfl) rfl ?_
  intro p e s m below meth c ls K hr hM hl hi
  obtain ⟨hx, hb, hml, hown, hts, hlk, hKK, hA⟩ := id K
  unfold f_X15_init_c13 at hf
  refine lv_aload_n hx hb dX15_init_0 rfl (lv_at hl 0 rfl) ?_
  refine lv_aload_n hx hb dX15_init_1 rfl (lv_at hl 1 rfl) ?_
  refine p_putF K kY13 nmX15 hM 1 rfl q990 rfl dX15_init_2 rfl (hi rfl) rfl rfl rfl hf (fun H locs σ1 hf hM => ?_)
  refine lv_aload_n hx hb dX15_init_5 rfl (lv_at hl 0 rfl) ?_
  refine g_runv (rIN [] [] K hM hl (c_X14_init l r A _ _ _ hf) q984 q985 q110 q986 hdX14_init ⟨Nat.le_of_ble_eq_true rfl, Nat.le_of_ble_eq_true rfl⟩ ⟨Nat.le_refl _, Nat.le_refl _⟩ rfl (Nat.le_of_ble_eq_true rfl) dX15_init_6) hM (fun σ2 H locs hf hM => ?_)
  refine lv_aload_n hx hb dX15_init_9 rfl (lv_at hl 0 rfl) ?_
  refine lv_iload_n hx hb dX15_init_10 rfl (lv_at hl 2 rfl) ?_
  refine p_putF K kY13 nmX15 hM 0 rfl q989 rfl dX15_init_11 rfl (hi rfl) rfl rfl rfl hf (fun H locs σ4 hf hM => ?_)
  exact g_retv K hr hM ⟨Nat.le_refl _, Nat.le_refl _⟩ hf dX15_init_14
theorem c_X15_init_c14 (l : Launch) (r : GR) (A : Nat → Prop) (σ : GS) (x0 : Nat) (x2 : Int32) (P : GS → Prop) (hf : f_X15_init_c14 r σ x0 x2 P) : gMet dX l yX15_init cX15_init 3 none 2 44 0 0 r A σ [.ref x0, .ref r.2.1, .int x2] (zV P) := by
  refine g_enter (lv := [(0, .ref x0), (1, .ref r.2.1), (2, .int x2)]) (by decide) (Nat.le_of_ble_eq_true rfl) rfl ?_
  intro p e s m below meth c ls K hr hM hl hi
  obtain ⟨hx, hb, hml, hown, hts, hlk, hKK, hA⟩ := id K
  unfold f_X15_init_c14 at hf
  refine lv_aload_n hx hb dX15_init_0 rfl (lv_at hl 0 rfl) ?_
  refine lv_aload_n hx hb dX15_init_1 rfl (lv_at hl 1 rfl) ?_
  refine p_putW K kY14 hM 1 rfl q990 rfl dX15_init_2 rfl (hi rfl) rfl rfl rfl hf (fun H locs σ1 hf hM => ?_)
  refine lv_aload_n hx hb dX15_init_5 rfl (lv_at hl 0 rfl) ?_
  refine g_runv (rIN [] [] K hM hl (c_X14_init l r A _ _ _ hf) q984 q985 q110 q986 hdX14_init ⟨Nat.le_of_ble_eq_true rfl, Nat.le_of_ble_eq_true rfl⟩ ⟨Nat.le_refl _, Nat.le_refl _⟩ rfl (Nat.le_of_ble_eq_true rfl) dX15_init_6) hM (fun σ2 H locs hf hM => ?_)
  refine lv_aload_n hx hb dX15_init_9 rfl (lv_at hl 0 rfl) ?_
  refine lv_iload_n hx hb dX15_init_10 rfl (lv_at hl 2 rfl) ?_
  refine p_putW K kY14 hM 0 rfl q989 rfl dX15_init_11 rfl (hi rfl) rfl rfl rfl hf (fun H locs σ4 hf hM => ?_)
  exact g_retv K hr hM ⟨Nat.le_refl _, Nat.le_refl _⟩ hf dX15_init_14
theorem c_X16_init_c14 (l : Launch) (r : GR) (A : Nat → Prop) (σ : GS) (x0 : Nat) (x2 : Int32) (P : GS → Prop) (hf : f_X16_init_c14 r σ x0 x2 P) : gMet dX l yX16_init cX16_init 3 none 3 66 0 0 r A σ [.ref x0, .ref r.2.1, .int x2] (zV P) := by
  refine g_enter (lv := [(0, .ref x0), (1, .ref r.2.1), (2, .int x2)]) (by decide) (Nat.le_of_ble_eq_true rfl) rfl ?_
  intro p e s m below meth c ls K hr hM hl hi
  obtain ⟨hx, hb, hml, hown, hts, hlk, hKK, hA⟩ := id K
  unfold f_X16_init_c14 at hf
  refine lv_aload_n hx hb dX16_init_0 rfl (lv_at hl 0 rfl) ?_
  refine lv_aload_n hx hb dX16_init_1 rfl (lv_at hl 1 rfl) ?_
  refine p_putW K kY14 hM 2 rfl q988 rfl dX16_init_2 rfl (hi rfl) rfl rfl rfl hf (fun H locs σ1 hf hM => ?_)
  refine lv_aload_n hx hb dX16_init_5 rfl (lv_at hl 0 rfl) ?_
  refine lv_aload_n hx hb dX16_init_6 rfl (lv_at hl 1 rfl) ?_
  refine lv_iload_n hx hb dX16_init_7 rfl (lv_at hl 2 rfl) ?_
  refine g_runv (rI [.ref r.2.1, .int x2] [] K hM hl (c_X15_init_c14 l r A _ _ _ _ hf) q981 q982 q111 q983 hdX15_init ⟨Nat.le_of_ble_eq_true rfl, Nat.le_of_ble_eq_true rfl⟩ ⟨Nat.le_refl _, Nat.le_refl _⟩ rfl (Nat.le_of_ble_eq_true rfl) dX16_init_8) hM (fun σ2 H locs hf hM => ?_)
  exact g_retv K hr hM ⟨Nat.le_refl _, Nat.le_refl _⟩ hf dX16_init_11
theorem c_X15_init_c15 (l : Launch) (r : GR) (A : Nat → Prop) (σ : GS) (x0 : Nat) (x2 : Int32) (P : GS → Prop) (hf : f_X15_init_c15 r σ x0 x2 P) : gMet dX l yX15_init cX15_init 3 none 2 44 0 0 r A σ [.ref x0, .ref r.2.1, .int x2] (zV P) := by
  refine g_enter (lv := [(0, .ref x0), (1, .ref r.2.1), (2, .int x2)]) (by decide) (Nat.le_of_ble_eq_true rfl) rfl ?_
  intro p e s m below meth c ls K hr hM hl hi
  obtain ⟨hx, hb, hml, hown, hts, hlk, hKK, hA⟩ := id K
  unfold f_X15_init_c15 at hf
  refine lv_aload_n hx hb dX15_init_0 rfl (lv_at hl 0 rfl) ?_
  refine lv_aload_n hx hb dX15_init_1 rfl (lv_at hl 1 rfl) ?_
  refine p_putW K kY15 hM 1 rfl q990 rfl dX15_init_2 rfl (hi rfl) rfl rfl rfl hf (fun H locs σ1 hf hM => ?_)
  refine lv_aload_n hx hb dX15_init_5 rfl (lv_at hl 0 rfl) ?_
  refine g_runv (rIN [] [] K hM hl (c_X14_init l r A _ _ _ hf) q984 q985 q110 q986 hdX14_init ⟨Nat.le_of_ble_eq_true rfl, Nat.le_of_ble_eq_true rfl⟩ ⟨Nat.le_refl _, Nat.le_refl _⟩ rfl (Nat.le_of_ble_eq_true rfl) dX15_init_6) hM (fun σ2 H locs hf hM => ?_)
  refine lv_aload_n hx hb dX15_init_9 rfl (lv_at hl 0 rfl) ?_
  refine lv_iload_n hx hb dX15_init_10 rfl (lv_at hl 2 rfl) ?_
  refine p_putW K kY15 hM 0 rfl q989 rfl dX15_init_11 rfl (hi rfl) rfl rfl rfl hf (fun H locs σ4 hf hM => ?_)
  exact g_retv K hr hM ⟨Nat.le_refl _, Nat.le_refl _⟩ hf dX15_init_14
theorem c_X17_init_c15 (l : Launch) (r : GR) (A : Nat → Prop) (σ : GS) (x0 : Nat) (x2 : Int32) (P : GS → Prop) (hf : f_X17_init_c15 r σ x0 x2 P) : gMet dX l yX17_init cX17_init 3 none 3 66 0 0 r A σ [.ref x0, .ref r.2.1, .int x2] (zV P) := by
  refine g_enter (lv := [(0, .ref x0), (1, .ref r.2.1), (2, .int x2)]) (by decide) (Nat.le_of_ble_eq_true rfl) rfl ?_
  intro p e s m below meth c ls K hr hM hl hi
  obtain ⟨hx, hb, hml, hown, hts, hlk, hKK, hA⟩ := id K
  unfold f_X17_init_c15 at hf
  refine lv_aload_n hx hb dX17_init_0 rfl (lv_at hl 0 rfl) ?_
  refine lv_aload_n hx hb dX17_init_1 rfl (lv_at hl 1 rfl) ?_
  refine p_putW K kY15 hM 2 rfl q1004 rfl dX17_init_2 rfl (hi rfl) rfl rfl rfl hf (fun H locs σ1 hf hM => ?_)
  refine lv_aload_n hx hb dX17_init_5 rfl (lv_at hl 0 rfl) ?_
  refine lv_aload_n hx hb dX17_init_6 rfl (lv_at hl 1 rfl) ?_
  refine lv_iload_n hx hb dX17_init_7 rfl (lv_at hl 2 rfl) ?_
  refine g_runv (rI [.ref r.2.1, .int x2] [] K hM hl (c_X15_init_c15 l r A _ _ _ _ hf) q1003 q982 q111 q983 hdX15_init ⟨Nat.le_of_ble_eq_true rfl, Nat.le_of_ble_eq_true rfl⟩ ⟨Nat.le_refl _, Nat.le_refl _⟩ rfl (Nat.le_of_ble_eq_true rfl) dX17_init_8) hM (fun σ2 H locs hf hM => ?_)
  exact g_retv K hr hM ⟨Nat.le_refl _, Nat.le_refl _⟩ hf dX17_init_11
theorem c_X15_init_c16 (l : Launch) (r : GR) (A : Nat → Prop) (σ : GS) (x0 : Nat) (x2 : Int32) (P : GS → Prop) (hf : f_X15_init_c16 r σ x0 x2 P) : gMet dX l yX15_init cX15_init 3 none 2 44 0 0 r A σ [.ref x0, .ref r.2.1, .int x2] (zV P) := by
  refine g_enter (lv := [(0, .ref x0), (1, .ref r.2.1), (2, .int x2)]) (by decide) (Nat.le_of_ble_eq_true rfl) rfl ?_
  intro p e s m below meth c ls K hr hM hl hi
  obtain ⟨hx, hb, hml, hown, hts, hlk, hKK, hA⟩ := id K
  unfold f_X15_init_c16 at hf
  refine lv_aload_n hx hb dX15_init_0 rfl (lv_at hl 0 rfl) ?_
  refine lv_aload_n hx hb dX15_init_1 rfl (lv_at hl 1 rfl) ?_
  refine p_putW K kY16 hM 1 rfl q990 rfl dX15_init_2 rfl (hi rfl) rfl rfl rfl hf (fun H locs σ1 hf hM => ?_)
  refine lv_aload_n hx hb dX15_init_5 rfl (lv_at hl 0 rfl) ?_
  refine g_runv (rIN [] [] K hM hl (c_X14_init l r A _ _ _ hf) q984 q985 q110 q986 hdX14_init ⟨Nat.le_of_ble_eq_true rfl, Nat.le_of_ble_eq_true rfl⟩ ⟨Nat.le_refl _, Nat.le_refl _⟩ rfl (Nat.le_of_ble_eq_true rfl) dX15_init_6) hM (fun σ2 H locs hf hM => ?_)
  refine lv_aload_n hx hb dX15_init_9 rfl (lv_at hl 0 rfl) ?_
  refine lv_iload_n hx hb dX15_init_10 rfl (lv_at hl 2 rfl) ?_
  refine p_putW K kY16 hM 0 rfl q989 rfl dX15_init_11 rfl (hi rfl) rfl rfl rfl hf (fun H locs σ4 hf hM => ?_)
  exact g_retv K hr hM ⟨Nat.le_refl _, Nat.le_refl _⟩ hf dX15_init_14
theorem c_X17_init_c16 (l : Launch) (r : GR) (A : Nat → Prop) (σ : GS) (x0 : Nat) (x2 : Int32) (P : GS → Prop) (hf : f_X17_init_c16 r σ x0 x2 P) : gMet dX l yX17_init cX17_init 3 none 3 66 0 0 r A σ [.ref x0, .ref r.2.1, .int x2] (zV P) := by
  refine g_enter (lv := [(0, .ref x0), (1, .ref r.2.1), (2, .int x2)]) (by decide) (Nat.le_of_ble_eq_true rfl) rfl ?_
  intro p e s m below meth c ls K hr hM hl hi
  obtain ⟨hx, hb, hml, hown, hts, hlk, hKK, hA⟩ := id K
  unfold f_X17_init_c16 at hf
  refine lv_aload_n hx hb dX17_init_0 rfl (lv_at hl 0 rfl) ?_
  refine lv_aload_n hx hb dX17_init_1 rfl (lv_at hl 1 rfl) ?_
  refine p_putW K kY16 hM 2 rfl q1004 rfl dX17_init_2 rfl (hi rfl) rfl rfl rfl hf (fun H locs σ1 hf hM => ?_)
  refine lv_aload_n hx hb dX17_init_5 rfl (lv_at hl 0 rfl) ?_
  refine lv_aload_n hx hb dX17_init_6 rfl (lv_at hl 1 rfl) ?_
  refine lv_iload_n hx hb dX17_init_7 rfl (lv_at hl 2 rfl) ?_
  refine g_runv (rI [.ref r.2.1, .int x2] [] K hM hl (c_X15_init_c16 l r A _ _ _ _ hf) q1003 q982 q111 q983 hdX15_init ⟨Nat.le_of_ble_eq_true rfl, Nat.le_of_ble_eq_true rfl⟩ ⟨Nat.le_refl _, Nat.le_refl _⟩ rfl (Nat.le_of_ble_eq_true rfl) dX17_init_8) hM (fun σ2 H locs hf hM => ?_)
  exact g_retv K hr hM ⟨Nat.le_refl _, Nat.le_refl _⟩ hf dX17_init_11
theorem c_X18_init_c16 (l : Launch) (r : GR) (A : Nat → Prop) (σ : GS) (x0 : Nat) (x2 : Int32) (P : GS → Prop) (hf : f_X18_init_c16 r σ x0 x2 P) : gMet dX l yX18_init cX18_init 3 none 4 88 0 0 r A σ [.ref x0, .ref r.2.1, .int x2] (zV P) := by
  refine g_enter (lv := [(0, .ref x0), (1, .ref r.2.1), (2, .int x2)]) (by decide) (Nat.le_of_ble_eq_true rfl) rfl ?_
  intro p e s m below meth c ls K hr hM hl hi
  obtain ⟨hx, hb, hml, hown, hts, hlk, hKK, hA⟩ := id K
  unfold f_X18_init_c16 at hf
  refine lv_aload_n hx hb dX18_init_0 rfl (lv_at hl 0 rfl) ?_
  refine lv_aload_n hx hb dX18_init_1 rfl (lv_at hl 1 rfl) ?_
  refine p_putW K kY16 hM 3 rfl q1016 rfl dX18_init_2 rfl (hi rfl) rfl rfl rfl hf (fun H locs σ1 hf hM => ?_)
  refine lv_aload_n hx hb dX18_init_5 rfl (lv_at hl 0 rfl) ?_
  refine lv_aload_n hx hb dX18_init_6 rfl (lv_at hl 1 rfl) ?_
  refine lv_iload_n hx hb dX18_init_7 rfl (lv_at hl 2 rfl) ?_
  refine g_runv (rI [.ref r.2.1, .int x2] [] K hM hl (c_X17_init_c16 l r A _ _ _ _ hf) q1015 q1001 q113 q1002 hdX17_init ⟨Nat.le_of_ble_eq_true rfl, Nat.le_of_ble_eq_true rfl⟩ ⟨Nat.le_refl _, Nat.le_refl _⟩ rfl (Nat.le_of_ble_eq_true rfl) dX18_init_8) hM (fun σ2 H locs hf hM => ?_)
  exact g_retv K hr hM ⟨Nat.le_refl _, Nat.le_refl _⟩ hf dX18_init_11
theorem c_X15_init_c17 (l : Launch) (r : GR) (A : Nat → Prop) (σ : GS) (x0 : Nat) (x2 : Int32) (P : GS → Prop) (hf : f_X15_init_c17 r σ x0 x2 P) : gMet dX l yX15_init cX15_init 3 none 2 44 0 0 r A σ [.ref x0, .ref r.2.1, .int x2] (zV P) := by
  refine g_enter (lv := [(0, .ref x0), (1, .ref r.2.1), (2, .int x2)]) (by decide) (Nat.le_of_ble_eq_true rfl) rfl ?_
  intro p e s m below meth c ls K hr hM hl hi
  obtain ⟨hx, hb, hml, hown, hts, hlk, hKK, hA⟩ := id K
  unfold f_X15_init_c17 at hf
  refine lv_aload_n hx hb dX15_init_0 rfl (lv_at hl 0 rfl) ?_
  refine lv_aload_n hx hb dX15_init_1 rfl (lv_at hl 1 rfl) ?_
  refine p_putW K kY17 hM 1 rfl q990 rfl dX15_init_2 rfl (hi rfl) rfl rfl rfl hf (fun H locs σ1 hf hM => ?_)
  refine lv_aload_n hx hb dX15_init_5 rfl (lv_at hl 0 rfl) ?_
  refine g_runv (rIN [] [] K hM hl (c_X14_init l r A _ _ _ hf) q984 q985 q110 q986 hdX14_init ⟨Nat.le_of_ble_eq_true rfl, Nat.le_of_ble_eq_true rfl⟩ ⟨Nat.le_refl _, Nat.le_refl _⟩ rfl (Nat.le_of_ble_eq_true rfl) dX15_init_6) hM (fun σ2 H locs hf hM => ?_)
  refine lv_aload_n hx hb dX15_init_9 rfl (lv_at hl 0 rfl) ?_
  refine lv_iload_n hx hb dX15_init_10 rfl (lv_at hl 2 rfl) ?_
  refine p_putW K kY17 hM 0 rfl q989 rfl dX15_init_11 rfl (hi rfl) rfl rfl rfl hf (fun H locs σ4 hf hM => ?_)
  exact g_retv K hr hM ⟨Nat.le_refl _, Nat.le_refl _⟩ hf dX15_init_14
theorem c_X17_init_c17 (l : Launch) (r : GR) (A : Nat → Prop) (σ : GS) (x0 : Nat) (x2 : Int32) (P : GS → Prop) (hf : f_X17_init_c17 r σ x0 x2 P) : gMet dX l yX17_init cX17_init 3 none 3 66 0 0 r A σ [.ref x0, .ref r.2.1, .int x2] (zV P) := by
  refine g_enter (lv := [(0, .ref x0), (1, .ref r.2.1), (2, .int x2)]) (by decide) (Nat.le_of_ble_eq_true rfl) rfl ?_
  intro p e s m below meth c ls K hr hM hl hi
  obtain ⟨hx, hb, hml, hown, hts, hlk, hKK, hA⟩ := id K
  unfold f_X17_init_c17 at hf
  refine lv_aload_n hx hb dX17_init_0 rfl (lv_at hl 0 rfl) ?_
  refine lv_aload_n hx hb dX17_init_1 rfl (lv_at hl 1 rfl) ?_
  refine p_putW K kY17 hM 2 rfl q1004 rfl dX17_init_2 rfl (hi rfl) rfl rfl rfl hf (fun H locs σ1 hf hM => ?_)
  refine lv_aload_n hx hb dX17_init_5 rfl (lv_at hl 0 rfl) ?_
  refine lv_aload_n hx hb dX17_init_6 rfl (lv_at hl 1 rfl) ?_
  refine lv_iload_n hx hb dX17_init_7 rfl (lv_at hl 2 rfl) ?_
  refine g_runv (rI [.ref r.2.1, .int x2] [] K hM hl (c_X15_init_c17 l r A _ _ _ _ hf) q1003 q982 q111 q983 hdX15_init ⟨Nat.le_of_ble_eq_true rfl, Nat.le_of_ble_eq_true rfl⟩ ⟨Nat.le_refl _, Nat.le_refl _⟩ rfl (Nat.le_of_ble_eq_true rfl) dX17_init_8) hM (fun σ2 H locs hf hM => ?_)
  exact g_retv K hr hM ⟨Nat.le_refl _, Nat.le_refl _⟩ hf dX17_init_11
theorem c_X19_init_c17 (l : Launch) (r : GR) (A : Nat → Prop) (σ : GS) (x0 : Nat) (x2 : Int32) (P : GS → Prop) (hf : f_X19_init_c17 r σ x0 x2 P) : gMet dX l yX19_init cX19_init 3 none 4 88 0 0 r A σ [.ref x0, .ref r.2.1, .int x2] (zV P) := by
  refine g_enter (lv := [(0, .ref x0), (1, .ref r.2.1), (2, .int x2)]) (by decide) (Nat.le_of_ble_eq_true rfl) rfl ?_
  intro p e s m below meth c ls K hr hM hl hi
  obtain ⟨hx, hb, hml, hown, hts, hlk, hKK, hA⟩ := id K
  unfold f_X19_init_c17 at hf
  refine lv_aload_n hx hb dX19_init_0 rfl (lv_at hl 0 rfl) ?_
  refine lv_aload_n hx hb dX19_init_1 rfl (lv_at hl 1 rfl) ?_
  refine p_putW K kY17 hM 3 rfl q1029 rfl dX19_init_2 rfl (hi rfl) rfl rfl rfl hf (fun H locs σ1 hf hM => ?_)
  refine lv_aload_n hx hb dX19_init_5 rfl (lv_at hl 0 rfl) ?_
  refine lv_aload_n hx hb dX19_init_6 rfl (lv_at hl 1 rfl) ?_
  refine lv_iload_n hx hb dX19_init_7 rfl (lv_at hl 2 rfl) ?_
  refine g_runv (rI [.ref r.2.1, .int x2] [] K hM hl (c_X17_init_c17 l r A _ _ _ _ hf) q1028 q1001 q113 q1002 hdX17_init ⟨Nat.le_of_ble_eq_true rfl, Nat.le_of_ble_eq_true rfl⟩ ⟨Nat.le_refl _, Nat.le_refl _⟩ rfl (Nat.le_of_ble_eq_true rfl) dX19_init_8) hM (fun σ2 H locs hf hM => ?_)
  exact g_retv K hr hM ⟨Nat.le_refl _, Nat.le_refl _⟩ hf dX19_init_11
theorem c_X15_init_c18 (l : Launch) (r : GR) (A : Nat → Prop) (σ : GS) (x0 : Nat) (x2 : Int32) (P : GS → Prop) (hf : f_X15_init_c18 r σ x0 x2 P) : gMet dX l yX15_init cX15_init 3 none 2 44 0 0 r A σ [.ref x0, .ref r.2.1, .int x2] (zV P) := by
  refine g_enter (lv := [(0, .ref x0), (1, .ref r.2.1), (2, .int x2)]) (by decide) (Nat.le_of_ble_eq_true rfl) rfl ?_
  intro p e s m below meth c ls K hr hM hl hi
  obtain ⟨hx, hb, hml, hown, hts, hlk, hKK, hA⟩ := id K
  unfold f_X15_init_c18 at hf
  refine lv_aload_n hx hb dX15_init_0 rfl (lv_at hl 0 rfl) ?_
  refine lv_aload_n hx hb dX15_init_1 rfl (lv_at hl 1 rfl) ?_
  refine p_putW K kY18 hM 1 rfl q990 rfl dX15_init_2 rfl (hi rfl) rfl rfl rfl hf (fun H locs σ1 hf hM => ?_)
  refine lv_aload_n hx hb dX15_init_5 rfl (lv_at hl 0 rfl) ?_
  refine g_runv (rIN [] [] K hM hl (c_X14_init l r A _ _ _ hf) q984 q985 q110 q986 hdX14_init ⟨Nat.le_of_ble_eq_true rfl, Nat.le_of_ble_eq_true rfl⟩ ⟨Nat.le_refl _, Nat.le_refl _⟩ rfl (Nat.le_of_ble_eq_true rfl) dX15_init_6) hM (fun σ2 H locs hf hM => ?_)
  refine lv_aload_n hx hb dX15_init_9 rfl (lv_at hl 0 rfl) ?_
  refine lv_iload_n hx hb dX15_init_10 rfl (lv_at hl 2 rfl) ?_
  refine p_putW K kY18 hM 0 rfl q989 rfl dX15_init_11 rfl (hi rfl) rfl rfl rfl hf (fun H locs σ4 hf hM => ?_)
  exact g_retv K hr hM ⟨Nat.le_refl _, Nat.le_refl _⟩ hf dX15_init_14
theorem c_X17_init_c18 (l : Launch) (r : GR) (A : Nat → Prop) (σ : GS) (x0 : Nat) (x2 : Int32) (P : GS → Prop) (hf : f_X17_init_c18 r σ x0 x2 P) : gMet dX l yX17_init cX17_init 3 none 3 66 0 0 r A σ [.ref x0, .ref r.2.1, .int x2] (zV P) := by
  refine g_enter (lv := [(0, .ref x0), (1, .ref r.2.1), (2, .int x2)]) (by decide) (Nat.le_of_ble_eq_true rfl) rfl ?_
  intro p e s m below meth c ls K hr hM hl hi
  obtain ⟨hx, hb, hml, hown, hts, hlk, hKK, hA⟩ := id K
  unfold f_X17_init_c18 at hf
  refine lv_aload_n hx hb dX17_init_0 rfl (lv_at hl 0 rfl) ?_
  refine lv_aload_n hx hb dX17_init_1 rfl (lv_at hl 1 rfl) ?_
  refine p_putW K kY18 hM 2 rfl q1004 rfl dX17_init_2 rfl (hi rfl) rfl rfl rfl hf (fun H locs σ1 hf hM => ?_)
  refine lv_aload_n hx hb dX17_init_5 rfl (lv_at hl 0 rfl) ?_
  refine lv_aload_n hx hb dX17_init_6 rfl (lv_at hl 1 rfl) ?_
  refine lv_iload_n hx hb dX17_init_7 rfl (lv_at hl 2 rfl) ?_
  refine g_runv (rI [.ref r.2.1, .int x2] [] K hM hl (c_X15_init_c18 l r A _ _ _ _ hf) q1003 q982 q111 q983 hdX15_init ⟨Nat.le_of_ble_eq_true rfl, Nat.le_of_ble_eq_true rfl⟩ ⟨Nat.le_refl _, Nat.le_refl _⟩ rfl (Nat.le_of_ble_eq_true rfl) dX17_init_8) hM (fun σ2 H locs hf hM => ?_)
  exact g_retv K hr hM ⟨Nat.le_refl _, Nat.le_refl _⟩ hf dX17_init_11
theorem c_X18_init_c18 (l : Launch) (r : GR) (A : Nat → Prop) (σ : GS) (x0 : Nat) (x2 : Int32) (P : GS → Prop) (hf : f_X18_init_c18 r σ x0 x2 P) : gMet dX l yX18_init cX18_init 3 none 4 88 0 0 r A σ [.ref x0, .ref r.2.1, .int x2] (zV P) := by
  refine g_enter (lv := [(0, .ref x0), (1, .ref r.2.1), (2, .int x2)]) (by decide) (Nat.le_of_ble_eq_true rfl) rfl ?_
  intro p e s m below meth c ls K hr hM hl hi
  obtain ⟨hx, hb, hml, hown, hts, hlk, hKK, hA⟩ := id K
  unfold f_X18_init_c18 at hf
  refine lv_aload_n hx hb dX18_init_0 rfl (lv_at hl 0 rfl) ?_
  refine lv_aload_n hx hb dX18_init_1 rfl (lv_at hl 1 rfl) ?_
  refine p_putW K kY18 hM 3 rfl q1016 rfl dX18_init_2 rfl (hi rfl) rfl rfl rfl hf (fun H locs σ1 hf hM => ?_)
  refine lv_aload_n hx hb dX18_init_5 rfl (lv_at hl 0 rfl) ?_
  refine lv_aload_n hx hb dX18_init_6 rfl (lv_at hl 1 rfl) ?_
  refine lv_iload_n hx hb dX18_init_7 rfl (lv_at hl 2 rfl) ?_
  refine g_runv (rI [.ref r.2.1, .int x2] [] K hM hl (c_X17_init_c18 l r A _ _ _ _ hf) q1015 q1001 q113 q1002 hdX17_init ⟨Nat.le_of_ble_eq_true rfl, Nat.le_of_ble_eq_true rfl⟩ ⟨Nat.le_refl _, Nat.le_refl _⟩ rfl (Nat.le_of_ble_eq_true rfl) dX18_init_8) hM (fun σ2 H locs hf hM => ?_)
  exact g_retv K hr hM ⟨Nat.le_refl _, Nat.le_refl _⟩ hf dX18_init_11
theorem c_X20_init_c18 (l : Launch) (r : GR) (A : Nat → Prop) (σ : GS) (x0 : Nat) (x2 : Int32) (P : GS → Prop) (hf : f_X20_init_c18 r σ x0 x2 P) : gMet dX l yX20_init cX20_init 3 none 5 110 0 0 r A σ [.ref x0, .ref r.2.1, .int x2] (zV P) := by
  refine g_enter (lv := [(0, .ref x0), (1, .ref r.2.1), (2, .int x2)]) (by decide) (Nat.le_of_ble_eq_true rfl) rfl ?_
  intro p e s m below meth c ls K hr hM hl hi
  obtain ⟨hx, hb, hml, hown, hts, hlk, hKK, hA⟩ := id K
  unfold f_X20_init_c18 at hf
  refine lv_aload_n hx hb dX20_init_0 rfl (lv_at hl 0 rfl) ?_
  refine lv_aload_n hx hb dX20_init_1 rfl (lv_at hl 1 rfl) ?_
  refine p_putW K kY18 hM 4 rfl q1042 rfl dX20_init_2 rfl (hi rfl) rfl rfl rfl hf (fun H locs σ1 hf hM => ?_)
  refine lv_aload_n hx hb dX20_init_5 rfl (lv_at hl 0 rfl) ?_
  refine lv_aload_n hx hb dX20_init_6 rfl (lv_at hl 1 rfl) ?_
  refine lv_iload_n hx hb dX20_init_7 rfl (lv_at hl 2 rfl) ?_
  refine g_runv (rI [.ref r.2.1, .int x2] [] K hM hl (c_X18_init_c18 l r A _ _ _ _ hf) q1041 q1013 q114 q1014 hdX18_init ⟨Nat.le_of_ble_eq_true rfl, Nat.le_of_ble_eq_true rfl⟩ ⟨Nat.le_refl _, Nat.le_refl _⟩ rfl (Nat.le_of_ble_eq_true rfl) dX20_init_8) hM (fun σ2 H locs hf hM => ?_)
  exact g_retv K hr hM ⟨Nat.le_refl _, Nat.le_refl _⟩ hf dX20_init_11
theorem c_X15_init_c19 (l : Launch) (r : GR) (A : Nat → Prop) (σ : GS) (x0 : Nat) (x2 : Int32) (P : GS → Prop) (hf : f_X15_init_c19 r σ x0 x2 P) : gMet dX l yX15_init cX15_init 3 none 2 44 0 0 r A σ [.ref x0, .ref r.2.1, .int x2] (zV P) := by
  refine g_enter (lv := [(0, .ref x0), (1, .ref r.2.1), (2, .int x2)]) (by decide) (Nat.le_of_ble_eq_true rfl) rfl ?_
  intro p e s m below meth c ls K hr hM hl hi
  obtain ⟨hx, hb, hml, hown, hts, hlk, hKK, hA⟩ := id K
  unfold f_X15_init_c19 at hf
  refine lv_aload_n hx hb dX15_init_0 rfl (lv_at hl 0 rfl) ?_
  refine lv_aload_n hx hb dX15_init_1 rfl (lv_at hl 1 rfl) ?_
  refine p_putW K kY19 hM 1 rfl q990 rfl dX15_init_2 rfl (hi rfl) rfl rfl rfl hf (fun H locs σ1 hf hM => ?_)
  refine lv_aload_n hx hb dX15_init_5 rfl (lv_at hl 0 rfl) ?_
  refine g_runv (rIN [] [] K hM hl (c_X14_init l r A _ _ _ hf) q984 q985 q110 q986 hdX14_init ⟨Nat.le_of_ble_eq_true rfl, Nat.le_of_ble_eq_true rfl⟩ ⟨Nat.le_refl _, Nat.le_refl _⟩ rfl (Nat.le_of_ble_eq_true rfl) dX15_init_6) hM (fun σ2 H locs hf hM => ?_)
  refine lv_aload_n hx hb dX15_init_9 rfl (lv_at hl 0 rfl) ?_
  refine lv_iload_n hx hb dX15_init_10 rfl (lv_at hl 2 rfl) ?_
  refine p_putW K kY19 hM 0 rfl q989 rfl dX15_init_11 rfl (hi rfl) rfl rfl rfl hf (fun H locs σ4 hf hM => ?_)
  exact g_retv K hr hM ⟨Nat.le_refl _, Nat.le_refl _⟩ hf dX15_init_14
theorem c_X21_init_c19 (l : Launch) (r : GR) (A : Nat → Prop) (σ : GS) (x0 : Nat) (x2 : Int32) (P : GS → Prop) (hf : f_X21_init_c19 r σ x0 x2 P) : gMet dX l yX21_init cX21_init 3 none 3 66 0 0 r A σ [.ref x0, .ref r.2.1, .int x2] (zV P) := by
  refine g_enter (lv := [(0, .ref x0), (1, .ref r.2.1), (2, .int x2)]) (by decide) (Nat.le_of_ble_eq_true rfl) rfl ?_
  intro p e s m below meth c ls K hr hM hl hi
  obtain ⟨hx, hb, hml, hown, hts, hlk, hKK, hA⟩ := id K
  unfold f_X21_init_c19 at hf
  refine lv_aload_n hx hb dX21_init_0 rfl (lv_at hl 0 rfl) ?_
  refine lv_aload_n hx hb dX21_init_1 rfl (lv_at hl 1 rfl) ?_
  refine p_putW K kY19 hM 2 rfl q1056 rfl dX21_init_2 rfl (hi rfl) rfl rfl rfl hf (fun H locs σ1 hf hM => ?_)
  refine lv_aload_n hx hb dX21_init_5 rfl (lv_at hl 0 rfl) ?_
  refine lv_aload_n hx hb dX21_init_6 rfl (lv_at hl 1 rfl) ?_
  refine lv_iload_n hx hb dX21_init_7 rfl (lv_at hl 2 rfl) ?_
  refine g_runv (rI [.ref r.2.1, .int x2] [] K hM hl (c_X15_init_c19 l r A _ _ _ _ hf) q1055 q982 q111 q983 hdX15_init ⟨Nat.le_of_ble_eq_true rfl, Nat.le_of_ble_eq_true rfl⟩ ⟨Nat.le_refl _, Nat.le_refl _⟩ rfl (Nat.le_of_ble_eq_true rfl) dX21_init_8) hM (fun σ2 H locs hf hM => ?_)
  exact g_retv K hr hM ⟨Nat.le_refl _, Nat.le_refl _⟩ hf dX21_init_11
theorem c_X15_init_c20 (l : Launch) (r : GR) (A : Nat → Prop) (σ : GS) (x0 : Nat) (x2 : Int32) (P : GS → Prop) (hf : f_X15_init_c20 r σ x0 x2 P) : gMet dX l yX15_init cX15_init 3 none 2 44 0 0 r A σ [.ref x0, .ref r.2.1, .int x2] (zV P) := by
  refine g_enter (lv := [(0, .ref x0), (1, .ref r.2.1), (2, .int x2)]) (by decide) (Nat.le_of_ble_eq_true rfl) rfl ?_
  intro p e s m below meth c ls K hr hM hl hi
  obtain ⟨hx, hb, hml, hown, hts, hlk, hKK, hA⟩ := id K
  unfold f_X15_init_c20 at hf
  refine lv_aload_n hx hb dX15_init_0 rfl (lv_at hl 0 rfl) ?_
  refine lv_aload_n hx hb dX15_init_1 rfl (lv_at hl 1 rfl) ?_
  refine p_putW K kY20 hM 1 rfl q990 rfl dX15_init_2 rfl (hi rfl) rfl rfl rfl hf (fun H locs σ1 hf hM => ?_)
  refine lv_aload_n hx hb dX15_init_5 rfl (lv_at hl 0 rfl) ?_
  refine g_runv (rIN [] [] K hM hl (c_X14_init l r A _ _ _ hf) q984 q985 q110 q986 hdX14_init ⟨Nat.le_of_ble_eq_true rfl, Nat.le_of_ble_eq_true rfl⟩ ⟨Nat.le_refl _, Nat.le_refl _⟩ rfl (Nat.le_of_ble_eq_true rfl) dX15_init_6) hM (fun σ2 H locs hf hM => ?_)
  refine lv_aload_n hx hb dX15_init_9 rfl (lv_at hl 0 rfl) ?_
  refine lv_iload_n hx hb dX15_init_10 rfl (lv_at hl 2 rfl) ?_
  refine p_putW K kY20 hM 0 rfl q989 rfl dX15_init_11 rfl (hi rfl) rfl rfl rfl hf (fun H locs σ4 hf hM => ?_)
  exact g_retv K hr hM ⟨Nat.le_refl _, Nat.le_refl _⟩ hf dX15_init_14
theorem c_X17_init_c20 (l : Launch) (r : GR) (A : Nat → Prop) (σ : GS) (x0 : Nat) (x2 : Int32) (P : GS → Prop) (hf : f_X17_init_c20 r σ x0 x2 P) : gMet dX l yX17_init cX17_init 3 none 3 66 0 0 r A σ [.ref x0, .ref r.2.1, .int x2] (zV P) := by
  refine g_enter (lv := [(0, .ref x0), (1, .ref r.2.1), (2, .int x2)]) (by decide) (Nat.le_of_ble_eq_true rfl) rfl ?_
  intro p e s m below meth c ls K hr hM hl hi
  obtain ⟨hx, hb, hml, hown, hts, hlk, hKK, hA⟩ := id K
  unfold f_X17_init_c20 at hf
  refine lv_aload_n hx hb dX17_init_0 rfl (lv_at hl 0 rfl) ?_
  refine lv_aload_n hx hb dX17_init_1 rfl (lv_at hl 1 rfl) ?_
  refine p_putW K kY20 hM 2 rfl q1004 rfl dX17_init_2 rfl (hi rfl) rfl rfl rfl hf (fun H locs σ1 hf hM => ?_)
  refine lv_aload_n hx hb dX17_init_5 rfl (lv_at hl 0 rfl) ?_
  refine lv_aload_n hx hb dX17_init_6 rfl (lv_at hl 1 rfl) ?_
  refine lv_iload_n hx hb dX17_init_7 rfl (lv_at hl 2 rfl) ?_
  refine g_runv (rI [.ref r.2.1, .int x2] [] K hM hl (c_X15_init_c20 l r A _ _ _ _ hf) q1003 q982 q111 q983 hdX15_init ⟨Nat.le_of_ble_eq_true rfl, Nat.le_of_ble_eq_true rfl⟩ ⟨Nat.le_refl _, Nat.le_refl _⟩ rfl (Nat.le_of_ble_eq_true rfl) dX17_init_8) hM (fun σ2 H locs hf hM => ?_)
  exact g_retv K hr hM ⟨Nat.le_refl _, Nat.le_refl _⟩ hf dX17_init_11
theorem c_X19_init_c20 (l : Launch) (r : GR) (A : Nat → Prop) (σ : GS) (x0 : Nat) (x2 : Int32) (P : GS → Prop) (hf : f_X19_init_c20 r σ x0 x2 P) : gMet dX l yX19_init cX19_init 3 none 4 88 0 0 r A σ [.ref x0, .ref r.2.1, .int x2] (zV P) := by
  refine g_enter (lv := [(0, .ref x0), (1, .ref r.2.1), (2, .int x2)]) (by decide) (Nat.le_of_ble_eq_true rfl) rfl ?_
  intro p e s m below meth c ls K hr hM hl hi
  obtain ⟨hx, hb, hml, hown, hts, hlk, hKK, hA⟩ := id K
  unfold f_X19_init_c20 at hf
  refine lv_aload_n hx hb dX19_init_0 rfl (lv_at hl 0 rfl) ?_
  refine lv_aload_n hx hb dX19_init_1 rfl (lv_at hl 1 rfl) ?_
  refine p_putW K kY20 hM 3 rfl q1029 rfl dX19_init_2 rfl (hi rfl) rfl rfl rfl hf (fun H locs σ1 hf hM => ?_)
  refine lv_aload_n hx hb dX19_init_5 rfl (lv_at hl 0 rfl) ?_
  refine lv_aload_n hx hb dX19_init_6 rfl (lv_at hl 1 rfl) ?_
  refine lv_iload_n hx hb dX19_init_7 rfl (lv_at hl 2 rfl) ?_
  refine g_runv (rI [.ref r.2.1, .int x2] [] K hM hl (c_X17_init_c20 l r A _ _ _ _ hf) q1028 q1001 q113 q1002 hdX17_init ⟨Nat.le_of_ble_eq_true rfl, Nat.le_of_ble_eq_true rfl⟩ ⟨Nat.le_refl _, Nat.le_refl _⟩ rfl (Nat.le_of_ble_eq_true rfl) dX19_init_8) hM (fun σ2 H locs hf hM => ?_)
  exact g_retv K hr hM ⟨Nat.le_refl _, Nat.le_refl _⟩ hf dX19_init_11
theorem c_X22_init_c20 (l : Launch) (r : GR) (A : Nat → Prop) (σ : GS) (x0 : Nat) (x2 : Int32) (P : GS → Prop) (hf : f_X22_init_c20 r σ x0 x2 P) : gMet dX l yX22_init cX22_init 3 none 5 110 0 0 r A σ [.ref x0, .ref r.2.1, .int x2] (zV P) := by
  refine g_enter (lv := [(0, .ref x0), (1, .ref r.2.1), (2, .int x2)]) (by decide) (Nat.le_of_ble_eq_true rfl) rfl ?_
  intro p e s m below meth c ls K hr hM hl hi
  obtain ⟨hx, hb, hml, hown, hts, hlk, hKK, hA⟩ := id K
  unfold f_X22_init_c20 at hf
  refine lv_aload_n hx hb dX22_init_0 rfl (lv_at hl 0 rfl) ?_
  refine lv_aload_n hx hb dX22_init_1 rfl (lv_at hl 1 rfl) ?_
  refine p_putW K kY20 hM 4 rfl q1068 rfl dX22_init_2 rfl (hi rfl) rfl rfl rfl hf (fun H locs σ1 hf hM => ?_)
  refine lv_aload_n hx hb dX22_init_5 rfl (lv_at hl 0 rfl) ?_
  refine lv_aload_n hx hb dX22_init_6 rfl (lv_at hl 1 rfl) ?_
  refine lv_iload_n hx hb dX22_init_7 rfl (lv_at hl 2 rfl) ?_
  refine g_runv (rI [.ref r.2.1, .int x2] [] K hM hl (c_X19_init_c20 l r A _ _ _ _ hf) q1067 q1026 q115 q1027 hdX19_init ⟨Nat.le_of_ble_eq_true rfl, Nat.le_of_ble_eq_true rfl⟩ ⟨Nat.le_refl _, Nat.le_refl _⟩ rfl (Nat.le_of_ble_eq_true rfl) dX22_init_8) hM (fun σ2 H locs hf hM => ?_)
  exact g_retv K hr hM ⟨Nat.le_refl _, Nat.le_refl _⟩ hf dX22_init_11
theorem c_X0_made (l : Launch) (r : GR) (A : Nat → Prop) (bc bs : Nat) (σ : GS) (x1 : Int32) (P : GS → Option Nat → Prop) (hf : f_X0_made r bc bs σ x1 P) : gMet dX l yX0_made cX0_made 2 (some (.object "PointsForAll$Purse")) 6 132 bc bs r A σ [.ref r.2.1, .int x1] (zQ P) := by
  refine g_enter (lv := [(0, .ref r.2.1), (1, .int x1)]) (by decide) (Nat.le_of_ble_eq_true rfl) rfl ?_
  intro p e s m below meth c ls K hr hM hl hi
  obtain ⟨hx, hb, hml, hown, hts, hlk, hKK, hA⟩ := id K
  unfold f_X0_made at hf
  generalize hB_ : bc = B
  generalize hS_ : bs = S
  have hc : 0 + bc ≤ B ∧ 0 + bs ≤ S := ⟨bud_0 hB_, bud_0 hS_⟩
  refine lv_iload_n hx hb dX0_made_0 rfl (lv_at hl 1 rfl) ?_
  by_cases b65_0 : x1 = (1 : Int32)
  · replace hf := hf.1 b65_0
    refine lv_tableIn (off := 43) (tgt := 44) hx hb dX0_made_1 (by rw [b65_0]; decide) (by rw [b65_0]; decide) (by rw [b65_0]; rfl) (by decide) ?_
    obtain ⟨b3, s4, g5, g6, hf⟩ := hf
    refine p_new K kY14 hM q976 q977 q112 hf0X16 (bud_le hc.1 g5) (bud_le hc.2 g6) dX0_made_44 (fun H a1 σ2 ea1 hσ2 hM => ?_)
    have hf := hf a1 ea1 σ2 hσ2
    replace hc := And.intro (bud hc.1 g5) (bud hc.2 g6)
    refine lv_dup hx hb dX0_made_47 rfl ?_
    refine lv_aload_n hx hb dX0_made_48 rfl (lv_at hl 0 rfl) ?_
    refine lv_aload_n hx hb dX0_made_49 rfl (lv_at hl 0 rfl) ?_
    refine g_geti K kX hM 28 rfl q191 rfl dX0_made_50 rfl ?_
    refine g_runv (rI [.ref r.2.1, .int (gI σ2 28)] [.ref a1] K hM hl (c_X16_init_c14 l r A _ _ _ _ hf) q978 q979 q112 q980 hdX16_init ⟨Nat.le_of_ble_eq_true rfl, Nat.le_of_ble_eq_true rfl⟩ ⟨bud_ret hc.1, bud_ret hc.2⟩ rfl (Nat.le_of_ble_eq_true rfl) dX0_made_53) hM (fun σ7 H locs hf hM => ?_)
    exact g_retq (v := (some a1)) K hr (Or.inl ⟨_, rfl⟩) hM ⟨bud_ret hc.1, bud_ret hc.2⟩ hf dX0_made_56
  replace hf := hf.2 b65_0
  by_cases b65_1 : x1 = (2 : Int32)
  · replace hf := hf.1 b65_1
    refine lv_tableIn (off := 56) (tgt := 57) hx hb dX0_made_1 (by rw [b65_1]; decide) (by rw [b65_1]; decide) (by rw [b65_1]; rfl) (by decide) ?_
    obtain ⟨b11, s12, g13, g14, hf⟩ := hf
    refine p_new K kY15 hM q998 q999 q113 hf0X17 (bud_le hc.1 g13) (bud_le hc.2 g14) dX0_made_57 (fun H a9 σ10 ea9 hσ10 hM => ?_)
    have hf := hf a9 ea9 σ10 hσ10
    replace hc := And.intro (bud hc.1 g13) (bud hc.2 g14)
    refine lv_dup hx hb dX0_made_60 rfl ?_
    refine lv_aload_n hx hb dX0_made_61 rfl (lv_at hl 0 rfl) ?_
    refine lv_aload_n hx hb dX0_made_62 rfl (lv_at hl 0 rfl) ?_
    refine g_geti K kX hM 28 rfl q191 rfl dX0_made_63 rfl ?_
    refine g_runv (rI [.ref r.2.1, .int (gI σ10 28)] [.ref a9] K hM hl (c_X17_init_c15 l r A _ _ _ _ hf) q1000 q1001 q113 q1002 hdX17_init ⟨Nat.le_of_ble_eq_true rfl, Nat.le_of_ble_eq_true rfl⟩ ⟨bud_ret hc.1, bud_ret hc.2⟩ rfl (Nat.le_of_ble_eq_true rfl) dX0_made_66) hM (fun σ15 H locs hf hM => ?_)
    exact g_retq (v := (some a9)) K hr (Or.inl ⟨_, rfl⟩) hM ⟨bud_ret hc.1, bud_ret hc.2⟩ hf dX0_made_69
  replace hf := hf.2 b65_1
  by_cases b65_2 : x1 = (3 : Int32)
  · replace hf := hf.1 b65_2
    refine lv_tableIn (off := 69) (tgt := 70) hx hb dX0_made_1 (by rw [b65_2]; decide) (by rw [b65_2]; decide) (by rw [b65_2]; rfl) (by decide) ?_
    obtain ⟨b19, s20, g21, g22, hf⟩ := hf
    refine p_new K kY16 hM q1010 q1011 q114 hf0X18 (bud_le hc.1 g21) (bud_le hc.2 g22) dX0_made_70 (fun H a17 σ18 ea17 hσ18 hM => ?_)
    have hf := hf a17 ea17 σ18 hσ18
    replace hc := And.intro (bud hc.1 g21) (bud hc.2 g22)
    refine lv_dup hx hb dX0_made_73 rfl ?_
    refine lv_aload_n hx hb dX0_made_74 rfl (lv_at hl 0 rfl) ?_
    refine lv_aload_n hx hb dX0_made_75 rfl (lv_at hl 0 rfl) ?_
    refine g_geti K kX hM 28 rfl q191 rfl dX0_made_76 rfl ?_
    refine g_runv (rI [.ref r.2.1, .int (gI σ18 28)] [.ref a17] K hM hl (c_X18_init_c16 l r A _ _ _ _ hf) q1012 q1013 q114 q1014 hdX18_init ⟨Nat.le_of_ble_eq_true rfl, Nat.le_of_ble_eq_true rfl⟩ ⟨bud_ret hc.1, bud_ret hc.2⟩ rfl (Nat.le_of_ble_eq_true rfl) dX0_made_79) hM (fun σ23 H locs hf hM => ?_)
    exact g_retq (v := (some a17)) K hr (Or.inl ⟨_, rfl⟩) hM ⟨bud_ret hc.1, bud_ret hc.2⟩ hf dX0_made_82
  replace hf := hf.2 b65_2
  by_cases b65_3 : x1 = (4 : Int32)
  · replace hf := hf.1 b65_3
    refine lv_tableIn (off := 82) (tgt := 83) hx hb dX0_made_1 (by rw [b65_3]; decide) (by rw [b65_3]; decide) (by rw [b65_3]; rfl) (by decide) ?_
    obtain ⟨b27, s28, g29, g30, hf⟩ := hf
    refine p_new K kY17 hM q1023 q1024 q115 hf0X19 (bud_le hc.1 g29) (bud_le hc.2 g30) dX0_made_83 (fun H a25 σ26 ea25 hσ26 hM => ?_)
    have hf := hf a25 ea25 σ26 hσ26
    replace hc := And.intro (bud hc.1 g29) (bud hc.2 g30)
    refine lv_dup hx hb dX0_made_86 rfl ?_
    refine lv_aload_n hx hb dX0_made_87 rfl (lv_at hl 0 rfl) ?_
    refine lv_aload_n hx hb dX0_made_88 rfl (lv_at hl 0 rfl) ?_
    refine g_geti K kX hM 28 rfl q191 rfl dX0_made_89 rfl ?_
    refine g_runv (rI [.ref r.2.1, .int (gI σ26 28)] [.ref a25] K hM hl (c_X19_init_c17 l r A _ _ _ _ hf) q1025 q1026 q115 q1027 hdX19_init ⟨Nat.le_of_ble_eq_true rfl, Nat.le_of_ble_eq_true rfl⟩ ⟨bud_ret hc.1, bud_ret hc.2⟩ rfl (Nat.le_of_ble_eq_true rfl) dX0_made_92) hM (fun σ31 H locs hf hM => ?_)
    exact g_retq (v := (some a25)) K hr (Or.inl ⟨_, rfl⟩) hM ⟨bud_ret hc.1, bud_ret hc.2⟩ hf dX0_made_95
  replace hf := hf.2 b65_3
  by_cases b65_4 : x1 = (5 : Int32)
  · replace hf := hf.1 b65_4
    refine lv_tableIn (off := 95) (tgt := 96) hx hb dX0_made_1 (by rw [b65_4]; decide) (by rw [b65_4]; decide) (by rw [b65_4]; rfl) (by decide) ?_
    obtain ⟨b35, s36, g37, g38, hf⟩ := hf
    refine p_new K kY18 hM q1036 q1037 q116 hf0X20 (bud_le hc.1 g37) (bud_le hc.2 g38) dX0_made_96 (fun H a33 σ34 ea33 hσ34 hM => ?_)
    have hf := hf a33 ea33 σ34 hσ34
    replace hc := And.intro (bud hc.1 g37) (bud hc.2 g38)
    refine lv_dup hx hb dX0_made_99 rfl ?_
    refine lv_aload_n hx hb dX0_made_100 rfl (lv_at hl 0 rfl) ?_
    refine lv_aload_n hx hb dX0_made_101 rfl (lv_at hl 0 rfl) ?_
    refine g_geti K kX hM 28 rfl q191 rfl dX0_made_102 rfl ?_
    refine g_runv (rI [.ref r.2.1, .int (gI σ34 28)] [.ref a33] K hM hl (c_X20_init_c18 l r A _ _ _ _ hf) q1038 q1039 q116 q1040 hdX20_init ⟨Nat.le_of_ble_eq_true rfl, Nat.le_of_ble_eq_true rfl⟩ ⟨bud_ret hc.1, bud_ret hc.2⟩ rfl (Nat.le_of_ble_eq_true rfl) dX0_made_105) hM (fun σ39 H locs hf hM => ?_)
    exact g_retq (v := (some a33)) K hr (Or.inl ⟨_, rfl⟩) hM ⟨bud_ret hc.1, bud_ret hc.2⟩ hf dX0_made_108
  replace hf := hf.2 b65_4
  by_cases b65_5 : x1 = (6 : Int32)
  · replace hf := hf.1 b65_5
    refine lv_tableIn (off := 108) (tgt := 109) hx hb dX0_made_1 (by rw [b65_5]; decide) (by rw [b65_5]; decide) (by rw [b65_5]; rfl) (by decide) ?_
    obtain ⟨b43, s44, g45, g46, hf⟩ := hf
    refine p_new K kY19 hM q1050 q1051 q117 hf0X21 (bud_le hc.1 g45) (bud_le hc.2 g46) dX0_made_109 (fun H a41 σ42 ea41 hσ42 hM => ?_)
    have hf := hf a41 ea41 σ42 hσ42
    replace hc := And.intro (bud hc.1 g45) (bud hc.2 g46)
    refine lv_dup hx hb dX0_made_112 rfl ?_
    refine lv_aload_n hx hb dX0_made_113 rfl (lv_at hl 0 rfl) ?_
    refine lv_aload_n hx hb dX0_made_114 rfl (lv_at hl 0 rfl) ?_
    refine g_geti K kX hM 28 rfl q191 rfl dX0_made_115 rfl ?_
    refine g_runv (rI [.ref r.2.1, .int (gI σ42 28)] [.ref a41] K hM hl (c_X21_init_c19 l r A _ _ _ _ hf) q1052 q1053 q117 q1054 hdX21_init ⟨Nat.le_of_ble_eq_true rfl, Nat.le_of_ble_eq_true rfl⟩ ⟨bud_ret hc.1, bud_ret hc.2⟩ rfl (Nat.le_of_ble_eq_true rfl) dX0_made_118) hM (fun σ47 H locs hf hM => ?_)
    exact g_retq (v := (some a41)) K hr (Or.inl ⟨_, rfl⟩) hM ⟨bud_ret hc.1, bud_ret hc.2⟩ hf dX0_made_121
  replace hf := hf.2 b65_5
  by_cases b65_6 : x1 = (7 : Int32)
  · replace hf := hf.1 b65_6
    refine lv_tableIn (off := 121) (tgt := 122) hx hb dX0_made_1 (by rw [b65_6]; decide) (by rw [b65_6]; decide) (by rw [b65_6]; rfl) (by decide) ?_
    obtain ⟨b51, s52, g53, g54, hf⟩ := hf
    refine p_new K kY20 hM q1062 q1063 q118 hf0X22 (bud_le hc.1 g53) (bud_le hc.2 g54) dX0_made_122 (fun H a49 σ50 ea49 hσ50 hM => ?_)
    have hf := hf a49 ea49 σ50 hσ50
    replace hc := And.intro (bud hc.1 g53) (bud hc.2 g54)
    refine lv_dup hx hb dX0_made_125 rfl ?_
    refine lv_aload_n hx hb dX0_made_126 rfl (lv_at hl 0 rfl) ?_
    refine lv_aload_n hx hb dX0_made_127 rfl (lv_at hl 0 rfl) ?_
    refine g_geti K kX hM 28 rfl q191 rfl dX0_made_128 rfl ?_
    refine g_runv (rI [.ref r.2.1, .int (gI σ50 28)] [.ref a49] K hM hl (c_X22_init_c20 l r A _ _ _ _ hf) q1064 q1065 q118 q1066 hdX22_init ⟨Nat.le_of_ble_eq_true rfl, Nat.le_of_ble_eq_true rfl⟩ ⟨bud_ret hc.1, bud_ret hc.2⟩ rfl (Nat.le_of_ble_eq_true rfl) dX0_made_131) hM (fun σ55 H locs hf hM => ?_)
    exact g_retq (v := (some a49)) K hr (Or.inl ⟨_, rfl⟩) hM ⟨bud_ret hc.1, bud_ret hc.2⟩ hf dX0_made_134
  replace hf := hf.2 b65_6
  refine lv_tableOut (tgt := 135) hx hb dX0_made_1 (by have := lv_neT (a := 1) b65_0 rfl; have := lv_neT (a := 2) b65_1 rfl; have := lv_neT (a := 3) b65_2 rfl; have := lv_neT (a := 4) b65_3 rfl; have := lv_neT (a := 5) b65_4 rfl; have := lv_neT (a := 6) b65_5 rfl; have := lv_neT (a := 7) b65_6 rfl; omega) (by decide) ?_
  obtain ⟨b59, s60, g61, g62, hf⟩ := hf
  refine p_new K kY13 hM q157 q1076 q111 hf0X15 (bud_le hc.1 g61) (bud_le hc.2 g62) dX0_made_135 (fun H a57 σ58 ea57 hσ58 hM => ?_)
  have hf := hf a57 ea57 σ58 hσ58
  replace hc := And.intro (bud hc.1 g61) (bud hc.2 g62)
  refine lv_dup hx hb dX0_made_138 rfl ?_
  refine lv_aload_n hx hb dX0_made_139 rfl (lv_at hl 0 rfl) ?_
  refine lv_aload_n hx hb dX0_made_140 rfl (lv_at hl 0 rfl) ?_
  refine g_geti K kX hM 28 rfl q191 rfl dX0_made_141 rfl ?_
  refine g_runv (rI [.ref r.2.1, .int (gI σ58 28)] [.ref a57] K hM hl (c_X15_init_c13 l r A _ _ _ _ hf) q1077 q982 q111 q983 hdX15_init ⟨Nat.le_of_ble_eq_true rfl, Nat.le_of_ble_eq_true rfl⟩ ⟨bud_ret hc.1, bud_ret hc.2⟩ rfl (Nat.le_of_ble_eq_true rfl) dX0_made_144) hM (fun σ63 H locs hf hM => ?_)
  exact g_retq (v := (some a57)) K hr (Or.inl ⟨_, rfl⟩) hM ⟨bud_ret hc.1, bud_ret hc.2⟩ hf dX0_made_147
theorem c_X0_body (l : Launch) (r : GR) (A : Nat → Prop) (bc bs : Nat) (σ : GS) (x1 : Int32) (P : GS → Int32 → Prop) (hf : f_X0_body r bc bs σ x1 P) : gMet dX l yX0_body cX0_body 2 (some .int) 7 153 bc bs r A σ [.ref r.2.1, .int x1] (zI P) := by
  refine g_enter (lv := [(0, .ref r.2.1), (1, .int x1)]) (by decide) (Nat.le_of_ble_eq_true rfl) rfl ?_
  intro p e s m below meth c ls K hr hM hl hi
  obtain ⟨hx, hb, hml, hown, hts, hlk, hKK, hA⟩ := id K
  unfold f_X0_body at hf
  generalize hB_ : bc = B
  generalize hS_ : bs = S
  have hc : 0 + bc ≤ B ∧ 0 + bs ≤ S := ⟨bud_0 hB_, bud_0 hS_⟩
  refine lv_iload_n hx hb dX0_body_0 rfl (lv_at hl 1 rfl) ?_
  refine lv_iconst (v := 0) hx hb dX0_body_1 rfl ?_
  refine lv_bipush (v := 7) hx hb dX0_body_2 rfl ?_
  refine g_runi (rS [.int x1, .int (0 : Int32), .int (7 : Int32)] [] K hM hl (c_X0_in l r A _ _ _ _ _ hf) q261 q262 q82 q263 hdX0_in ⟨Nat.le_of_ble_eq_true rfl, Nat.le_of_ble_eq_true rfl⟩ ⟨bud_ret hc.1, bud_ret hc.2⟩ rfl (Nat.le_of_ble_eq_true rfl) dX0_body_4) hM (fun σ1 v2 H locs hf hM => ?_)
  refine lv_if_ne (tgt := 12) hx hb dX0_body_7 (by decide) (fun b3 => ?_) (fun b3 => ?_)
  · replace hf := hf.2 b3
    refine lv_aload_n hx hb dX0_body_12 rfl (lv_at hl 0 rfl) ?_
    refine g_geti K kX hM 28 rfl q191 rfl dX0_body_13 rfl ?_
    refine lv_bipush (v := 50) hx hb dX0_body_16 rfl ?_
    refine lv_icmp_ne (tgt := 24) hx hb dX0_body_18 (by decide) (fun b4 => ?_) (fun b4 => ?_)
    · replace hf := hf.2 b4
      refine lv_aload_n hx hb dX0_body_24 rfl (lv_at hl 0 rfl) ?_
      refine g_geta K kX hM 27 rfl q190 rfl dX0_body_25 rfl ?_
      refine lv_aload_n hx hb dX0_body_28 rfl (lv_at hl 0 rfl) ?_
      refine g_geti K kX hM 28 rfl q191 rfl dX0_body_29 rfl ?_
      refine lv_aload_n hx hb dX0_body_32 rfl (lv_at hl 0 rfl) ?_
      refine lv_iload_n hx hb dX0_body_33 rfl (lv_at hl 1 rfl) ?_
      obtain ⟨c7, s8, hf⟩ := hf
      obtain ⟨b9, s10, g11, g12, hf⟩ := hf
      refine g_runq (rV [.int x1] [.int (gI σ1 28), .ref (r.2.2.1 27)] K kX hM hl (c_X0_made l r A _ _ _ _ _ hf) q972 q974 qs37 q82 q975 hdX0_made ⟨Nat.le_of_ble_eq_true rfl, Nat.le_of_ble_eq_true rfl⟩ ⟨bud_le hc.1 g11, bud_le hc.2 g12⟩ rfl (Nat.le_of_ble_eq_true rfl) dX0_body_34) hM (fun σ5 v6 H locs hf hM => ?_)
      replace hc := And.intro (bud hc.1 g11) (bud hc.2 g12)
      obtain ⟨a13, h14, hf⟩ := hf
      rw [h14]
      obtain ⟨g15, hf⟩ := hf
      obtain ⟨h16, hf⟩ := hf
      refine g_aastP K hM h16 g15 dX0_body_37 (fun H locs σ17 hσ17 hM => ?_)
      have hf := hf σ17 hσ17
      refine lv_aload_n hx hb dX0_body_38 rfl (lv_at hl 0 rfl) ?_
      refine lv_dup hx hb dX0_body_39 rfl ?_
      refine g_geti K kX hM 28 rfl q191 rfl dX0_body_40 rfl ?_
      refine lv_iconst (v := 1) hx hb dX0_body_43 rfl ?_
      refine lv_iadd hx hb dX0_body_44 ?_
      refine g_putiN K kX hM 28 rfl q191 rfl dX0_body_45 rfl rfl rfl (fun H locs σ18 hσ18 hM => ?_)
      have hf := hf σ18 hσ18
      refine lv_aload_n hx hb dX0_body_48 rfl (lv_at hl 0 rfl) ?_
      refine g_geti K kX hM 28 rfl q191 rfl dX0_body_49 rfl ?_
      refine lv_iconst (v := 1) hx hb dX0_body_52 rfl ?_
      refine lv_isub hx hb dX0_body_53 ?_
      exact g_reti K hr hM ⟨bud_ret hc.1, bud_ret hc.2⟩ hf dX0_body_54
    · replace hf := hf.1 b4
      refine lv_bipush (v := -3) hx hb dX0_body_21 rfl ?_
      exact g_reti K hr hM ⟨bud_ret hc.1, bud_ret hc.2⟩ hf dX0_body_23
  · replace hf := hf.1 b3
    refine lv_iconst (v := -1) hx hb dX0_body_10 rfl ?_
    exact g_reti K hr hM ⟨bud_ret hc.1, bud_ret hc.2⟩ hf dX0_body_11
theorem w_X0_ran_20 {p : Program} {l : Launch} {e : Env} {s : State} {m : MethodId} {args : Array Value} {below : List Frame} {meth : Method} {c : Code} {r : GR} {A : Nat → Prop} {P : GS → Prop} (K : gC p s m args meth c cX0_ran 2 RX0 r A) (hr : meth.sig.returnType = none) : ∀ (σ : GS), f_X0_ran_20 r P σ → gW dX p l e (gRm 0 0 0 0) s m args below meth c r A (zV P) 0 0 2 20 [(0, .ref r.2.1)] [] 0 0 σ := by
  obtain ⟨hx, hb, hml, hown, hts, hlk, hKK, hA⟩ := id K
  intro σ hf H locs ls hM hl
  unfold f_X0_ran_20 at hf
  refine lv_aload_n hx hb dX0_ran_20 rfl (lv_at hl 0 rfl) ?_
  refine lv_dup hx hb dX0_ran_21 rfl ?_
  refine g_geti K kX hM 25 rfl q188 rfl dX0_ran_22 rfl ?_
  refine lv_iconst (v := 1) hx hb dX0_ran_25 rfl ?_
  refine lv_iadd hx hb dX0_ran_26 ?_
  refine g_putiN K kX hM 25 rfl q188 rfl dX0_ran_27 rfl rfl rfl (fun H locs σ1 hσ1 hM => ?_)
  have hf := hf σ1 hσ1
  exact g_retv K hr hM ⟨Nat.le_refl _, Nat.le_refl _⟩ hf dX0_ran_30
theorem c_X0_ran (l : Launch) (r : GR) (A : Nat → Prop) (σ : GS) (x1 : Int32) (P : GS → Prop) (hf : f_X0_ran r σ x1 P) : gMet dX l yX0_ran cX0_ran 2 none 0 0 0 0 r A σ [.ref r.2.1, .int x1] (zV P) := by
  refine g_enter (lv := [(0, .ref r.2.1), (1, .int x1)]) (by decide) (Nat.le_of_ble_eq_true rfl) rfl ?_
  intro p e s m below meth c ls K hr hM hl hi
  obtain ⟨hx, hb, hml, hown, hts, hlk, hKK, hA⟩ := id K
  unfold f_X0_ran at hf
  refine lv_aload_n hx hb dX0_ran_0 rfl (lv_at hl 0 rfl) ?_
  refine g_geti K kX hM 25 rfl q188 rfl dX0_ran_1 rfl ?_
  refine lv_bipush (v := 24) hx hb dX0_ran_4 rfl ?_
  refine lv_icmp_ge (tgt := 20) hx hb dX0_ran_6 (by decide) (fun b1 => ?_) (fun b1 => ?_)
  · replace hf := hf.1 b1
    exact w_X0_ran_20 K hr _ hf _ _ _ hM (lv_sub hl [0] rfl)
  · replace hf := hf.2 b1
    refine lv_aload_n hx hb dX0_ran_9 rfl (lv_at hl 0 rfl) ?_
    refine g_geta K kX hM 26 rfl q189 rfl dX0_ran_10 rfl ?_
    refine lv_aload_n hx hb dX0_ran_13 rfl (lv_at hl 0 rfl) ?_
    refine g_geti K kX hM 25 rfl q188 rfl dX0_ran_14 rfl ?_
    refine lv_iload_n hx hb dX0_ran_17 rfl (lv_at hl 1 rfl) ?_
    refine lv_i2b hx hb dX0_ran_18 rfl ?_
    obtain ⟨g2, hf⟩ := hf
    refine g_bastN K hM 26 rfl rfl rfl g2 dX0_ran_19 (fun H locs σ3 hσ3 hM => ?_)
    have hf := hf σ3 hσ3
    exact w_X0_ran_20 K hr _ hf _ _ _ hM (lv_sub hl [0] rfl)
theorem c_X15_buys_c13 (l : Launch) (r : GR) (A : Nat → Prop) (σ : GS) (x0 : Nat) (x1 : Int32) (P : GS → Int32 → Prop) (hf : f_X15_buys_c13 r σ x0 x1 P) : gMet dX l yX15_buys cX15_buys 2 (some .int) 1 21 0 0 r A σ [.ref x0, .int x1] (zI P) := by
  refine g_enter (lv := [(0, .ref x0), (1, .int x1)]) (by decide) (Nat.le_of_ble_eq_true rfl) rfl ?_
  intro p e s m below meth c ls K hr hM hl hi
  obtain ⟨hx, hb, hml, hown, hts, hlk, hKK, hA⟩ := id K
  unfold f_X15_buys_c13 at hf
  refine lv_aload_n hx hb dX15_buys_0 rfl (lv_at hl 0 rfl) ?_
  obtain ⟨h1, hf⟩ := hf
  refine p_get K kY13 hM 1 rfl q990 rfl dX15_buys_1 h1 ?_
  refine lv_iconst (v := 1) hx hb dX15_buys_4 rfl ?_
  refine g_runv (rVN [.int (1 : Int32)] [] K kX hM hl (c_X0_ran l r A _ _ _ hf) q1108 q1101 qs39 q82 q1102 hdX0_ran.2 ⟨Nat.le_of_ble_eq_true rfl, Nat.le_of_ble_eq_true rfl⟩ ⟨Nat.le_refl _, Nat.le_refl _⟩ rfl (Nat.le_of_ble_eq_true rfl) dX15_buys_5) hM (fun σ2 H locs hf hM => ?_)
  refine lv_iload_n hx hb dX15_buys_8 rfl (lv_at hl 1 rfl) ?_
  refine lv_aload_n hx hb dX15_buys_9 rfl (lv_at hl 0 rfl) ?_
  obtain ⟨v5, h4, hf⟩ := hf
  refine p_get K kY13 hM 0 rfl q989 rfl dX15_buys_10 h4 ?_
  refine lv_iadd hx hb dX15_buys_13 ?_
  exact g_reti K hr hM ⟨Nat.le_refl _, Nat.le_refl _⟩ hf dX15_buys_14
theorem c_X15_buys_c15 (l : Launch) (r : GR) (A : Nat → Prop) (σ : GS) (x0 : Nat) (x1 : Int32) (P : GS → Int32 → Prop) (hf : f_X15_buys_c15 r σ x0 x1 P) : gMet dX l yX15_buys cX15_buys 2 (some .int) 1 21 0 0 r A σ [.ref x0, .int x1] (zI P) := by
  refine g_enter (lv := [(0, .ref x0), (1, .int x1)]) (by decide) (Nat.le_of_ble_eq_true rfl) rfl ?_
  intro p e s m below meth c ls K hr hM hl hi
  obtain ⟨hx, hb, hml, hown, hts, hlk, hKK, hA⟩ := id K
  unfold f_X15_buys_c15 at hf
  refine lv_aload_n hx hb dX15_buys_0 rfl (lv_at hl 0 rfl) ?_
  obtain ⟨h1, hf⟩ := hf
  refine p_get K kY15 hM 1 rfl q990 rfl dX15_buys_1 h1 ?_
  refine lv_iconst (v := 1) hx hb dX15_buys_4 rfl ?_
  refine g_runv (rVN [.int (1 : Int32)] [] K kX hM hl (c_X0_ran l r A _ _ _ hf) q1108 q1101 qs39 q82 q1102 hdX0_ran.2 ⟨Nat.le_of_ble_eq_true rfl, Nat.le_of_ble_eq_true rfl⟩ ⟨Nat.le_refl _, Nat.le_refl _⟩ rfl (Nat.le_of_ble_eq_true rfl) dX15_buys_5) hM (fun σ2 H locs hf hM => ?_)
  refine lv_iload_n hx hb dX15_buys_8 rfl (lv_at hl 1 rfl) ?_
  refine lv_aload_n hx hb dX15_buys_9 rfl (lv_at hl 0 rfl) ?_
  obtain ⟨v5, h4, hf⟩ := hf
  refine p_get K kY15 hM 0 rfl q989 rfl dX15_buys_10 h4 ?_
  refine lv_iadd hx hb dX15_buys_13 ?_
  exact g_reti K hr hM ⟨Nat.le_refl _, Nat.le_refl _⟩ hf dX15_buys_14
theorem c_X15_buys_c16 (l : Launch) (r : GR) (A : Nat → Prop) (σ : GS) (x0 : Nat) (x1 : Int32) (P : GS → Int32 → Prop) (hf : f_X15_buys_c16 r σ x0 x1 P) : gMet dX l yX15_buys cX15_buys 2 (some .int) 1 21 0 0 r A σ [.ref x0, .int x1] (zI P) := by
  refine g_enter (lv := [(0, .ref x0), (1, .int x1)]) (by decide) (Nat.le_of_ble_eq_true rfl) rfl ?_
  intro p e s m below meth c ls K hr hM hl hi
  obtain ⟨hx, hb, hml, hown, hts, hlk, hKK, hA⟩ := id K
  unfold f_X15_buys_c16 at hf
  refine lv_aload_n hx hb dX15_buys_0 rfl (lv_at hl 0 rfl) ?_
  obtain ⟨h1, hf⟩ := hf
  refine p_get K kY16 hM 1 rfl q990 rfl dX15_buys_1 h1 ?_
  refine lv_iconst (v := 1) hx hb dX15_buys_4 rfl ?_
  refine g_runv (rVN [.int (1 : Int32)] [] K kX hM hl (c_X0_ran l r A _ _ _ hf) q1108 q1101 qs39 q82 q1102 hdX0_ran.2 ⟨Nat.le_of_ble_eq_true rfl, Nat.le_of_ble_eq_true rfl⟩ ⟨Nat.le_refl _, Nat.le_refl _⟩ rfl (Nat.le_of_ble_eq_true rfl) dX15_buys_5) hM (fun σ2 H locs hf hM => ?_)
  refine lv_iload_n hx hb dX15_buys_8 rfl (lv_at hl 1 rfl) ?_
  refine lv_aload_n hx hb dX15_buys_9 rfl (lv_at hl 0 rfl) ?_
  obtain ⟨v5, h4, hf⟩ := hf
  refine p_get K kY16 hM 0 rfl q989 rfl dX15_buys_10 h4 ?_
  refine lv_iadd hx hb dX15_buys_13 ?_
  exact g_reti K hr hM ⟨Nat.le_refl _, Nat.le_refl _⟩ hf dX15_buys_14
theorem c_X15_buys_c17 (l : Launch) (r : GR) (A : Nat → Prop) (σ : GS) (x0 : Nat) (x1 : Int32) (P : GS → Int32 → Prop) (hf : f_X15_buys_c17 r σ x0 x1 P) : gMet dX l yX15_buys cX15_buys 2 (some .int) 1 21 0 0 r A σ [.ref x0, .int x1] (zI P) := by
  refine g_enter (lv := [(0, .ref x0), (1, .int x1)]) (by decide) (Nat.le_of_ble_eq_true rfl) rfl ?_
  intro p e s m below meth c ls K hr hM hl hi
  obtain ⟨hx, hb, hml, hown, hts, hlk, hKK, hA⟩ := id K
  unfold f_X15_buys_c17 at hf
  refine lv_aload_n hx hb dX15_buys_0 rfl (lv_at hl 0 rfl) ?_
  obtain ⟨h1, hf⟩ := hf
  refine p_get K kY17 hM 1 rfl q990 rfl dX15_buys_1 h1 ?_
  refine lv_iconst (v := 1) hx hb dX15_buys_4 rfl ?_
  refine g_runv (rVN [.int (1 : Int32)] [] K kX hM hl (c_X0_ran l r A _ _ _ hf) q1108 q1101 qs39 q82 q1102 hdX0_ran.2 ⟨Nat.le_of_ble_eq_true rfl, Nat.le_of_ble_eq_true rfl⟩ ⟨Nat.le_refl _, Nat.le_refl _⟩ rfl (Nat.le_of_ble_eq_true rfl) dX15_buys_5) hM (fun σ2 H locs hf hM => ?_)
  refine lv_iload_n hx hb dX15_buys_8 rfl (lv_at hl 1 rfl) ?_
  refine lv_aload_n hx hb dX15_buys_9 rfl (lv_at hl 0 rfl) ?_
  obtain ⟨v5, h4, hf⟩ := hf
  refine p_get K kY17 hM 0 rfl q989 rfl dX15_buys_10 h4 ?_
  refine lv_iadd hx hb dX15_buys_13 ?_
  exact g_reti K hr hM ⟨Nat.le_refl _, Nat.le_refl _⟩ hf dX15_buys_14
theorem c_X15_buys_c20 (l : Launch) (r : GR) (A : Nat → Prop) (σ : GS) (x0 : Nat) (x1 : Int32) (P : GS → Int32 → Prop) (hf : f_X15_buys_c20 r σ x0 x1 P) : gMet dX l yX15_buys cX15_buys 2 (some .int) 1 21 0 0 r A σ [.ref x0, .int x1] (zI P) := by
  refine g_enter (lv := [(0, .ref x0), (1, .int x1)]) (by decide) (Nat.le_of_ble_eq_true rfl) rfl ?_
  intro p e s m below meth c ls K hr hM hl hi
  obtain ⟨hx, hb, hml, hown, hts, hlk, hKK, hA⟩ := id K
  unfold f_X15_buys_c20 at hf
  refine lv_aload_n hx hb dX15_buys_0 rfl (lv_at hl 0 rfl) ?_
  obtain ⟨h1, hf⟩ := hf
  refine p_get K kY20 hM 1 rfl q990 rfl dX15_buys_1 h1 ?_
  refine lv_iconst (v := 1) hx hb dX15_buys_4 rfl ?_
  refine g_runv (rVN [.int (1 : Int32)] [] K kX hM hl (c_X0_ran l r A _ _ _ hf) q1108 q1101 qs39 q82 q1102 hdX0_ran.2 ⟨Nat.le_of_ble_eq_true rfl, Nat.le_of_ble_eq_true rfl⟩ ⟨Nat.le_refl _, Nat.le_refl _⟩ rfl (Nat.le_of_ble_eq_true rfl) dX15_buys_5) hM (fun σ2 H locs hf hM => ?_)
  refine lv_iload_n hx hb dX15_buys_8 rfl (lv_at hl 1 rfl) ?_
  refine lv_aload_n hx hb dX15_buys_9 rfl (lv_at hl 0 rfl) ?_
  obtain ⟨v5, h4, hf⟩ := hf
  refine p_get K kY20 hM 0 rfl q989 rfl dX15_buys_10 h4 ?_
  refine lv_iadd hx hb dX15_buys_13 ?_
  exact g_reti K hr hM ⟨Nat.le_refl _, Nat.le_refl _⟩ hf dX15_buys_14
theorem c_X15_buys_c14 (l : Launch) (r : GR) (A : Nat → Prop) (σ : GS) (x0 : Nat) (x1 : Int32) (P : GS → Int32 → Prop) (hf : f_X15_buys_c14 r σ x0 x1 P) : gMet dX l yX15_buys cX15_buys 2 (some .int) 1 21 0 0 r A σ [.ref x0, .int x1] (zI P) := by
  refine g_enter (lv := [(0, .ref x0), (1, .int x1)]) (by decide) (Nat.le_of_ble_eq_true rfl) rfl ?_
  intro p e s m below meth c ls K hr hM hl hi
  obtain ⟨hx, hb, hml, hown, hts, hlk, hKK, hA⟩ := id K
  unfold f_X15_buys_c14 at hf
  refine lv_aload_n hx hb dX15_buys_0 rfl (lv_at hl 0 rfl) ?_
  obtain ⟨h1, hf⟩ := hf
  refine p_get K kY14 hM 1 rfl q990 rfl dX15_buys_1 h1 ?_
  refine lv_iconst (v := 1) hx hb dX15_buys_4 rfl ?_
  refine g_runv (rVN [.int (1 : Int32)] [] K kX hM hl (c_X0_ran l r A _ _ _ hf) q1108 q1101 qs39 q82 q1102 hdX0_ran.2 ⟨Nat.le_of_ble_eq_true rfl, Nat.le_of_ble_eq_true rfl⟩ ⟨Nat.le_refl _, Nat.le_refl _⟩ rfl (Nat.le_of_ble_eq_true rfl) dX15_buys_5) hM (fun σ2 H locs hf hM => ?_)
  refine lv_iload_n hx hb dX15_buys_8 rfl (lv_at hl 1 rfl) ?_
  refine lv_aload_n hx hb dX15_buys_9 rfl (lv_at hl 0 rfl) ?_
  obtain ⟨v5, h4, hf⟩ := hf
  refine p_get K kY14 hM 0 rfl q989 rfl dX15_buys_10 h4 ?_
  refine lv_iadd hx hb dX15_buys_13 ?_
  exact g_reti K hr hM ⟨Nat.le_refl _, Nat.le_refl _⟩ hf dX15_buys_14
theorem c_X16_buys_c14 (l : Launch) (r : GR) (A : Nat → Prop) (σ : GS) (x0 : Nat) (x1 : Int32) (P : GS → Int32 → Prop) (hf : f_X16_buys_c14 r σ x0 x1 P) : gMet dX l yX16_buys cX16_buys 2 (some .int) 2 42 0 0 r A σ [.ref x0, .int x1] (zI P) := by
  refine g_enter (lv := [(0, .ref x0), (1, .int x1)]) (by decide) (Nat.le_of_ble_eq_true rfl) rfl ?_
  intro p e s m below meth c ls K hr hM hl hi
  obtain ⟨hx, hb, hml, hown, hts, hlk, hKK, hA⟩ := id K
  unfold f_X16_buys_c14 at hf
  refine lv_aload_n hx hb dX16_buys_0 rfl (lv_at hl 0 rfl) ?_
  obtain ⟨h1, hf⟩ := hf
  refine p_get K kY14 hM 2 rfl q988 rfl dX16_buys_1 h1 ?_
  refine lv_bipush (v := 20) hx hb dX16_buys_4 rfl ?_
  refine g_runv (rVN [.int (20 : Int32)] [] K kX hM hl (c_X0_ran l r A _ _ _ hf) q1122 q1101 qs39 q82 q1102 hdX0_ran.2 ⟨Nat.le_of_ble_eq_true rfl, Nat.le_of_ble_eq_true rfl⟩ ⟨Nat.le_refl _, Nat.le_refl _⟩ rfl (Nat.le_of_ble_eq_true rfl) dX16_buys_6) hM (fun σ2 H locs hf hM => ?_)
  refine lv_aload_n hx hb dX16_buys_9 rfl (lv_at hl 0 rfl) ?_
  refine lv_iload_n hx hb dX16_buys_10 rfl (lv_at hl 1 rfl) ?_
  obtain ⟨f6, h7, hf⟩ := hf
  refine g_runi (rSup (x := ⟨"PointsForAll$Purse", "buys", "(I)I"⟩) [.int x1] [] K kY14 hM hl h7 (c_X15_buys_c14 l r A _ _ _ _ hf) q1123 q1991 q997 q1106 q111 q1107 under_self rfl hds_buys ⟨Nat.le_of_ble_eq_true rfl, Nat.le_of_ble_eq_true rfl⟩ ⟨Nat.le_refl _, Nat.le_refl _⟩ rfl (Nat.le_of_ble_eq_true rfl) dX16_buys_11) hM (fun σ4 v5 H locs hf hM => ?_)
  refine lv_iconst (v := 3) hx hb dX16_buys_14 rfl ?_
  refine lv_iadd hx hb dX16_buys_15 ?_
  exact g_reti K hr hM ⟨Nat.le_refl _, Nat.le_refl _⟩ hf dX16_buys_16
theorem c_X15_buys_c18 (l : Launch) (r : GR) (A : Nat → Prop) (σ : GS) (x0 : Nat) (x1 : Int32) (P : GS → Int32 → Prop) (hf : f_X15_buys_c18 r σ x0 x1 P) : gMet dX l yX15_buys cX15_buys 2 (some .int) 1 21 0 0 r A σ [.ref x0, .int x1] (zI P) := by
  refine g_enter (lv := [(0, .ref x0), (1, .int x1)]) (by decide) (Nat.le_of_ble_eq_true rfl) rfl ?_
  intro p e s m below meth c ls K hr hM hl hi
  obtain ⟨hx, hb, hml, hown, hts, hlk, hKK, hA⟩ := id K
  unfold f_X15_buys_c18 at hf
  refine lv_aload_n hx hb dX15_buys_0 rfl (lv_at hl 0 rfl) ?_
  obtain ⟨h1, hf⟩ := hf
  refine p_get K kY18 hM 1 rfl q990 rfl dX15_buys_1 h1 ?_
  refine lv_iconst (v := 1) hx hb dX15_buys_4 rfl ?_
  refine g_runv (rVN [.int (1 : Int32)] [] K kX hM hl (c_X0_ran l r A _ _ _ hf) q1108 q1101 qs39 q82 q1102 hdX0_ran.2 ⟨Nat.le_of_ble_eq_true rfl, Nat.le_of_ble_eq_true rfl⟩ ⟨Nat.le_refl _, Nat.le_refl _⟩ rfl (Nat.le_of_ble_eq_true rfl) dX15_buys_5) hM (fun σ2 H locs hf hM => ?_)
  refine lv_iload_n hx hb dX15_buys_8 rfl (lv_at hl 1 rfl) ?_
  refine lv_aload_n hx hb dX15_buys_9 rfl (lv_at hl 0 rfl) ?_
  obtain ⟨v5, h4, hf⟩ := hf
  refine p_get K kY18 hM 0 rfl q989 rfl dX15_buys_10 h4 ?_
  refine lv_iadd hx hb dX15_buys_13 ?_
  exact g_reti K hr hM ⟨Nat.le_refl _, Nat.le_refl _⟩ hf dX15_buys_14
theorem c_X20_buys_c18 (l : Launch) (r : GR) (A : Nat → Prop) (σ : GS) (x0 : Nat) (x1 : Int32) (P : GS → Int32 → Prop) (hf : f_X20_buys_c18 r σ x0 x1 P) : gMet dX l yX20_buys cX20_buys 2 (some .int) 2 42 0 0 r A σ [.ref x0, .int x1] (zI P) := by
  refine g_enter (lv := [(0, .ref x0), (1, .int x1)]) (by decide) (Nat.le_of_ble_eq_true rfl) rfl ?_
  intro p e s m below meth c ls K hr hM hl hi
  obtain ⟨hx, hb, hml, hown, hts, hlk, hKK, hA⟩ := id K
  unfold f_X20_buys_c18 at hf
  refine lv_aload_n hx hb dX20_buys_0 rfl (lv_at hl 0 rfl) ?_
  obtain ⟨h1, hf⟩ := hf
  refine p_get K kY18 hM 4 rfl q1042 rfl dX20_buys_1 h1 ?_
  refine lv_bipush (v := 60) hx hb dX20_buys_4 rfl ?_
  refine g_runv (rVN [.int (60 : Int32)] [] K kX hM hl (c_X0_ran l r A _ _ _ hf) q1099 q1101 qs39 q82 q1102 hdX0_ran.2 ⟨Nat.le_of_ble_eq_true rfl, Nat.le_of_ble_eq_true rfl⟩ ⟨Nat.le_refl _, Nat.le_refl _⟩ rfl (Nat.le_of_ble_eq_true rfl) dX20_buys_6) hM (fun σ2 H locs hf hM => ?_)
  refine lv_aload_n hx hb dX20_buys_9 rfl (lv_at hl 0 rfl) ?_
  refine lv_iload_n hx hb dX20_buys_10 rfl (lv_at hl 1 rfl) ?_
  refine lv_iconst (v := 1) hx hb dX20_buys_11 rfl ?_
  refine lv_iadd hx hb dX20_buys_12 ?_
  obtain ⟨f6, h7, hf⟩ := hf
  refine g_runi (rSup (x := ⟨"PointsForAll$Lent", "buys", "(I)I"⟩) [.int (x1 + (1 : Int32))] [] K kY18 hM hl h7 (c_X15_buys_c18 l r A _ _ _ _ hf) q1103 q1104 q1049 q1106 q111 q1107 (under_c hts (hA.2.1.1 _ q2020 rfl) q1022 q1080) rfl hds_buys ⟨Nat.le_of_ble_eq_true rfl, Nat.le_of_ble_eq_true rfl⟩ ⟨Nat.le_refl _, Nat.le_refl _⟩ rfl (Nat.le_of_ble_eq_true rfl) dX20_buys_13) hM (fun σ4 v5 H locs hf hM => ?_)
  exact g_reti K hr hM ⟨Nat.le_refl _, Nat.le_refl _⟩ hf dX20_buys_16
theorem c_X15_buys_c19 (l : Launch) (r : GR) (A : Nat → Prop) (σ : GS) (x0 : Nat) (x1 : Int32) (P : GS → Int32 → Prop) (hf : f_X15_buys_c19 r σ x0 x1 P) : gMet dX l yX15_buys cX15_buys 2 (some .int) 1 21 0 0 r A σ [.ref x0, .int x1] (zI P) := by
  refine g_enter (lv := [(0, .ref x0), (1, .int x1)]) (by decide) (Nat.le_of_ble_eq_true rfl) rfl ?_
  intro p e s m below meth c ls K hr hM hl hi
  obtain ⟨hx, hb, hml, hown, hts, hlk, hKK, hA⟩ := id K
  unfold f_X15_buys_c19 at hf
  refine lv_aload_n hx hb dX15_buys_0 rfl (lv_at hl 0 rfl) ?_
  obtain ⟨h1, hf⟩ := hf
  refine p_get K kY19 hM 1 rfl q990 rfl dX15_buys_1 h1 ?_
  refine lv_iconst (v := 1) hx hb dX15_buys_4 rfl ?_
  refine g_runv (rVN [.int (1 : Int32)] [] K kX hM hl (c_X0_ran l r A _ _ _ hf) q1108 q1101 qs39 q82 q1102 hdX0_ran.2 ⟨Nat.le_of_ble_eq_true rfl, Nat.le_of_ble_eq_true rfl⟩ ⟨Nat.le_refl _, Nat.le_refl _⟩ rfl (Nat.le_of_ble_eq_true rfl) dX15_buys_5) hM (fun σ2 H locs hf hM => ?_)
  refine lv_iload_n hx hb dX15_buys_8 rfl (lv_at hl 1 rfl) ?_
  refine lv_aload_n hx hb dX15_buys_9 rfl (lv_at hl 0 rfl) ?_
  obtain ⟨v5, h4, hf⟩ := hf
  refine p_get K kY19 hM 0 rfl q989 rfl dX15_buys_10 h4 ?_
  refine lv_iadd hx hb dX15_buys_13 ?_
  exact g_reti K hr hM ⟨Nat.le_refl _, Nat.le_refl _⟩ hf dX15_buys_14
theorem c_X21_buys_c19 (l : Launch) (r : GR) (A : Nat → Prop) (σ : GS) (x0 : Nat) (x1 : Int32) (P : GS → Int32 → Prop) (hf : f_X21_buys_c19 r σ x0 x1 P) : gMet dX l yX21_buys cX21_buys 2 (some .int) 2 42 0 0 r A σ [.ref x0, .int x1] (zI P) := by
  refine g_enter (lv := [(0, .ref x0), (1, .int x1)]) (by decide) (Nat.le_of_ble_eq_true rfl) rfl ?_
  intro p e s m below meth c ls K hr hM hl hi
  obtain ⟨hx, hb, hml, hown, hts, hlk, hKK, hA⟩ := id K
  unfold f_X21_buys_c19 at hf
  refine lv_aload_n hx hb dX21_buys_0 rfl (lv_at hl 0 rfl) ?_
  obtain ⟨h1, hf⟩ := hf
  refine p_get K kY19 hM 2 rfl q1056 rfl dX21_buys_1 h1 ?_
  refine lv_bipush (v := 70) hx hb dX21_buys_4 rfl ?_
  refine g_runv (rVN [.int (70 : Int32)] [] K kX hM hl (c_X0_ran l r A _ _ _ hf) q1139 q1101 qs39 q82 q1102 hdX0_ran.2 ⟨Nat.le_of_ble_eq_true rfl, Nat.le_of_ble_eq_true rfl⟩ ⟨Nat.le_refl _, Nat.le_refl _⟩ rfl (Nat.le_of_ble_eq_true rfl) dX21_buys_6) hM (fun σ2 H locs hf hM => ?_)
  refine lv_aload_n hx hb dX21_buys_9 rfl (lv_at hl 0 rfl) ?_
  refine lv_iload_n hx hb dX21_buys_10 rfl (lv_at hl 1 rfl) ?_
  obtain ⟨f6, h7, hf⟩ := hf
  refine g_runi (rSup (x := ⟨"PointsForAll$Purse", "buys", "(I)I"⟩) [.int x1] [] K kY19 hM hl h7 (c_X15_buys_c19 l r A _ _ _ _ hf) q1140 q1991 q1061 q1106 q111 q1107 under_self rfl hds_buys ⟨Nat.le_of_ble_eq_true rfl, Nat.le_of_ble_eq_true rfl⟩ ⟨Nat.le_refl _, Nat.le_refl _⟩ rfl (Nat.le_of_ble_eq_true rfl) dX21_buys_11) hM (fun σ4 v5 H locs hf hM => ?_)
  refine lv_iconst (v := 2) hx hb dX21_buys_14 rfl ?_
  refine lv_imul hx hb dX21_buys_15 ?_
  exact g_reti K hr hM ⟨Nat.le_refl _, Nat.le_refl _⟩ hf dX21_buys_16
def gPB_buys (l : Launch) (r : GR) (A : Nat → Prop) (σ : GS) (x0 : Nat) (x1 : Int32) (P : GS → Int32 → Prop) : Prop :=
    ((∃ fs : List Value, gO σ x0 = some (.inr (13, fs))) ∧ gMet dX l yX15_buys cX15_buys 2 (some .int) 1 21 0 0 r A σ (.ref x0 :: [.int x1]) (zI P)) ∨
    ((∃ fs : List Value, gO σ x0 = some (.inr (14, fs))) ∧ gMet dX l yX16_buys cX16_buys 2 (some .int) 2 42 0 0 r A σ (.ref x0 :: [.int x1]) (zI P)) ∨
    ((∃ fs : List Value, gO σ x0 = some (.inr (15, fs))) ∧ gMet dX l yX15_buys cX15_buys 2 (some .int) 1 21 0 0 r A σ (.ref x0 :: [.int x1]) (zI P)) ∨
    ((∃ fs : List Value, gO σ x0 = some (.inr (16, fs))) ∧ gMet dX l yX15_buys cX15_buys 2 (some .int) 1 21 0 0 r A σ (.ref x0 :: [.int x1]) (zI P)) ∨
    ((∃ fs : List Value, gO σ x0 = some (.inr (17, fs))) ∧ gMet dX l yX15_buys cX15_buys 2 (some .int) 1 21 0 0 r A σ (.ref x0 :: [.int x1]) (zI P)) ∨
    ((∃ fs : List Value, gO σ x0 = some (.inr (18, fs))) ∧ gMet dX l yX20_buys cX20_buys 2 (some .int) 2 42 0 0 r A σ (.ref x0 :: [.int x1]) (zI P)) ∨
    ((∃ fs : List Value, gO σ x0 = some (.inr (19, fs))) ∧ gMet dX l yX21_buys cX21_buys 2 (some .int) 2 42 0 0 r A σ (.ref x0 :: [.int x1]) (zI P)) ∨
    ((∃ fs : List Value, gO σ x0 = some (.inr (20, fs))) ∧ gMet dX l yX15_buys cX15_buys 2 (some .int) 1 21 0 0 r A σ (.ref x0 :: [.int x1]) (zI P))
theorem c_PB_buys (l : Launch) (r : GR) (A : Nat → Prop) (σ : GS) (x0 : Nat) (x1 : Int32) (P : GS → Int32 → Prop) (hf : f_PB_buys r σ x0 x1 P) : gPB_buys l r A σ x0 x1 P := by
  rcases hf with ⟨fs, hb, hf⟩ | ⟨fs, hb, hf⟩ | ⟨fs, hb, hf⟩ | ⟨fs, hb, hf⟩ | ⟨fs, hb, hf⟩ | ⟨fs, hb, hf⟩ | ⟨fs, hb, hf⟩ | ⟨fs, hb, hf⟩
  · exact Or.inl ⟨⟨fs, hb⟩, c_X15_buys_c13 l r A σ x0 x1 P hf⟩
  · exact Or.inr (Or.inl ⟨⟨fs, hb⟩, c_X16_buys_c14 l r A σ x0 x1 P hf⟩)
  · exact Or.inr (Or.inr (Or.inl ⟨⟨fs, hb⟩, c_X15_buys_c15 l r A σ x0 x1 P hf⟩))
  · exact Or.inr (Or.inr (Or.inr (Or.inl ⟨⟨fs, hb⟩, c_X15_buys_c16 l r A σ x0 x1 P hf⟩)))
  · exact Or.inr (Or.inr (Or.inr (Or.inr (Or.inl ⟨⟨fs, hb⟩, c_X15_buys_c17 l r A σ x0 x1 P hf⟩))))
  · exact Or.inr (Or.inr (Or.inr (Or.inr (Or.inr (Or.inl ⟨⟨fs, hb⟩, c_X20_buys_c18 l r A σ x0 x1 P hf⟩)))))
  · exact Or.inr (Or.inr (Or.inr (Or.inr (Or.inr (Or.inr (Or.inl ⟨⟨fs, hb⟩, c_X21_buys_c19 l r A σ x0 x1 P hf⟩))))))
  · exact Or.inr (Or.inr (Or.inr (Or.inr (Or.inr (Or.inr (Or.inr (⟨⟨fs, hb⟩, c_X15_buys_c20 l r A σ x0 x1 P hf⟩)))))))
theorem rPB_buys {p : Program} {l : Launch} {e : Env} {R : Room} {s : State} {m : MethodId} {args : Array Value} {below : List Frame} {meth : Method} {c : Code} {H : Heap} {locs : List Loc} {cells slots : Nat} {cc : ByteArray} {nL pc index : Nat} {ls : Array Slot} {own : String} {r : GR} {A : Nat → Prop} {σ : GS} {x0 : Nat} {x1 : Int32} {P : GS → Int32 → Prop} {lv : List (Nat × Value)} {st0 : List Value} (rest : List Value) (K : gC p s m args meth c cc nL own r A) (hM : gM dX r A σ s.heap H locs) (hl : lv_has ls nL lv) (Y : gPB_buys l r A σ x0 x1 P) (h1 : Cond.methodLink own index ({ cls := "PointsForAll$Purse", name := "buys", desc := "(I)I" } : MethodName) ∈ lw_all) (hR : 2 + 1 ≤ R.frames ∧ 8 + (2 + 11) + 42 ≤ R.locals) (hf : cells + 0 ≤ R.cells ∧ slots + 0 ≤ R.slots) (hst : st0 = [.int x1] ++ .ref x0 :: rest) (hw : (rest.map fun v => v.category).sum ≤ 8) (hdg : decode cc pc = .ok (.invokevirtual index, 3)) :
    va_Run p l e R s m args below meth c H locs cells slots 0 0 (F0 m pc ls st0) rest (gEnd dX r A (zI P) (Value.ref x0 :: [.int x1]).toArray) A := by
  rcases Y with ⟨⟨fs, hb⟩, Y⟩ | ⟨⟨fs, hb⟩, Y⟩ | ⟨⟨fs, hb⟩, Y⟩ | ⟨⟨fs, hb⟩, Y⟩ | ⟨⟨fs, hb⟩, Y⟩ | ⟨⟨fs, hb⟩, Y⟩ | ⟨⟨fs, hb⟩, Y⟩ | ⟨⟨fs, hb⟩, Y⟩
  · exact rOv (x := ({ cls := "PointsForAll$Purse", name := "buys", desc := "(I)I" } : MethodName)) (owner := "PointsForAll$Purse") [.int x1] rest K kY13 hM hl hb Y h1 q1991 q1106 q1107 q1998 q1106 q111 q1107 hdo_Purse_buys ⟨Nat.le_trans (by omega) hR.1, Nat.le_trans (by omega) hR.2⟩ hf hst hw hdg
  · exact rOv (x := ({ cls := "PointsForAll$Purse", name := "buys", desc := "(I)I" } : MethodName)) (owner := "PointsForAll$Purse") [.int x1] rest K kY14 hM hl hb Y h1 q1991 q1106 q1107 q1995 q1119 q112 q1121 hdo_Purse_buys ⟨Nat.le_trans (by omega) hR.1, Nat.le_trans (by omega) hR.2⟩ hf hst hw hdg
  · exact rOv (x := ({ cls := "PointsForAll$Purse", name := "buys", desc := "(I)I" } : MethodName)) (owner := "PointsForAll$Purse") [.int x1] rest K kY15 hM hl hb Y h1 q1991 q1106 q1107 q1997 q1106 q111 q1107 hdo_Purse_buys ⟨Nat.le_trans (by omega) hR.1, Nat.le_trans (by omega) hR.2⟩ hf hst hw hdg
  · exact rOv (x := ({ cls := "PointsForAll$Purse", name := "buys", desc := "(I)I" } : MethodName)) (owner := "PointsForAll$Purse") [.int x1] rest K kY16 hM hl hb Y h1 q1991 q1106 q1107 q1996 q1106 q111 q1107 hdo_Purse_buys ⟨Nat.le_trans (by omega) hR.1, Nat.le_trans (by omega) hR.2⟩ hf hst hw hdg
  · exact rOv (x := ({ cls := "PointsForAll$Purse", name := "buys", desc := "(I)I" } : MethodName)) (owner := "PointsForAll$Purse") [.int x1] rest K kY17 hM hl hb Y h1 q1991 q1106 q1107 q1994 q1106 q111 q1107 hdo_Purse_buys ⟨Nat.le_trans (by omega) hR.1, Nat.le_trans (by omega) hR.2⟩ hf hst hw hdg
  · exact rOv (x := ({ cls := "PointsForAll$Purse", name := "buys", desc := "(I)I" } : MethodName)) (owner := "PointsForAll$Purse") [.int x1] rest K kY18 hM hl hb Y h1 q1991 q1106 q1107 q1992 q1096 q116 q1098 hdo_Purse_buys ⟨Nat.le_trans (by omega) hR.1, Nat.le_trans (by omega) hR.2⟩ hf hst hw hdg
  · exact rOv (x := ({ cls := "PointsForAll$Purse", name := "buys", desc := "(I)I" } : MethodName)) (owner := "PointsForAll$Purse") [.int x1] rest K kY19 hM hl hb Y h1 q1991 q1106 q1107 q1999 q1136 q117 q1138 hdo_Purse_buys ⟨Nat.le_trans (by omega) hR.1, Nat.le_trans (by omega) hR.2⟩ hf hst hw hdg
  · exact rOv (x := ({ cls := "PointsForAll$Purse", name := "buys", desc := "(I)I" } : MethodName)) (owner := "PointsForAll$Purse") [.int x1] rest K kY20 hM hl hb Y h1 q1991 q1106 q1107 q1993 q1106 q111 q1107 hdo_Purse_buys ⟨Nat.le_trans (by omega) hR.1, Nat.le_trans (by omega) hR.2⟩ hf hst hw hdg
theorem hdf_buys : "PointsForAll$Buys" ≠ "java/lang/invoke/MethodHandle" ∧ "PointsForAll$Buys" ≠ "java/lang/invoke/VarHandle" ∧ (parseMethodDescriptor "(I)I").map (fun d => d.parameters.length) = some 1 := by decide +kernel
theorem rFPB_buys {p : Program} {l : Launch} {e : Env} {R : Room} {s : State} {m : MethodId} {args : Array Value} {below : List Frame} {meth : Method} {c : Code} {H : Heap} {locs : List Loc} {cells slots : Nat} {cc : ByteArray} {nL pc index : Nat} {ls : Array Slot} {own : String} {r : GR} {A : Nat → Prop} {σ : GS} {x0 : Nat} {x1 : Int32} {P : GS → Int32 → Prop} {lv : List (Nat × Value)} {st0 : List Value} {count : Nat} (rest : List Value) (K : gC p s m args meth c cc nL own r A) (hM : gM dX r A σ s.heap H locs) (hl : lv_has ls nL lv) (Y : gPB_buys l r A σ x0 x1 P) (h1 : Cond.methodLink own index ({ cls := "PointsForAll$Buys", name := "buys", desc := "(I)I" } : MethodName) ∈ lw_all) (hR : 2 + 1 ≤ R.frames ∧ 8 + (2 + 11) + 42 ≤ R.locals) (hf : cells + 0 ≤ R.cells ∧ slots + 0 ≤ R.slots) (hst : st0 = [.int x1] ++ .ref x0 :: rest) (hw : (rest.map fun v => v.category).sum ≤ 8) (hdg : decode cc pc = .ok (.invokeinterface index count, 5)) :
    va_Run5 p l e R s m args below meth c H locs cells slots 0 0 (F0 m pc ls st0) rest (gEnd dX r A (zI P) (Value.ref x0 :: [.int x1]).toArray) A := by
  rcases Y with ⟨⟨fs, hb⟩, Y⟩ | ⟨⟨fs, hb⟩, Y⟩ | ⟨⟨fs, hb⟩, Y⟩ | ⟨⟨fs, hb⟩, Y⟩ | ⟨⟨fs, hb⟩, Y⟩ | ⟨⟨fs, hb⟩, Y⟩ | ⟨⟨fs, hb⟩, Y⟩ | ⟨⟨fs, hb⟩, Y⟩
  · exact rF (x := ({ cls := "PointsForAll$Buys", name := "buys", desc := "(I)I" } : MethodName)) [.int x1] rest K kY13 hM hl hb Y h1 (by decide +kernel) q1131 q1106 q111 q1107 hdf_buys ⟨Nat.le_trans (by omega) hR.1, Nat.le_trans (by omega) hR.2⟩ hf hst hw hdg
  · exact rF (x := ({ cls := "PointsForAll$Buys", name := "buys", desc := "(I)I" } : MethodName)) [.int x1] rest K kY14 hM hl hb Y h1 (by decide +kernel) q1117 q1119 q112 q1121 hdf_buys ⟨Nat.le_trans (by omega) hR.1, Nat.le_trans (by omega) hR.2⟩ hf hst hw hdg
  · exact rF (x := ({ cls := "PointsForAll$Buys", name := "buys", desc := "(I)I" } : MethodName)) [.int x1] rest K kY15 hM hl hb Y h1 (by decide +kernel) q1128 q1106 q111 q1107 hdf_buys ⟨Nat.le_trans (by omega) hR.1, Nat.le_trans (by omega) hR.2⟩ hf hst hw hdg
  · exact rF (x := ({ cls := "PointsForAll$Buys", name := "buys", desc := "(I)I" } : MethodName)) [.int x1] rest K kY16 hM hl hb Y h1 (by decide +kernel) q1125 q1106 q111 q1107 hdf_buys ⟨Nat.le_trans (by omega) hR.1, Nat.le_trans (by omega) hR.2⟩ hf hst hw hdg
  · exact rF (x := ({ cls := "PointsForAll$Buys", name := "buys", desc := "(I)I" } : MethodName)) [.int x1] rest K kY17 hM hl hb Y h1 (by decide +kernel) q1114 q1106 q111 q1107 hdf_buys ⟨Nat.le_trans (by omega) hR.1, Nat.le_trans (by omega) hR.2⟩ hf hst hw hdg
  · exact rF (x := ({ cls := "PointsForAll$Buys", name := "buys", desc := "(I)I" } : MethodName)) [.int x1] rest K kY18 hM hl hb Y h1 (by decide +kernel) q1094 q1096 q116 q1098 hdf_buys ⟨Nat.le_trans (by omega) hR.1, Nat.le_trans (by omega) hR.2⟩ hf hst hw hdg
  · exact rF (x := ({ cls := "PointsForAll$Buys", name := "buys", desc := "(I)I" } : MethodName)) [.int x1] rest K kY19 hM hl hb Y h1 (by decide +kernel) q1134 q1136 q117 q1138 hdf_buys ⟨Nat.le_trans (by omega) hR.1, Nat.le_trans (by omega) hR.2⟩ hf hst hw hdg
  · exact rF (x := ({ cls := "PointsForAll$Buys", name := "buys", desc := "(I)I" } : MethodName)) [.int x1] rest K kY20 hM hl hb Y h1 (by decide +kernel) q1110 q1106 q111 q1107 hdf_buys ⟨Nat.le_trans (by omega) hR.1, Nat.le_trans (by omega) hR.2⟩ hf hst hw hdg
theorem c_X15_keeps_c13 (l : Launch) (r : GR) (A : Nat → Prop) (σ : GS) (x0 : Nat) (x1 : Int32) (P : GS → Int32 → Prop) (hf : f_X15_keeps_c13 r σ x0 x1 P) : gMet dX l yX15_keeps cX15_keeps 2 (some .int) 2 42 0 0 r A σ [.ref x0, .int x1] (zI P) := by
  refine g_enter (lv := [(0, .ref x0), (1, .int x1)]) (by decide) (Nat.le_of_ble_eq_true rfl) rfl ?_
  intro p e s m below meth c ls K hr hM hl hi
  obtain ⟨hx, hb, hml, hown, hts, hlk, hKK, hA⟩ := id K
  unfold f_X15_keeps_c13 at hf
  refine lv_aload_n hx hb dX15_keeps_0 rfl (lv_at hl 0 rfl) ?_
  obtain ⟨h1, hf⟩ := hf
  refine p_get K kY13 hM 1 rfl q990 rfl dX15_keeps_1 h1 ?_
  refine lv_bipush (v := 10) hx hb dX15_keeps_4 rfl ?_
  refine g_runv (rVN [.int (10 : Int32)] [] K kX hM hl (c_X0_ran l r A _ _ _ hf) q1108 q1101 qs39 q82 q1102 hdX0_ran.2 ⟨Nat.le_of_ble_eq_true rfl, Nat.le_of_ble_eq_true rfl⟩ ⟨Nat.le_refl _, Nat.le_refl _⟩ rfl (Nat.le_of_ble_eq_true rfl) dX15_keeps_6) hM (fun σ2 H locs hf hM => ?_)
  refine lv_aload_n hx hb dX15_keeps_9 rfl (lv_at hl 0 rfl) ?_
  refine lv_iload_n hx hb dX15_keeps_10 rfl (lv_at hl 1 rfl) ?_
  obtain ⟨f6, h7, hf⟩ := hf
  refine g_runi (rOv (x := ⟨"PointsForAll$Purse", "buys", "(I)I"⟩) (owner := "PointsForAll$Purse") [.int x1] [] K kY13 hM hl h7 (c_X15_buys_c13 l r A _ _ _ _ hf) q1194 q1991 q1106 q1107 q1998 q1106 q111 q1107 hdo_Purse_buys ⟨Nat.le_of_ble_eq_true rfl, Nat.le_of_ble_eq_true rfl⟩ ⟨Nat.le_refl _, Nat.le_refl _⟩ rfl (Nat.le_of_ble_eq_true rfl) dX15_keeps_11) hM (fun σ4 v5 H locs hf hM => ?_)
  refine lv_iconst (v := 2) hx hb dX15_keeps_14 rfl ?_
  refine lv_imul hx hb dX15_keeps_15 ?_
  exact g_reti K hr hM ⟨Nat.le_refl _, Nat.le_refl _⟩ hf dX15_keeps_16
theorem c_X15_keeps_c14 (l : Launch) (r : GR) (A : Nat → Prop) (σ : GS) (x0 : Nat) (x1 : Int32) (P : GS → Int32 → Prop) (hf : f_X15_keeps_c14 r σ x0 x1 P) : gMet dX l yX15_keeps cX15_keeps 2 (some .int) 3 63 0 0 r A σ [.ref x0, .int x1] (zI P) := by
  refine g_enter (lv := [(0, .ref x0), (1, .int x1)]) (by decide) (Nat.le_of_ble_eq_true rfl) rfl ?_
  intro p e s m below meth c ls K hr hM hl hi
  obtain ⟨hx, hb, hml, hown, hts, hlk, hKK, hA⟩ := id K
  unfold f_X15_keeps_c14 at hf
  refine lv_aload_n hx hb dX15_keeps_0 rfl (lv_at hl 0 rfl) ?_
  obtain ⟨h1, hf⟩ := hf
  refine p_get K kY14 hM 1 rfl q990 rfl dX15_keeps_1 h1 ?_
  refine lv_bipush (v := 10) hx hb dX15_keeps_4 rfl ?_
  refine g_runv (rVN [.int (10 : Int32)] [] K kX hM hl (c_X0_ran l r A _ _ _ hf) q1108 q1101 qs39 q82 q1102 hdX0_ran.2 ⟨Nat.le_of_ble_eq_true rfl, Nat.le_of_ble_eq_true rfl⟩ ⟨Nat.le_refl _, Nat.le_refl _⟩ rfl (Nat.le_of_ble_eq_true rfl) dX15_keeps_6) hM (fun σ2 H locs hf hM => ?_)
  refine lv_aload_n hx hb dX15_keeps_9 rfl (lv_at hl 0 rfl) ?_
  refine lv_iload_n hx hb dX15_keeps_10 rfl (lv_at hl 1 rfl) ?_
  obtain ⟨f6, h7, hf⟩ := hf
  refine g_runi (rOv (x := ⟨"PointsForAll$Purse", "buys", "(I)I"⟩) (owner := "PointsForAll$Purse") [.int x1] [] K kY14 hM hl h7 (c_X16_buys_c14 l r A _ _ _ _ hf) q1194 q1991 q1106 q1107 q1995 q1119 q112 q1121 hdo_Purse_buys ⟨Nat.le_of_ble_eq_true rfl, Nat.le_of_ble_eq_true rfl⟩ ⟨Nat.le_refl _, Nat.le_refl _⟩ rfl (Nat.le_of_ble_eq_true rfl) dX15_keeps_11) hM (fun σ4 v5 H locs hf hM => ?_)
  refine lv_iconst (v := 2) hx hb dX15_keeps_14 rfl ?_
  refine lv_imul hx hb dX15_keeps_15 ?_
  exact g_reti K hr hM ⟨Nat.le_refl _, Nat.le_refl _⟩ hf dX15_keeps_16
theorem c_X15_keeps_c19 (l : Launch) (r : GR) (A : Nat → Prop) (σ : GS) (x0 : Nat) (x1 : Int32) (P : GS → Int32 → Prop) (hf : f_X15_keeps_c19 r σ x0 x1 P) : gMet dX l yX15_keeps cX15_keeps 2 (some .int) 3 63 0 0 r A σ [.ref x0, .int x1] (zI P) := by
  refine g_enter (lv := [(0, .ref x0), (1, .int x1)]) (by decide) (Nat.le_of_ble_eq_true rfl) rfl ?_
  intro p e s m below meth c ls K hr hM hl hi
  obtain ⟨hx, hb, hml, hown, hts, hlk, hKK, hA⟩ := id K
  unfold f_X15_keeps_c19 at hf
  refine lv_aload_n hx hb dX15_keeps_0 rfl (lv_at hl 0 rfl) ?_
  obtain ⟨h1, hf⟩ := hf
  refine p_get K kY19 hM 1 rfl q990 rfl dX15_keeps_1 h1 ?_
  refine lv_bipush (v := 10) hx hb dX15_keeps_4 rfl ?_
  refine g_runv (rVN [.int (10 : Int32)] [] K kX hM hl (c_X0_ran l r A _ _ _ hf) q1108 q1101 qs39 q82 q1102 hdX0_ran.2 ⟨Nat.le_of_ble_eq_true rfl, Nat.le_of_ble_eq_true rfl⟩ ⟨Nat.le_refl _, Nat.le_refl _⟩ rfl (Nat.le_of_ble_eq_true rfl) dX15_keeps_6) hM (fun σ2 H locs hf hM => ?_)
  refine lv_aload_n hx hb dX15_keeps_9 rfl (lv_at hl 0 rfl) ?_
  refine lv_iload_n hx hb dX15_keeps_10 rfl (lv_at hl 1 rfl) ?_
  obtain ⟨f6, h7, hf⟩ := hf
  refine g_runi (rOv (x := ⟨"PointsForAll$Purse", "buys", "(I)I"⟩) (owner := "PointsForAll$Purse") [.int x1] [] K kY19 hM hl h7 (c_X21_buys_c19 l r A _ _ _ _ hf) q1194 q1991 q1106 q1107 q1999 q1136 q117 q1138 hdo_Purse_buys ⟨Nat.le_of_ble_eq_true rfl, Nat.le_of_ble_eq_true rfl⟩ ⟨Nat.le_refl _, Nat.le_refl _⟩ rfl (Nat.le_of_ble_eq_true rfl) dX15_keeps_11) hM (fun σ4 v5 H locs hf hM => ?_)
  refine lv_iconst (v := 2) hx hb dX15_keeps_14 rfl ?_
  refine lv_imul hx hb dX15_keeps_15 ?_
  exact g_reti K hr hM ⟨Nat.le_refl _, Nat.le_refl _⟩ hf dX15_keeps_16
theorem c_X15_keeps_c15 (l : Launch) (r : GR) (A : Nat → Prop) (σ : GS) (x0 : Nat) (x1 : Int32) (P : GS → Int32 → Prop) (hf : f_X15_keeps_c15 r σ x0 x1 P) : gMet dX l yX15_keeps cX15_keeps 2 (some .int) 2 42 0 0 r A σ [.ref x0, .int x1] (zI P) := by
  refine g_enter (lv := [(0, .ref x0), (1, .int x1)]) (by decide) (Nat.le_of_ble_eq_true rfl) rfl ?_
  intro p e s m below meth c ls K hr hM hl hi
  obtain ⟨hx, hb, hml, hown, hts, hlk, hKK, hA⟩ := id K
  unfold f_X15_keeps_c15 at hf
  refine lv_aload_n hx hb dX15_keeps_0 rfl (lv_at hl 0 rfl) ?_
  obtain ⟨h1, hf⟩ := hf
  refine p_get K kY15 hM 1 rfl q990 rfl dX15_keeps_1 h1 ?_
  refine lv_bipush (v := 10) hx hb dX15_keeps_4 rfl ?_
  refine g_runv (rVN [.int (10 : Int32)] [] K kX hM hl (c_X0_ran l r A _ _ _ hf) q1108 q1101 qs39 q82 q1102 hdX0_ran.2 ⟨Nat.le_of_ble_eq_true rfl, Nat.le_of_ble_eq_true rfl⟩ ⟨Nat.le_refl _, Nat.le_refl _⟩ rfl (Nat.le_of_ble_eq_true rfl) dX15_keeps_6) hM (fun σ2 H locs hf hM => ?_)
  refine lv_aload_n hx hb dX15_keeps_9 rfl (lv_at hl 0 rfl) ?_
  refine lv_iload_n hx hb dX15_keeps_10 rfl (lv_at hl 1 rfl) ?_
  obtain ⟨f6, h7, hf⟩ := hf
  refine g_runi (rOv (x := ⟨"PointsForAll$Purse", "buys", "(I)I"⟩) (owner := "PointsForAll$Purse") [.int x1] [] K kY15 hM hl h7 (c_X15_buys_c15 l r A _ _ _ _ hf) q1194 q1991 q1106 q1107 q1997 q1106 q111 q1107 hdo_Purse_buys ⟨Nat.le_of_ble_eq_true rfl, Nat.le_of_ble_eq_true rfl⟩ ⟨Nat.le_refl _, Nat.le_refl _⟩ rfl (Nat.le_of_ble_eq_true rfl) dX15_keeps_11) hM (fun σ4 v5 H locs hf hM => ?_)
  refine lv_iconst (v := 2) hx hb dX15_keeps_14 rfl ?_
  refine lv_imul hx hb dX15_keeps_15 ?_
  exact g_reti K hr hM ⟨Nat.le_refl _, Nat.le_refl _⟩ hf dX15_keeps_16
theorem c_X17_keeps_c15 (l : Launch) (r : GR) (A : Nat → Prop) (σ : GS) (x0 : Nat) (x1 : Int32) (P : GS → Int32 → Prop) (hf : f_X17_keeps_c15 r σ x0 x1 P) : gMet dX l yX17_keeps cX17_keeps 2 (some .int) 3 63 0 0 r A σ [.ref x0, .int x1] (zI P) := by
  refine g_enter (lv := [(0, .ref x0), (1, .int x1)]) (by decide) (Nat.le_of_ble_eq_true rfl) rfl ?_
  intro p e s m below meth c ls K hr hM hl hi
  obtain ⟨hx, hb, hml, hown, hts, hlk, hKK, hA⟩ := id K
  unfold f_X17_keeps_c15 at hf
  refine lv_aload_n hx hb dX17_keeps_0 rfl (lv_at hl 0 rfl) ?_
  obtain ⟨h1, hf⟩ := hf
  refine p_get K kY15 hM 2 rfl q1004 rfl dX17_keeps_1 h1 ?_
  refine lv_bipush (v := 30) hx hb dX17_keeps_4 rfl ?_
  refine g_runv (rVN [.int (30 : Int32)] [] K kX hM hl (c_X0_ran l r A _ _ _ hf) q1163 q1101 qs39 q82 q1102 hdX0_ran.2 ⟨Nat.le_of_ble_eq_true rfl, Nat.le_of_ble_eq_true rfl⟩ ⟨Nat.le_refl _, Nat.le_refl _⟩ rfl (Nat.le_of_ble_eq_true rfl) dX17_keeps_6) hM (fun σ2 H locs hf hM => ?_)
  refine lv_aload_n hx hb dX17_keeps_9 rfl (lv_at hl 0 rfl) ?_
  refine lv_iload_n hx hb dX17_keeps_10 rfl (lv_at hl 1 rfl) ?_
  obtain ⟨f6, h7, hf⟩ := hf
  refine g_runi (rSup (x := ⟨"PointsForAll$Purse", "keeps", "(I)I"⟩) [.int x1] [] K kY15 hM hl h7 (c_X15_keeps_c15 l r A _ _ _ _ hf) q1164 q1159 q1009 q1157 q111 q1193 under_self rfl hds_keeps ⟨Nat.le_of_ble_eq_true rfl, Nat.le_of_ble_eq_true rfl⟩ ⟨Nat.le_refl _, Nat.le_refl _⟩ rfl (Nat.le_of_ble_eq_true rfl) dX17_keeps_11) hM (fun σ4 v5 H locs hf hM => ?_)
  refine lv_ineg hx hb dX17_keeps_14 ?_
  exact g_reti K hr hM ⟨Nat.le_refl _, Nat.le_refl _⟩ hf dX17_keeps_15
theorem c_X15_keeps_c16 (l : Launch) (r : GR) (A : Nat → Prop) (σ : GS) (x0 : Nat) (x1 : Int32) (P : GS → Int32 → Prop) (hf : f_X15_keeps_c16 r σ x0 x1 P) : gMet dX l yX15_keeps cX15_keeps 2 (some .int) 2 42 0 0 r A σ [.ref x0, .int x1] (zI P) := by
  refine g_enter (lv := [(0, .ref x0), (1, .int x1)]) (by decide) (Nat.le_of_ble_eq_true rfl) rfl ?_
  intro p e s m below meth c ls K hr hM hl hi
  obtain ⟨hx, hb, hml, hown, hts, hlk, hKK, hA⟩ := id K
  unfold f_X15_keeps_c16 at hf
  refine lv_aload_n hx hb dX15_keeps_0 rfl (lv_at hl 0 rfl) ?_
  obtain ⟨h1, hf⟩ := hf
  refine p_get K kY16 hM 1 rfl q990 rfl dX15_keeps_1 h1 ?_
  refine lv_bipush (v := 10) hx hb dX15_keeps_4 rfl ?_
  refine g_runv (rVN [.int (10 : Int32)] [] K kX hM hl (c_X0_ran l r A _ _ _ hf) q1108 q1101 qs39 q82 q1102 hdX0_ran.2 ⟨Nat.le_of_ble_eq_true rfl, Nat.le_of_ble_eq_true rfl⟩ ⟨Nat.le_refl _, Nat.le_refl _⟩ rfl (Nat.le_of_ble_eq_true rfl) dX15_keeps_6) hM (fun σ2 H locs hf hM => ?_)
  refine lv_aload_n hx hb dX15_keeps_9 rfl (lv_at hl 0 rfl) ?_
  refine lv_iload_n hx hb dX15_keeps_10 rfl (lv_at hl 1 rfl) ?_
  obtain ⟨f6, h7, hf⟩ := hf
  refine g_runi (rOv (x := ⟨"PointsForAll$Purse", "buys", "(I)I"⟩) (owner := "PointsForAll$Purse") [.int x1] [] K kY16 hM hl h7 (c_X15_buys_c16 l r A _ _ _ _ hf) q1194 q1991 q1106 q1107 q1996 q1106 q111 q1107 hdo_Purse_buys ⟨Nat.le_of_ble_eq_true rfl, Nat.le_of_ble_eq_true rfl⟩ ⟨Nat.le_refl _, Nat.le_refl _⟩ rfl (Nat.le_of_ble_eq_true rfl) dX15_keeps_11) hM (fun σ4 v5 H locs hf hM => ?_)
  refine lv_iconst (v := 2) hx hb dX15_keeps_14 rfl ?_
  refine lv_imul hx hb dX15_keeps_15 ?_
  exact g_reti K hr hM ⟨Nat.le_refl _, Nat.le_refl _⟩ hf dX15_keeps_16
theorem c_X17_keeps_c16 (l : Launch) (r : GR) (A : Nat → Prop) (σ : GS) (x0 : Nat) (x1 : Int32) (P : GS → Int32 → Prop) (hf : f_X17_keeps_c16 r σ x0 x1 P) : gMet dX l yX17_keeps cX17_keeps 2 (some .int) 3 63 0 0 r A σ [.ref x0, .int x1] (zI P) := by
  refine g_enter (lv := [(0, .ref x0), (1, .int x1)]) (by decide) (Nat.le_of_ble_eq_true rfl) rfl ?_
  intro p e s m below meth c ls K hr hM hl hi
  obtain ⟨hx, hb, hml, hown, hts, hlk, hKK, hA⟩ := id K
  unfold f_X17_keeps_c16 at hf
  refine lv_aload_n hx hb dX17_keeps_0 rfl (lv_at hl 0 rfl) ?_
  obtain ⟨h1, hf⟩ := hf
  refine p_get K kY16 hM 2 rfl q1004 rfl dX17_keeps_1 h1 ?_
  refine lv_bipush (v := 30) hx hb dX17_keeps_4 rfl ?_
  refine g_runv (rVN [.int (30 : Int32)] [] K kX hM hl (c_X0_ran l r A _ _ _ hf) q1163 q1101 qs39 q82 q1102 hdX0_ran.2 ⟨Nat.le_of_ble_eq_true rfl, Nat.le_of_ble_eq_true rfl⟩ ⟨Nat.le_refl _, Nat.le_refl _⟩ rfl (Nat.le_of_ble_eq_true rfl) dX17_keeps_6) hM (fun σ2 H locs hf hM => ?_)
  refine lv_aload_n hx hb dX17_keeps_9 rfl (lv_at hl 0 rfl) ?_
  refine lv_iload_n hx hb dX17_keeps_10 rfl (lv_at hl 1 rfl) ?_
  obtain ⟨f6, h7, hf⟩ := hf
  refine g_runi (rSup (x := ⟨"PointsForAll$Purse", "keeps", "(I)I"⟩) [.int x1] [] K kY16 hM hl h7 (c_X15_keeps_c16 l r A _ _ _ _ hf) q1164 q1159 q1009 q1157 q111 q1193 under_self rfl hds_keeps ⟨Nat.le_of_ble_eq_true rfl, Nat.le_of_ble_eq_true rfl⟩ ⟨Nat.le_refl _, Nat.le_refl _⟩ rfl (Nat.le_of_ble_eq_true rfl) dX17_keeps_11) hM (fun σ4 v5 H locs hf hM => ?_)
  refine lv_ineg hx hb dX17_keeps_14 ?_
  exact g_reti K hr hM ⟨Nat.le_refl _, Nat.le_refl _⟩ hf dX17_keeps_15
theorem c_X15_keeps_c17 (l : Launch) (r : GR) (A : Nat → Prop) (σ : GS) (x0 : Nat) (x1 : Int32) (P : GS → Int32 → Prop) (hf : f_X15_keeps_c17 r σ x0 x1 P) : gMet dX l yX15_keeps cX15_keeps 2 (some .int) 2 42 0 0 r A σ [.ref x0, .int x1] (zI P) := by
  refine g_enter (lv := [(0, .ref x0), (1, .int x1)]) (by decide) (Nat.le_of_ble_eq_true rfl) rfl ?_
  intro p e s m below meth c ls K hr hM hl hi
  obtain ⟨hx, hb, hml, hown, hts, hlk, hKK, hA⟩ := id K
  unfold f_X15_keeps_c17 at hf
  refine lv_aload_n hx hb dX15_keeps_0 rfl (lv_at hl 0 rfl) ?_
  obtain ⟨h1, hf⟩ := hf
  refine p_get K kY17 hM 1 rfl q990 rfl dX15_keeps_1 h1 ?_
  refine lv_bipush (v := 10) hx hb dX15_keeps_4 rfl ?_
  refine g_runv (rVN [.int (10 : Int32)] [] K kX hM hl (c_X0_ran l r A _ _ _ hf) q1108 q1101 qs39 q82 q1102 hdX0_ran.2 ⟨Nat.le_of_ble_eq_true rfl, Nat.le_of_ble_eq_true rfl⟩ ⟨Nat.le_refl _, Nat.le_refl _⟩ rfl (Nat.le_of_ble_eq_true rfl) dX15_keeps_6) hM (fun σ2 H locs hf hM => ?_)
  refine lv_aload_n hx hb dX15_keeps_9 rfl (lv_at hl 0 rfl) ?_
  refine lv_iload_n hx hb dX15_keeps_10 rfl (lv_at hl 1 rfl) ?_
  obtain ⟨f6, h7, hf⟩ := hf
  refine g_runi (rOv (x := ⟨"PointsForAll$Purse", "buys", "(I)I"⟩) (owner := "PointsForAll$Purse") [.int x1] [] K kY17 hM hl h7 (c_X15_buys_c17 l r A _ _ _ _ hf) q1194 q1991 q1106 q1107 q1994 q1106 q111 q1107 hdo_Purse_buys ⟨Nat.le_of_ble_eq_true rfl, Nat.le_of_ble_eq_true rfl⟩ ⟨Nat.le_refl _, Nat.le_refl _⟩ rfl (Nat.le_of_ble_eq_true rfl) dX15_keeps_11) hM (fun σ4 v5 H locs hf hM => ?_)
  refine lv_iconst (v := 2) hx hb dX15_keeps_14 rfl ?_
  refine lv_imul hx hb dX15_keeps_15 ?_
  exact g_reti K hr hM ⟨Nat.le_refl _, Nat.le_refl _⟩ hf dX15_keeps_16
theorem c_X17_keeps_c17 (l : Launch) (r : GR) (A : Nat → Prop) (σ : GS) (x0 : Nat) (x1 : Int32) (P : GS → Int32 → Prop) (hf : f_X17_keeps_c17 r σ x0 x1 P) : gMet dX l yX17_keeps cX17_keeps 2 (some .int) 3 63 0 0 r A σ [.ref x0, .int x1] (zI P) := by
  refine g_enter (lv := [(0, .ref x0), (1, .int x1)]) (by decide) (Nat.le_of_ble_eq_true rfl) rfl ?_
  intro p e s m below meth c ls K hr hM hl hi
  obtain ⟨hx, hb, hml, hown, hts, hlk, hKK, hA⟩ := id K
  unfold f_X17_keeps_c17 at hf
  refine lv_aload_n hx hb dX17_keeps_0 rfl (lv_at hl 0 rfl) ?_
  obtain ⟨h1, hf⟩ := hf
  refine p_get K kY17 hM 2 rfl q1004 rfl dX17_keeps_1 h1 ?_
  refine lv_bipush (v := 30) hx hb dX17_keeps_4 rfl ?_
  refine g_runv (rVN [.int (30 : Int32)] [] K kX hM hl (c_X0_ran l r A _ _ _ hf) q1163 q1101 qs39 q82 q1102 hdX0_ran.2 ⟨Nat.le_of_ble_eq_true rfl, Nat.le_of_ble_eq_true rfl⟩ ⟨Nat.le_refl _, Nat.le_refl _⟩ rfl (Nat.le_of_ble_eq_true rfl) dX17_keeps_6) hM (fun σ2 H locs hf hM => ?_)
  refine lv_aload_n hx hb dX17_keeps_9 rfl (lv_at hl 0 rfl) ?_
  refine lv_iload_n hx hb dX17_keeps_10 rfl (lv_at hl 1 rfl) ?_
  obtain ⟨f6, h7, hf⟩ := hf
  refine g_runi (rSup (x := ⟨"PointsForAll$Purse", "keeps", "(I)I"⟩) [.int x1] [] K kY17 hM hl h7 (c_X15_keeps_c17 l r A _ _ _ _ hf) q1164 q1159 q1009 q1157 q111 q1193 under_self rfl hds_keeps ⟨Nat.le_of_ble_eq_true rfl, Nat.le_of_ble_eq_true rfl⟩ ⟨Nat.le_refl _, Nat.le_refl _⟩ rfl (Nat.le_of_ble_eq_true rfl) dX17_keeps_11) hM (fun σ4 v5 H locs hf hM => ?_)
  refine lv_ineg hx hb dX17_keeps_14 ?_
  exact g_reti K hr hM ⟨Nat.le_refl _, Nat.le_refl _⟩ hf dX17_keeps_15
theorem c_X15_keeps_c18 (l : Launch) (r : GR) (A : Nat → Prop) (σ : GS) (x0 : Nat) (x1 : Int32) (P : GS → Int32 → Prop) (hf : f_X15_keeps_c18 r σ x0 x1 P) : gMet dX l yX15_keeps cX15_keeps 2 (some .int) 3 63 0 0 r A σ [.ref x0, .int x1] (zI P) := by
  refine g_enter (lv := [(0, .ref x0), (1, .int x1)]) (by decide) (Nat.le_of_ble_eq_true rfl) rfl ?_
  intro p e s m below meth c ls K hr hM hl hi
  obtain ⟨hx, hb, hml, hown, hts, hlk, hKK, hA⟩ := id K
  unfold f_X15_keeps_c18 at hf
  refine lv_aload_n hx hb dX15_keeps_0 rfl (lv_at hl 0 rfl) ?_
  obtain ⟨h1, hf⟩ := hf
  refine p_get K kY18 hM 1 rfl q990 rfl dX15_keeps_1 h1 ?_
  refine lv_bipush (v := 10) hx hb dX15_keeps_4 rfl ?_
  refine g_runv (rVN [.int (10 : Int32)] [] K kX hM hl (c_X0_ran l r A _ _ _ hf) q1108 q1101 qs39 q82 q1102 hdX0_ran.2 ⟨Nat.le_of_ble_eq_true rfl, Nat.le_of_ble_eq_true rfl⟩ ⟨Nat.le_refl _, Nat.le_refl _⟩ rfl (Nat.le_of_ble_eq_true rfl) dX15_keeps_6) hM (fun σ2 H locs hf hM => ?_)
  refine lv_aload_n hx hb dX15_keeps_9 rfl (lv_at hl 0 rfl) ?_
  refine lv_iload_n hx hb dX15_keeps_10 rfl (lv_at hl 1 rfl) ?_
  obtain ⟨f6, h7, hf⟩ := hf
  refine g_runi (rOv (x := ⟨"PointsForAll$Purse", "buys", "(I)I"⟩) (owner := "PointsForAll$Purse") [.int x1] [] K kY18 hM hl h7 (c_X20_buys_c18 l r A _ _ _ _ hf) q1194 q1991 q1106 q1107 q1992 q1096 q116 q1098 hdo_Purse_buys ⟨Nat.le_of_ble_eq_true rfl, Nat.le_of_ble_eq_true rfl⟩ ⟨Nat.le_refl _, Nat.le_refl _⟩ rfl (Nat.le_of_ble_eq_true rfl) dX15_keeps_11) hM (fun σ4 v5 H locs hf hM => ?_)
  refine lv_iconst (v := 2) hx hb dX15_keeps_14 rfl ?_
  refine lv_imul hx hb dX15_keeps_15 ?_
  exact g_reti K hr hM ⟨Nat.le_refl _, Nat.le_refl _⟩ hf dX15_keeps_16
theorem c_X17_keeps_c18 (l : Launch) (r : GR) (A : Nat → Prop) (σ : GS) (x0 : Nat) (x1 : Int32) (P : GS → Int32 → Prop) (hf : f_X17_keeps_c18 r σ x0 x1 P) : gMet dX l yX17_keeps cX17_keeps 2 (some .int) 4 84 0 0 r A σ [.ref x0, .int x1] (zI P) := by
  refine g_enter (lv := [(0, .ref x0), (1, .int x1)]) (by decide) (Nat.le_of_ble_eq_true rfl) rfl ?_
  intro p e s m below meth c ls K hr hM hl hi
  obtain ⟨hx, hb, hml, hown, hts, hlk, hKK, hA⟩ := id K
  unfold f_X17_keeps_c18 at hf
  refine lv_aload_n hx hb dX17_keeps_0 rfl (lv_at hl 0 rfl) ?_
  obtain ⟨h1, hf⟩ := hf
  refine p_get K kY18 hM 2 rfl q1004 rfl dX17_keeps_1 h1 ?_
  refine lv_bipush (v := 30) hx hb dX17_keeps_4 rfl ?_
  refine g_runv (rVN [.int (30 : Int32)] [] K kX hM hl (c_X0_ran l r A _ _ _ hf) q1163 q1101 qs39 q82 q1102 hdX0_ran.2 ⟨Nat.le_of_ble_eq_true rfl, Nat.le_of_ble_eq_true rfl⟩ ⟨Nat.le_refl _, Nat.le_refl _⟩ rfl (Nat.le_of_ble_eq_true rfl) dX17_keeps_6) hM (fun σ2 H locs hf hM => ?_)
  refine lv_aload_n hx hb dX17_keeps_9 rfl (lv_at hl 0 rfl) ?_
  refine lv_iload_n hx hb dX17_keeps_10 rfl (lv_at hl 1 rfl) ?_
  obtain ⟨f6, h7, hf⟩ := hf
  refine g_runi (rSup (x := ⟨"PointsForAll$Purse", "keeps", "(I)I"⟩) [.int x1] [] K kY18 hM hl h7 (c_X15_keeps_c18 l r A _ _ _ _ hf) q1164 q1159 q1009 q1157 q111 q1193 under_self rfl hds_keeps ⟨Nat.le_of_ble_eq_true rfl, Nat.le_of_ble_eq_true rfl⟩ ⟨Nat.le_refl _, Nat.le_refl _⟩ rfl (Nat.le_of_ble_eq_true rfl) dX17_keeps_11) hM (fun σ4 v5 H locs hf hM => ?_)
  refine lv_ineg hx hb dX17_keeps_14 ?_
  exact g_reti K hr hM ⟨Nat.le_refl _, Nat.le_refl _⟩ hf dX17_keeps_15

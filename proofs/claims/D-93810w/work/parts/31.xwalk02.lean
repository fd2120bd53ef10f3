set_option maxRecDepth 100000
set_option maxHeartbeats 4000000
theorem co_X9_value (l : Launch) (r : GR) (A : Nat → Prop) {fr lo : Nat} (hB : 0 ≤ fr ∧ 0 ≤ lo) (σ : GS) (x0 : Nat) (x1 : Nat) (P : GS → Int32 → Prop) (hf : o_X9_value r σ x0 x1 P) : gMet dX l yX9_value cX9_value 2 (some .int) fr lo 0 0 r A σ [.ref x0, .ref x1] (zI P) := by
  refine g_enter (lv := [(0, .ref x0), (1, .ref x1)]) (by decide) (Nat.le_of_ble_eq_true rfl) rfl ?_
  intro p e s m below meth c ls K hr hM hl hi
  obtain ⟨hx, hb, hml, hown, hts, hlk, hKK, hA⟩ := id K
  unfold o_X9_value at hf
  refine lv_aload_n hx hb dX9_value_0 rfl (lv_at hl 1 rfl) ?_
  obtain ⟨v2, h1, hf⟩ := hf
  refine p_getN K kY1 hM 0 rfl q150 rfl dX9_value_1 h1 ?_
  refine lv_aload_n hx hb dX9_value_4 rfl (lv_at hl 0 rfl) ?_
  obtain ⟨v4, h3, hf⟩ := hf
  refine p_get K kY8 hM 0 rfl q708 rfl dX9_value_5 h3 ?_
  obtain ⟨n5, f6, h7, hf⟩ := hf
  obtain ⟨g8, hf⟩ := hf
  refine p_iald K hM h7 g8 dX9_value_8 ?_
  exact g_reti K hr hM ⟨Nat.le_refl _, Nat.le_refl _⟩ hf dX9_value_9
theorem cd_X8_value (l : Launch) (r : GR) (A : Nat → Prop) : ∀ (d : Nat) (σ : GS) (x0 x1 : Nat) (P : GS → Int32 → Prop), d_X8_value r d σ x0 x1 P → gNC l r A (2 + d) (50 + 40 * d) σ x0 x1 P := by
  intro d
  induction d with
  | zero =>
    intro σ x0 x1 P hf
    exact absurd hf (fun h => h)
  | succ d ih =>
    intro σ x0 x1 P hf
    rw [d_X8_value] at hf
    rcases hf with ⟨fs, hb, hf⟩ | ⟨fs, hb, hf⟩ | ⟨fs, hb, hf⟩ | ⟨fs, hb, hf⟩ | ⟨fs, hb, hf⟩
    · exact Or.inl ⟨⟨fs, hb⟩, co_X9_value l r A ⟨by omega, by omega⟩ σ x0 x1 P hf⟩
    · exact Or.inr (Or.inl ⟨⟨fs, hb⟩, co_X10_value l r A ⟨by omega, by omega⟩ ih ⟨by omega, by omega⟩ σ x0 x1 P hf⟩)
    · exact Or.inr (Or.inr (Or.inl ⟨⟨fs, hb⟩, co_X11_value l r A ⟨by omega, by omega⟩ ih ⟨by omega, by omega⟩ σ x0 x1 P hf⟩))
    · exact Or.inr (Or.inr (Or.inr (Or.inl ⟨⟨fs, hb⟩, co_X12_value l r A ⟨by omega, by omega⟩ σ x0 x1 P hf⟩)))
    · exact Or.inr (Or.inr (Or.inr (Or.inr (⟨⟨fs, hb⟩, co_X13_value l r A ⟨by omega, by omega⟩ ih ⟨by omega, by omega⟩ σ x0 x1 P hf⟩))))
theorem c_X8_value (l : Launch) (r : GR) (A : Nat → Prop) (σ : GS) (x0 x1 : Nat) (P : GS → Int32 → Prop) (hf : f_X8_value r σ x0 x1 P) : gNC l r A 202 8050 σ x0 x1 P := cd_X8_value l r A 200 σ x0 x1 P hf
theorem w_X0_worthOf_155 {p : Program} {l : Launch} {e : Env} {s : State} {m : MethodId} {args : Array Value} {below : List Frame} {meth : Method} {c : Code} {r : GR} {A : Nat → Prop} {P : GS → Int32 → Prop} (K : gC p s m args meth c cX0_worthOf 5 RX0 r A) (hr : meth.sig.returnType = (some .int)) : ∀ (σ : GS) (x4 : Option Nat), f_X0_worthOf_155 r P σ x4 → gW dX p l e (gRm 203 8073 0 0) s m args below meth c r A (zI P) 0 0 5 155 [(0, .ref r.2.1), (4, va_rf x4)] [] 0 0 σ := by
  obtain ⟨hx, hb, hml, hown, hts, hlk, hKK, hA⟩ := id K
  intro σ x4 hf H locs ls hM hl
  unfold f_X0_worthOf_155 at hf
  refine lv_iconst (v := 0) hx hb dX0_worthOf_155 rfl ?_
  refine lv_sipush (v := 999) hx hb dX0_worthOf_156 rfl ?_
  refine g_aloadq hx hb dX0_worthOf_159 (lv_at hl 1 rfl) ?_
  obtain ⟨a1, h2, hf⟩ := hf
  rw [h2]
  obtain ⟨v4, h3, hf⟩ := hf
  refine p_getN K kY7 hM 1 rfl q570 rfl dX0_worthOf_161 h3 ?_
  refine lv_aload_n hx hb dX0_worthOf_164 rfl (lv_at hl 0 rfl) ?_
  refine g_geta K kX hM 11 rfl q174 rfl dX0_worthOf_165 rfl ?_
  obtain ⟨a5, h6, hf⟩ := hf
  rw [h6]
  refine g_runi (rNode [.int (999 : Int32), .int (0 : Int32)] K hM hl (c_X8_value l r A _ _ _ _ hf) q786 ⟨Nat.le_of_ble_eq_true rfl, Nat.le_of_ble_eq_true rfl⟩ ⟨Nat.le_refl _, Nat.le_refl _⟩ rfl (Nat.le_of_ble_eq_true rfl) dX0_worthOf_168) hM (fun σ7 v8 H locs hf hM => ?_)
  refine va_mmin hx hb (hml.trans hl.1.symm) hown (hts _ q810) (hts _ q645) (hts _ q99) (hts _ q646) (Nat.le_of_ble_eq_true rfl) (Nat.le_of_ble_eq_true rfl) (Nat.zero_le _) (Nat.zero_le _) dX0_worthOf_171 ?_
  refine va_mmax hx hb (hml.trans hl.1.symm) hown (hts _ q811) (hts _ q642) (hts _ q99) (hts _ q643) (Nat.le_of_ble_eq_true rfl) (Nat.le_of_ble_eq_true rfl) (Nat.zero_le _) (Nat.zero_le _) dX0_worthOf_174 ?_
  exact g_reti K hr hM ⟨Nat.le_refl _, Nat.le_refl _⟩ hf dX0_worthOf_177
theorem w_X0_worthOf_127 {p : Program} {l : Launch} {e : Env} {s : State} {m : MethodId} {args : Array Value} {below : List Frame} {meth : Method} {c : Code} {r : GR} {A : Nat → Prop} {P : GS → Int32 → Prop} (K : gC p s m args meth c cX0_worthOf 5 RX0 r A) (hr : meth.sig.returnType = (some .int)) : ∀ (n : Nat) (σ : GS) (x4 : Option Nat), f_X0_worthOf_127 r P n σ x4 → gW dX p l e (gRm 203 8073 0 0) s m args below meth c r A (zI P) 0 0 5 127 [(0, .ref r.2.1), (4, va_rf x4)] [] 0 0 σ := by
  obtain ⟨hx, hb, hml, hown, hts, hlk, hKK, hA⟩ := id K
  intro n
  induction n with
  | zero =>
    intro σ x4 hf
    exact absurd hf (fun h => h)
  | succ n ih =>
    intro σ x4 hf H locs ls hM hl
    rw [f_X0_worthOf_127] at hf
    refine g_aloadq hx hb dX0_worthOf_127 (lv_at hl 1 rfl) ?_
    refine g_ifnull (tgt := 188) hx hb dX0_worthOf_129 (by decide) (fun b1 => ?_) (fun b1 => ?_)
    · replace hf := hf.1 b1
      refine lv_iconst (v := 0) hx hb dX0_worthOf_188 rfl ?_
      exact g_reti K hr hM ⟨Nat.le_refl _, Nat.le_refl _⟩ hf dX0_worthOf_189
    · replace hf := hf.2 b1
      refine g_aloadq hx hb dX0_worthOf_132 (lv_at hl 1 rfl) ?_
      obtain ⟨a2, h3, hf⟩ := hf
      rw [h3]
      obtain ⟨v5, h4, hf⟩ := hf
      refine p_getN K kY7 hM 0 rfl q568 rfl dX0_worthOf_134 h4 ?_
      refine g_ifnull (tgt := 155) hx hb dX0_worthOf_137 (by decide) (fun b6 => ?_) (fun b6 => ?_)
      · replace hf := hf.1 b6
        exact w_X0_worthOf_155 K hr _ _ hf _ _ _ hM (lv_sub hl [0, 1] rfl)
      · replace hf := hf.2 b6
        refine g_aloadq hx hb dX0_worthOf_140 (lv_at hl 1 rfl) ?_
        obtain ⟨a7, h8, hf⟩ := hf
        rw [h8]
        obtain ⟨v10, h9, hf⟩ := hf
        refine p_getN K kY7 hM 0 rfl q568 rfl dX0_worthOf_142 h9 ?_
        refine lv_aload_n hx hb dX0_worthOf_145 rfl (lv_at hl 0 rfl) ?_
        refine g_geta K kX hM 11 rfl q174 rfl dX0_worthOf_146 rfl ?_
        obtain ⟨a11, h12, hf⟩ := hf
        rw [h12]
        refine g_runi (rNode [] K hM hl (c_X8_value l r A _ _ _ _ hf) q786 ⟨Nat.le_of_ble_eq_true rfl, Nat.le_of_ble_eq_true rfl⟩ ⟨Nat.le_refl _, Nat.le_refl _⟩ rfl (Nat.le_of_ble_eq_true rfl) dX0_worthOf_149) hM (fun σ13 v14 H locs hf hM => ?_)
        refine lv_if_eq (tgt := 178) hx hb dX0_worthOf_152 (by decide) (fun b15 => ?_) (fun b15 => ?_)
        · replace hf := hf.1 b15
          refine g_aloadq hx hb dX0_worthOf_178 (lv_at hl 1 rfl) ?_
          obtain ⟨a16, h17, hf⟩ := hf
          rw [h17]
          obtain ⟨v19, h18, hf⟩ := hf
          refine p_getN K kY7 hM 2 rfl q572 rfl dX0_worthOf_180 h18 ?_
          refine g_astoreq (lv' := [(4, va_rf v19), (0, .ref r.2.1)]) hx hb dX0_worthOf_183 hl (by decide) rfl (fun ls hl => ?_)
          refine lv_goto (tgt := 127) hx hb dX0_worthOf_185 (by decide) ?_
          exact ih _ _ hf _ _ _ hM (lv_sub hl [1, 0] rfl)
        · replace hf := hf.2 b15
          exact w_X0_worthOf_155 K hr _ _ hf _ _ _ hM (lv_sub hl [0, 1] rfl)
theorem c_X0_worthOf (l : Launch) (r : GR) (A : Nat → Prop) (σ : GS) (x1 : Int32) (x2 : Int32) (x3 : Int32) (P : GS → Int32 → Prop) (hf : f_X0_worthOf r σ x1 x2 x3 P) : gMet dX l yX0_worthOf cX0_worthOf 5 (some .int) 203 8073 0 0 r A σ [.ref r.2.1, .int x1, .int x2, .int x3] (zI P) := by
  refine g_enter (lv := [(0, .ref r.2.1), (1, .int x1), (2, .int x2), (3, .int x3)]) (by decide) (Nat.le_of_ble_eq_true rfl) rfl ?_
  intro p e s m below meth c ls K hr hM hl hi
  obtain ⟨hx, hb, hml, hown, hts, hlk, hKK, hA⟩ := id K
  unfold f_X0_worthOf at hf
  refine lv_aload_n hx hb dX0_worthOf_0 rfl (lv_at hl 0 rfl) ?_
  refine g_geta K kX hM 11 rfl q174 rfl dX0_worthOf_1 rfl ?_
  obtain ⟨f3, h4, hf⟩ := hf
  refine g_runv (rP [] [] K kY1 hM hl h4 (c_X1_clear l r A _ _ _ hf) q782 q783 q784 q83 q785 hdX1_clear ⟨Nat.le_of_ble_eq_true rfl, Nat.le_of_ble_eq_true rfl⟩ ⟨Nat.le_refl _, Nat.le_refl _⟩ rfl (Nat.le_of_ble_eq_true rfl) dX0_worthOf_4) hM (fun σ1 H locs hf hM => ?_)
  refine lv_aload_n hx hb dX0_worthOf_7 rfl (lv_at hl 0 rfl) ?_
  refine g_geta K kX hM 11 rfl q174 rfl dX0_worthOf_8 rfl ?_
  obtain ⟨v6, h5, hf⟩ := hf
  refine p_getN K kY1 hM 0 rfl q151 rfl dX0_worthOf_11 h5 ?_
  refine lv_bipush (v := 116) hx hb dX0_worthOf_14 rfl ?_
  refine lv_iload_n hx hb dX0_worthOf_16 rfl (lv_at hl 2 rfl) ?_
  obtain ⟨n7, f8, h9, hf⟩ := hf
  obtain ⟨g10, hf⟩ := hf
  refine p_iast K hM h9 g10 dX0_worthOf_17 (fun H locs σ11 hσ11 hM => ?_)
  have hf := hf σ11 hσ11
  refine lv_aload_n hx hb dX0_worthOf_18 rfl (lv_at hl 0 rfl) ?_
  refine g_geta K kX hM 11 rfl q174 rfl dX0_worthOf_19 rfl ?_
  obtain ⟨v13, h12, hf⟩ := hf
  refine p_getN K kY1 hM 0 rfl q151 rfl dX0_worthOf_22 h12 ?_
  refine lv_bipush (v := 107) hx hb dX0_worthOf_25 rfl ?_
  refine lv_iload_n hx hb dX0_worthOf_27 rfl (lv_at hl 3 rfl) ?_
  obtain ⟨n14, f15, h16, hf⟩ := hf
  obtain ⟨g17, hf⟩ := hf
  refine p_iast K hM h16 g17 dX0_worthOf_28 (fun H locs σ18 hσ18 hM => ?_)
  have hf := hf σ18 hσ18
  refine lv_aload_n hx hb dX0_worthOf_29 rfl (lv_at hl 0 rfl) ?_
  refine g_geta K kX hM 11 rfl q174 rfl dX0_worthOf_30 rfl ?_
  obtain ⟨v20, h19, hf⟩ := hf
  refine p_getN K kY1 hM 0 rfl q151 rfl dX0_worthOf_33 h19 ?_
  refine lv_bipush (v := 99) hx hb dX0_worthOf_36 rfl ?_
  refine lv_aload_n hx hb dX0_worthOf_38 rfl (lv_at hl 0 rfl) ?_
  refine g_geta K kX hM 0 rfl q161 rfl dX0_worthOf_39 rfl ?_
  refine lv_iload_n hx hb dX0_worthOf_42 rfl (lv_at hl 2 rfl) ?_
  obtain ⟨g21, hf⟩ := hf
  obtain ⟨a22, h23, hf⟩ := hf
  refine g_aaldS K hM 0 rfl rfl rfl rfl g21 h23 dX0_worthOf_43 ?_
  obtain ⟨v25, h24, hf⟩ := hf
  refine p_getN K kY3 hM 2 rfl q274 rfl dX0_worthOf_44 h24 ?_
  obtain ⟨n26, f27, h28, hf⟩ := hf
  obtain ⟨g29, hf⟩ := hf
  refine p_iast K hM h28 g29 dX0_worthOf_47 (fun H locs σ30 hσ30 hM => ?_)
  have hf := hf σ30 hσ30
  refine lv_aload_n hx hb dX0_worthOf_48 rfl (lv_at hl 0 rfl) ?_
  refine g_geta K kX hM 11 rfl q174 rfl dX0_worthOf_49 rfl ?_
  obtain ⟨v32, h31, hf⟩ := hf
  refine p_getN K kY1 hM 0 rfl q151 rfl dX0_worthOf_52 h31 ?_
  refine lv_bipush (v := 112) hx hb dX0_worthOf_55 rfl ?_
  refine lv_aload_n hx hb dX0_worthOf_57 rfl (lv_at hl 0 rfl) ?_
  refine g_geta K kX hM 0 rfl q161 rfl dX0_worthOf_58 rfl ?_
  refine lv_iload_n hx hb dX0_worthOf_61 rfl (lv_at hl 2 rfl) ?_
  obtain ⟨g33, hf⟩ := hf
  obtain ⟨a34, h35, hf⟩ := hf
  refine g_aaldS K hM 0 rfl rfl rfl rfl g33 h35 dX0_worthOf_62 ?_
  obtain ⟨v37, h36, hf⟩ := hf
  refine p_getN K kY3 hM 3 rfl q276 rfl dX0_worthOf_63 h36 ?_
  obtain ⟨n38, f39, h40, hf⟩ := hf
  obtain ⟨g41, hf⟩ := hf
  refine p_iast K hM h40 g41 dX0_worthOf_66 (fun H locs σ42 hσ42 hM => ?_)
  have hf := hf σ42 hσ42
  refine lv_aload_n hx hb dX0_worthOf_67 rfl (lv_at hl 0 rfl) ?_
  refine g_geta K kX hM 11 rfl q174 rfl dX0_worthOf_68 rfl ?_
  obtain ⟨v44, h43, hf⟩ := hf
  refine p_getN K kY1 hM 0 rfl q151 rfl dX0_worthOf_71 h43 ?_
  refine lv_bipush (v := 115) hx hb dX0_worthOf_74 rfl ?_
  refine lv_iload_n hx hb dX0_worthOf_76 rfl (lv_at hl 1 rfl) ?_
  obtain ⟨n45, f46, h47, hf⟩ := hf
  obtain ⟨g48, hf⟩ := hf
  refine p_iast K hM h47 g48 dX0_worthOf_77 (fun H locs σ49 hσ49 hM => ?_)
  have hf := hf σ49 hσ49
  refine lv_aload_n hx hb dX0_worthOf_78 rfl (lv_at hl 0 rfl) ?_
  refine g_geta K kX hM 11 rfl q174 rfl dX0_worthOf_79 rfl ?_
  obtain ⟨v51, h50, hf⟩ := hf
  refine p_getN K kY1 hM 0 rfl q151 rfl dX0_worthOf_82 h50 ?_
  refine lv_bipush (v := 98) hx hb dX0_worthOf_85 rfl ?_
  refine lv_aload_n hx hb dX0_worthOf_87 rfl (lv_at hl 0 rfl) ?_
  refine g_geta K kX hM 1 rfl q162 rfl dX0_worthOf_88 rfl ?_
  refine lv_iload_n hx hb dX0_worthOf_91 rfl (lv_at hl 1 rfl) ?_
  obtain ⟨g52, hf⟩ := hf
  obtain ⟨a53, h54, hf⟩ := hf
  refine g_aaldS K hM 1 rfl rfl rfl rfl g52 h54 dX0_worthOf_92 ?_
  obtain ⟨v56, h55, hf⟩ := hf
  refine p_getN K kY5 hM 1 rfl q438 rfl dX0_worthOf_93 h55 ?_
  obtain ⟨n57, f58, h59, hf⟩ := hf
  obtain ⟨g60, hf⟩ := hf
  refine p_iast K hM h59 g60 dX0_worthOf_96 (fun H locs σ61 hσ61 hM => ?_)
  have hf := hf σ61 hσ61
  refine lv_aload_n hx hb dX0_worthOf_97 rfl (lv_at hl 0 rfl) ?_
  refine g_geta K kX hM 11 rfl q174 rfl dX0_worthOf_98 rfl ?_
  obtain ⟨v63, h62, hf⟩ := hf
  refine p_getN K kY1 hM 0 rfl q151 rfl dX0_worthOf_101 h62 ?_
  refine lv_bipush (v := 110) hx hb dX0_worthOf_104 rfl ?_
  refine lv_aload_n hx hb dX0_worthOf_106 rfl (lv_at hl 0 rfl) ?_
  refine g_geti K kX hM 2 rfl q163 rfl dX0_worthOf_107 rfl ?_
  obtain ⟨n64, f65, h66, hf⟩ := hf
  obtain ⟨g67, hf⟩ := hf
  refine p_iast K hM h66 g67 dX0_worthOf_110 (fun H locs σ68 hσ68 hM => ?_)
  have hf := hf σ68 hσ68
  refine lv_aload_n hx hb dX0_worthOf_111 rfl (lv_at hl 0 rfl) ?_
  refine g_geta K kX hM 9 rfl q172 rfl dX0_worthOf_112 rfl ?_
  refine lv_aload_n hx hb dX0_worthOf_115 rfl (lv_at hl 0 rfl) ?_
  refine g_geta K kX hM 1 rfl q162 rfl dX0_worthOf_116 rfl ?_
  refine lv_iload_n hx hb dX0_worthOf_119 rfl (lv_at hl 1 rfl) ?_
  obtain ⟨g69, hf⟩ := hf
  obtain ⟨a70, h71, hf⟩ := hf
  refine g_aaldS K hM 1 rfl rfl rfl rfl g69 h71 dX0_worthOf_120 ?_
  obtain ⟨v73, h72, hf⟩ := hf
  refine p_getN K kY5 hM 2 rfl q440 rfl dX0_worthOf_121 h72 ?_
  obtain ⟨g74, hf⟩ := hf
  refine g_aald K hM 9 rfl rfl rfl rfl g74 dX0_worthOf_124 ?_
  refine g_astoreq (lv' := [(4, va_rf (gQ σ68 9 v73.toNatClampNeg)), (0, .ref r.2.1), (1, .int x1), (2, .int x2), (3, .int x3)]) hx hb dX0_worthOf_125 hl (by decide) rfl (fun ls hl => ?_)
  obtain ⟨n_, hf⟩ := hf
  exact w_X0_worthOf_127 K hr n_ _ _ hf _ _ _ hM (lv_sub hl [1, 0] rfl)
theorem c_X0_worth (l : Launch) (r : GR) (A : Nat → Prop) (σ : GS) (x1 : Int32) (x2 : Int32) (P : GS → Int32 → Prop) (hf : f_X0_worth r σ x1 x2 P) : gMet dX l yX0_worth cX0_worth 3 (some .int) 204 8097 0 0 r A σ [.ref r.2.1, .int x1, .int x2] (zI P) := by
  refine g_enter (lv := [(0, .ref r.2.1), (1, .int x1), (2, .int x2)]) (by decide) (Nat.le_of_ble_eq_true rfl) rfl ?_
  intro p e s m below meth c ls K hr hM hl hi
  obtain ⟨hx, hb, hml, hown, hts, hlk, hKK, hA⟩ := id K
  unfold f_X0_worth at hf
  refine lv_aload_n hx hb dX0_worth_0 rfl (lv_at hl 0 rfl) ?_
  refine lv_iload_n hx hb dX0_worth_1 rfl (lv_at hl 1 rfl) ?_
  refine g_runi (rV [.int x1] [] K kX hM hl (c_X0_isSort l r A _ _ _ hf) q463 q465 qs2 q82 q466 hdX0_isSort ⟨Nat.le_of_ble_eq_true rfl, Nat.le_of_ble_eq_true rfl⟩ ⟨Nat.le_refl _, Nat.le_refl _⟩ rfl (Nat.le_of_ble_eq_true rfl) dX0_worth_2) hM (fun σ1 v2 H locs hf hM => ?_)
  refine lv_if_eq (tgt := 51) hx hb dX0_worth_5 (by decide) (fun b3 => ?_) (fun b3 => ?_)
  · replace hf := hf.1 b3
    refine lv_iconst (v := -1) hx hb dX0_worth_51 rfl ?_
    exact g_reti K hr hM ⟨Nat.le_refl _, Nat.le_refl _⟩ hf dX0_worth_52
  · replace hf := hf.2 b3
    refine lv_iload_n hx hb dX0_worth_8 rfl (lv_at hl 2 rfl) ?_
    refine lv_if_lt (tgt := 51) hx hb dX0_worth_9 (by decide) (fun b4 => ?_) (fun b4 => ?_)
    · replace hf := hf.1 b4
      refine lv_iconst (v := -1) hx hb dX0_worth_51 rfl ?_
      exact g_reti K hr hM ⟨Nat.le_refl _, Nat.le_refl _⟩ hf dX0_worth_52
    · replace hf := hf.2 b4
      refine lv_aload_n hx hb dX0_worth_12 rfl (lv_at hl 0 rfl) ?_
      refine lv_iload_n hx hb dX0_worth_13 rfl (lv_at hl 2 rfl) ?_
      refine lv_bipush (v := 10) hx hb dX0_worth_14 rfl ?_
      refine lv_idiv hx hb dX0_worth_16 (by decide) ?_
      refine g_runi (rV [.int (x2 / (10 : Int32))] [] K kX hM hl (c_X0_isThing l r A _ _ _ hf) q471 q473 qs3 q82 q474 hdX0_isThing ⟨Nat.le_of_ble_eq_true rfl, Nat.le_of_ble_eq_true rfl⟩ ⟨Nat.le_refl _, Nat.le_refl _⟩ rfl (Nat.le_of_ble_eq_true rfl) dX0_worth_17) hM (fun σ5 v6 H locs hf hM => ?_)
      refine lv_if_eq (tgt := 51) hx hb dX0_worth_20 (by decide) (fun b7 => ?_) (fun b7 => ?_)
      · replace hf := hf.1 b7
        refine lv_iconst (v := -1) hx hb dX0_worth_51 rfl ?_
        exact g_reti K hr hM ⟨Nat.le_refl _, Nat.le_refl _⟩ hf dX0_worth_52
      · replace hf := hf.2 b7
        refine lv_iload_n hx hb dX0_worth_23 rfl (lv_at hl 2 rfl) ?_
        refine lv_bipush (v := 10) hx hb dX0_worth_24 rfl ?_
        refine lv_irem hx hb dX0_worth_26 (by decide) ?_
        refine lv_iconst (v := 1) hx hb dX0_worth_27 rfl ?_
        refine lv_iconst (v := 3) hx hb dX0_worth_28 rfl ?_
        refine g_runi (rS [.int (x2 - x2 / (10 : Int32) * (10 : Int32)), .int (1 : Int32), .int (3 : Int32)] [] K hM hl (c_X0_in l r A _ _ _ _ _ hf) q261 q262 q82 q263 hdX0_in ⟨Nat.le_of_ble_eq_true rfl, Nat.le_of_ble_eq_true rfl⟩ ⟨Nat.le_refl _, Nat.le_refl _⟩ rfl (Nat.le_of_ble_eq_true rfl) dX0_worth_29) hM (fun σ8 v9 H locs hf hM => ?_)
        refine lv_if_eq (tgt := 51) hx hb dX0_worth_32 (by decide) (fun b10 => ?_) (fun b10 => ?_)
        · replace hf := hf.1 b10
          refine lv_iconst (v := -1) hx hb dX0_worth_51 rfl ?_
          exact g_reti K hr hM ⟨Nat.le_refl _, Nat.le_refl _⟩ hf dX0_worth_52
        · replace hf := hf.2 b10
          refine lv_aload_n hx hb dX0_worth_35 rfl (lv_at hl 0 rfl) ?_
          refine lv_iload_n hx hb dX0_worth_36 rfl (lv_at hl 1 rfl) ?_
          refine lv_iload_n hx hb dX0_worth_37 rfl (lv_at hl 2 rfl) ?_
          refine lv_bipush (v := 10) hx hb dX0_worth_38 rfl ?_
          refine lv_idiv hx hb dX0_worth_40 (by decide) ?_
          refine lv_iload_n hx hb dX0_worth_41 rfl (lv_at hl 2 rfl) ?_
          refine lv_bipush (v := 10) hx hb dX0_worth_42 rfl ?_
          refine lv_irem hx hb dX0_worth_44 (by decide) ?_
          refine g_runi (rV [.int x1, .int (x2 / (10 : Int32)), .int (x2 - x2 / (10 : Int32) * (10 : Int32))] [] K kX hM hl (c_X0_worthOf l r A _ _ _ _ _ hf) q778 q780 qs19 q82 q781 hdX0_worthOf ⟨Nat.le_of_ble_eq_true rfl, Nat.le_of_ble_eq_true rfl⟩ ⟨Nat.le_refl _, Nat.le_refl _⟩ rfl (Nat.le_of_ble_eq_true rfl) dX0_worth_45) hM (fun σ11 v12 H locs hf hM => ?_)
          refine lv_goto (tgt := 52) hx hb dX0_worth_48 (by decide) ?_
          exact g_reti K hr hM ⟨Nat.le_refl _, Nat.le_refl _⟩ hf dX0_worth_52
theorem c_X0_basketMany (l : Launch) (r : GR) (A : Nat → Prop) (σ : GS) (P : GS → Int32 → Prop) (hf : f_X0_basketMany r σ P) : gMet dX l yX0_basketMany cX0_basketMany 1 (some .int) 0 0 0 0 r A σ [.ref r.2.1] (zI P) := by
  refine g_enter (lv := [(0, .ref r.2.1)]) (by decide) (Nat.le_of_ble_eq_true rfl) rfl ?_
  intro p e s m below meth c ls K hr hM hl hi
  obtain ⟨hx, hb, hml, hown, hts, hlk, hKK, hA⟩ := id K
  unfold f_X0_basketMany at hf
  refine lv_iconst (v := 1) hx hb dX0_basketMany_0 rfl ?_
  refine lv_iconst (v := 2) hx hb dX0_basketMany_1 rfl ?_
  refine lv_aload_n hx hb dX0_basketMany_2 rfl (lv_at hl 0 rfl) ?_
  refine g_geti K kX hM 2 rfl q163 rfl dX0_basketMany_3 rfl ?_
  refine lv_imul hx hb dX0_basketMany_6 ?_
  refine lv_ishl hx hb dX0_basketMany_7 ?_
  exact g_reti K hr hM ⟨Nat.le_refl _, Nat.le_refl _⟩ hf dX0_basketMany_8
theorem w_X0_bestBy_129 {p : Program} {l : Launch} {e : Env} {s : State} {m : MethodId} {args : Array Value} {below : List Frame} {meth : Method} {c : Code} {r : GR} {A : Nat → Prop} {P : GS → Int32 → Prop} {k5 : GS → Int32 → Int32 → Int32 → Int32 → Prop} (K : gC p s m args meth c cX0_bestBy 6 RX0 r A) (hr : meth.sig.returnType = (some .int)) (H5 : ∀ (σ : GS) (x1 : Int32) (x2 : Int32) (x3 : Int32) (x4 : Int32), k5 σ x1 x2 x3 x4 → gW dX p l e (gRm 1 20 0 0) s m args below meth c r A (zI P) 0 0 6 5 [(0, .ref r.2.1), (1, .int x1), (2, .int x2), (3, .int x3), (4, .int x4)] [] 0 0 σ) : ∀ (σ : GS) (x1 : Int32) (x2 : Int32) (x3 : Int32) (x4 : Int32), f_X0_bestBy_129 r k5 P σ x1 x2 x3 x4 → gW dX p l e (gRm 1 20 0 0) s m args below meth c r A (zI P) 0 0 6 129 [(0, .ref r.2.1), (1, .int x1), (2, .int x2), (3, .int x3), (4, .int x4)] [] 0 0 σ := by
  obtain ⟨hx, hb, hml, hown, hts, hlk, hKK, hA⟩ := id K
  intro σ x1 x2 x3 x4 hf H locs ls hM hl
  unfold f_X0_bestBy_129 at hf
  refine lv_iinc (v := x4 + 1) (lv' := [(4, .int (x4 + 1)), (0, .ref r.2.1), (1, .int x1), (2, .int x2), (3, .int x3)]) hx hb dX0_bestBy_129 hl (k := 4) rfl rfl (by decide) rfl (fun ls hl => ?_)
  refine lv_goto (tgt := 5) hx hb dX0_bestBy_132 (by decide) ?_
  exact H5 _ _ _ _ _ hf _ _ _ hM (lv_sub hl [1, 2, 3, 4, 0] rfl)
theorem w_X0_bestBy_119 {p : Program} {l : Launch} {e : Env} {s : State} {m : MethodId} {args : Array Value} {below : List Frame} {meth : Method} {c : Code} {r : GR} {A : Nat → Prop} {P : GS → Int32 → Prop} {k5 : GS → Int32 → Int32 → Int32 → Int32 → Prop} (K : gC p s m args meth c cX0_bestBy 6 RX0 r A) (hr : meth.sig.returnType = (some .int)) (H5 : ∀ (σ : GS) (x1 : Int32) (x2 : Int32) (x3 : Int32) (x4 : Int32), k5 σ x1 x2 x3 x4 → gW dX p l e (gRm 1 20 0 0) s m args below meth c r A (zI P) 0 0 6 5 [(0, .ref r.2.1), (1, .int x1), (2, .int x2), (3, .int x3), (4, .int x4)] [] 0 0 σ) : ∀ (σ : GS) (x1 : Int32) (x2 : Int32) (x3 : Int32) (x4 : Int32) (t0 : Int32), f_X0_bestBy_119 r k5 P σ x1 x2 x3 x4 t0 → gW dX p l e (gRm 1 20 0 0) s m args below meth c r A (zI P) 0 0 6 119 [(0, .ref r.2.1), (1, .int x1), (2, .int x2), (3, .int x3), (4, .int x4)] [.int t0] 0 0 σ := by
  obtain ⟨hx, hb, hml, hown, hts, hlk, hKK, hA⟩ := id K
  intro σ x1 x2 x3 x4 t0 hf H locs ls hM hl
  unfold f_X0_bestBy_119 at hf
  refine lv_istore (lv' := [(5, .int t0), (0, .ref r.2.1), (1, .int x1), (2, .int x2), (3, .int x3), (4, .int x4)]) hx hb dX0_bestBy_119 hl (by decide) rfl (fun ls hl => ?_)
  refine lv_iload hx hb dX0_bestBy_121 (lv_at hl 0 rfl) ?_
  refine lv_if_le (tgt := 129) hx hb dX0_bestBy_123 (by decide) (fun b1 => ?_) (fun b1 => ?_)
  · replace hf := hf.1 b1
    exact w_X0_bestBy_129 K hr H5 _ _ _ _ _ hf _ _ _ hM (lv_sub hl [1, 2, 3, 4, 5] rfl)
  · replace hf := hf.2 b1
    refine lv_iload hx hb dX0_bestBy_126 (lv_at hl 5 rfl) ?_
    refine lv_istore_n (lv' := [(3, .int x4), (5, .int t0), (0, .ref r.2.1), (1, .int x1), (2, .int x2), (4, .int x4)]) hx hb dX0_bestBy_128 rfl hl (by decide) rfl (fun ls hl => ?_)
    exact w_X0_bestBy_129 K hr H5 _ _ _ _ _ hf _ _ _ hM (lv_sub hl [2, 3, 4, 0, 5] rfl)
theorem w_X0_bestBy_5 {p : Program} {l : Launch} {e : Env} {s : State} {m : MethodId} {args : Array Value} {below : List Frame} {meth : Method} {c : Code} {r : GR} {A : Nat → Prop} {P : GS → Int32 → Prop} (K : gC p s m args meth c cX0_bestBy 6 RX0 r A) (hr : meth.sig.returnType = (some .int)) : ∀ (n : Nat) (σ : GS) (x1 : Int32) (x2 : Int32) (x3 : Int32) (x4 : Int32), f_X0_bestBy_5 r P n σ x1 x2 x3 x4 → gW dX p l e (gRm 1 20 0 0) s m args below meth c r A (zI P) 0 0 6 5 [(0, .ref r.2.1), (1, .int x1), (2, .int x2), (3, .int x3), (4, .int x4)] [] 0 0 σ := by
  obtain ⟨hx, hb, hml, hown, hts, hlk, hKK, hA⟩ := id K
  intro n
  induction n with
  | zero =>
    intro σ x1 x2 x3 x4 hf
    exact absurd hf (fun h => h)
  | succ n ih =>
    intro σ x1 x2 x3 x4 hf H locs ls hM hl
    rw [f_X0_bestBy_5] at hf
    refine lv_iload hx hb dX0_bestBy_5 (lv_at hl 4 rfl) ?_
    refine lv_aload_n hx hb dX0_bestBy_7 rfl (lv_at hl 0 rfl) ?_
    refine g_runi (rV [] [.int x4] K kX hM hl (c_X0_basketMany l r A _ _ hf) q824 q826 qs22 q82 q827 hdX0_basketMany ⟨Nat.le_of_ble_eq_true rfl, Nat.le_of_ble_eq_true rfl⟩ ⟨Nat.le_refl _, Nat.le_refl _⟩ rfl (Nat.le_of_ble_eq_true rfl) dX0_bestBy_8) hM (fun σ1 v2 H locs hf hM => ?_)
    refine lv_icmp_ge (tgt := 135) hx hb dX0_bestBy_11 (by decide) (fun b3 => ?_) (fun b3 => ?_)
    · replace hf := hf.1 b3
      refine lv_iload_n hx hb dX0_bestBy_135 rfl (lv_at hl 3 rfl) ?_
      exact g_reti K hr hM ⟨Nat.le_refl _, Nat.le_refl _⟩ hf dX0_bestBy_136
    · replace hf := hf.2 b3
      refine lv_aload_n hx hb dX0_bestBy_14 rfl (lv_at hl 0 rfl) ?_
      refine g_geta K kX hM 13 rfl q176 rfl dX0_bestBy_15 rfl ?_
      refine lv_iload hx hb dX0_bestBy_18 (lv_at hl 4 rfl) ?_
      obtain ⟨g4, hf⟩ := hf
      refine g_iald K hM 13 rfl rfl rfl g4 dX0_bestBy_20 ?_
      refine lv_iload_n hx hb dX0_bestBy_21 rfl (lv_at hl 1 rfl) ?_
      refine lv_icmp_gt (tgt := 129) hx hb dX0_bestBy_22 (by decide) (fun b5 => ?_) (fun b5 => ?_)
      · replace hf := hf.1 b5
        exact w_X0_bestBy_129 K hr ih _ _ _ _ _ hf _ _ _ hM (lv_sub hl [0, 1, 2, 3, 4] rfl)
      · replace hf := hf.2 b5
        refine lv_aload_n hx hb dX0_bestBy_25 rfl (lv_at hl 0 rfl) ?_
        refine g_geta K kX hM 14 rfl q177 rfl dX0_bestBy_26 rfl ?_
        refine lv_iload hx hb dX0_bestBy_29 (lv_at hl 4 rfl) ?_
        obtain ⟨g6, hf⟩ := hf
        refine g_iald K hM 14 rfl rfl rfl g6 dX0_bestBy_31 ?_
        refine lv_iload_n hx hb dX0_bestBy_32 rfl (lv_at hl 2 rfl) ?_
        refine lv_icmp_le (tgt := 39) hx hb dX0_bestBy_33 (by decide) (fun b7 => ?_) (fun b7 => ?_)
        · replace hf := hf.1 b7
          refine lv_aload_n hx hb dX0_bestBy_39 rfl (lv_at hl 0 rfl) ?_
          refine g_geta K kX hM 12 rfl q175 rfl dX0_bestBy_40 rfl ?_
          refine lv_iload hx hb dX0_bestBy_43 (lv_at hl 4 rfl) ?_
          obtain ⟨g8, hf⟩ := hf
          refine g_iald K hM 12 rfl rfl rfl g8 dX0_bestBy_45 ?_
          refine lv_aload_n hx hb dX0_bestBy_46 rfl (lv_at hl 0 rfl) ?_
          refine g_geta K kX hM 12 rfl q175 rfl dX0_bestBy_47 rfl ?_
          refine lv_iload_n hx hb dX0_bestBy_50 rfl (lv_at hl 3 rfl) ?_
          obtain ⟨g9, hf⟩ := hf
          refine g_iald K hM 12 rfl rfl rfl g9 dX0_bestBy_51 ?_
          refine lv_icmp_eq (tgt := 72) hx hb dX0_bestBy_52 (by decide) (fun b10 => ?_) (fun b10 => ?_)
          · replace hf := hf.1 b10
            refine lv_aload_n hx hb dX0_bestBy_72 rfl (lv_at hl 0 rfl) ?_
            refine g_geta K kX hM 13 rfl q176 rfl dX0_bestBy_73 rfl ?_
            refine lv_iload hx hb dX0_bestBy_76 (lv_at hl 4 rfl) ?_
            obtain ⟨g11, hf⟩ := hf
            refine g_iald K hM 13 rfl rfl rfl g11 dX0_bestBy_78 ?_
            refine lv_aload_n hx hb dX0_bestBy_79 rfl (lv_at hl 0 rfl) ?_
            refine g_geta K kX hM 13 rfl q176 rfl dX0_bestBy_80 rfl ?_
            refine lv_iload_n hx hb dX0_bestBy_83 rfl (lv_at hl 3 rfl) ?_
            obtain ⟨g12, hf⟩ := hf
            refine g_iald K hM 13 rfl rfl rfl g12 dX0_bestBy_84 ?_
            refine lv_icmp_eq (tgt := 105) hx hb dX0_bestBy_85 (by decide) (fun b13 => ?_) (fun b13 => ?_)
            · replace hf := hf.1 b13
              refine lv_aload_n hx hb dX0_bestBy_105 rfl (lv_at hl 0 rfl) ?_
              refine g_geta K kX hM 14 rfl q177 rfl dX0_bestBy_106 rfl ?_
              refine lv_iload_n hx hb dX0_bestBy_109 rfl (lv_at hl 3 rfl) ?_
              obtain ⟨g14, hf⟩ := hf
              refine g_iald K hM 14 rfl rfl rfl g14 dX0_bestBy_110 ?_
              refine lv_aload_n hx hb dX0_bestBy_111 rfl (lv_at hl 0 rfl) ?_
              refine g_geta K kX hM 14 rfl q177 rfl dX0_bestBy_112 rfl ?_
              refine lv_iload hx hb dX0_bestBy_115 (lv_at hl 4 rfl) ?_
              obtain ⟨g15, hf⟩ := hf
              refine g_iald K hM 14 rfl rfl rfl g15 dX0_bestBy_117 ?_
              refine lv_isub hx hb dX0_bestBy_118 ?_
              exact w_X0_bestBy_119 K hr ih _ _ _ _ _ _ hf _ _ _ hM (lv_sub hl [0, 1, 2, 3, 4] rfl)
            · replace hf := hf.2 b13
              refine lv_aload_n hx hb dX0_bestBy_88 rfl (lv_at hl 0 rfl) ?_
              refine g_geta K kX hM 13 rfl q176 rfl dX0_bestBy_89 rfl ?_
              refine lv_iload_n hx hb dX0_bestBy_92 rfl (lv_at hl 3 rfl) ?_
              obtain ⟨g16, hf⟩ := hf
              refine g_iald K hM 13 rfl rfl rfl g16 dX0_bestBy_93 ?_
              refine lv_aload_n hx hb dX0_bestBy_94 rfl (lv_at hl 0 rfl) ?_
              refine g_geta K kX hM 13 rfl q176 rfl dX0_bestBy_95 rfl ?_
              refine lv_iload hx hb dX0_bestBy_98 (lv_at hl 4 rfl) ?_
              obtain ⟨g17, hf⟩ := hf
              refine g_iald K hM 13 rfl rfl rfl g17 dX0_bestBy_100 ?_
              refine lv_isub hx hb dX0_bestBy_101 ?_
              refine lv_goto (tgt := 119) hx hb dX0_bestBy_102 (by decide) ?_
              exact w_X0_bestBy_119 K hr ih _ _ _ _ _ _ hf _ _ _ hM (lv_sub hl [0, 1, 2, 3, 4] rfl)
          · replace hf := hf.2 b10
            refine lv_aload_n hx hb dX0_bestBy_55 rfl (lv_at hl 0 rfl) ?_
            refine g_geta K kX hM 12 rfl q175 rfl dX0_bestBy_56 rfl ?_
            refine lv_iload hx hb dX0_bestBy_59 (lv_at hl 4 rfl) ?_
            obtain ⟨g18, hf⟩ := hf
            refine g_iald K hM 12 rfl rfl rfl g18 dX0_bestBy_61 ?_
            refine lv_aload_n hx hb dX0_bestBy_62 rfl (lv_at hl 0 rfl) ?_
            refine g_geta K kX hM 12 rfl q175 rfl dX0_bestBy_63 rfl ?_
            refine lv_iload_n hx hb dX0_bestBy_66 rfl (lv_at hl 3 rfl) ?_
            obtain ⟨g19, hf⟩ := hf
            refine g_iald K hM 12 rfl rfl rfl g19 dX0_bestBy_67 ?_
            refine lv_isub hx hb dX0_bestBy_68 ?_
            refine lv_goto (tgt := 119) hx hb dX0_bestBy_69 (by decide) ?_
            exact w_X0_bestBy_119 K hr ih _ _ _ _ _ _ hf _ _ _ hM (lv_sub hl [0, 1, 2, 3, 4] rfl)
        · replace hf := hf.2 b7
          refine lv_goto (tgt := 129) hx hb dX0_bestBy_36 (by decide) ?_
          exact w_X0_bestBy_129 K hr ih _ _ _ _ _ hf _ _ _ hM (lv_sub hl [0, 1, 2, 3, 4] rfl)
theorem c_X0_bestBy (l : Launch) (r : GR) (A : Nat → Prop) (σ : GS) (x1 : Int32) (x2 : Int32) (P : GS → Int32 → Prop) (hf : f_X0_bestBy r σ x1 x2 P) : gMet dX l yX0_bestBy cX0_bestBy 6 (some .int) 1 20 0 0 r A σ [.ref r.2.1, .int x1, .int x2] (zI P) := by
  refine g_enter (lv := [(0, .ref r.2.1), (1, .int x1), (2, .int x2)]) (by decide) (Nat.le_of_ble_eq_true rfl) rfl ?_
  intro p e s m below meth c ls K hr hM hl hi
  obtain ⟨hx, hb, hml, hown, hts, hlk, hKK, hA⟩ := id K
  unfold f_X0_bestBy at hf
  refine lv_iconst (v := 0) hx hb dX0_bestBy_0 rfl ?_
  refine lv_istore_n (lv' := [(3, .int (0 : Int32)), (0, .ref r.2.1), (1, .int x1), (2, .int x2)]) hx hb dX0_bestBy_1 rfl hl (by decide) rfl (fun ls hl => ?_)
  refine lv_iconst (v := 1) hx hb dX0_bestBy_2 rfl ?_
  refine lv_istore (lv' := [(4, .int (1 : Int32)), (3, .int (0 : Int32)), (0, .ref r.2.1), (1, .int x1), (2, .int x2)]) hx hb dX0_bestBy_3 hl (by decide) rfl (fun ls hl => ?_)
  obtain ⟨n_, hf⟩ := hf
  exact w_X0_bestBy_5 K hr n_ _ _ _ _ _ hf _ _ _ hM (lv_sub hl [2, 3, 4, 1, 0] rfl)
theorem c_X0_inBasket (l : Launch) (r : GR) (A : Nat → Prop) (σ : GS) (x1 : Int32) (x2 : Int32) (P : GS → Int32 → Prop) (hf : f_X0_inBasket r σ x1 x2 P) : gMet dX l yX0_inBasket cX0_inBasket 3 (some .int) 0 0 0 0 r A σ [.ref r.2.1, .int x1, .int x2] (zI P) := by
  refine g_enter (lv := [(0, .ref r.2.1), (1, .int x1), (2, .int x2)]) (by decide) (Nat.le_of_ble_eq_true rfl) rfl ?_
  intro p e s m below meth c ls K hr hM hl hi
  obtain ⟨hx, hb, hml, hown, hts, hlk, hKK, hA⟩ := id K
  unfold f_X0_inBasket at hf
  refine lv_iload_n hx hb dX0_inBasket_0 rfl (lv_at hl 1 rfl) ?_
  refine lv_iconst (v := 2) hx hb dX0_inBasket_1 rfl ?_
  refine lv_aload_n hx hb dX0_inBasket_2 rfl (lv_at hl 0 rfl) ?_
  refine g_geti K kX hM 2 rfl q163 rfl dX0_inBasket_3 rfl ?_
  refine lv_iconst (v := 1) hx hb dX0_inBasket_6 rfl ?_
  refine lv_isub hx hb dX0_inBasket_7 ?_
  refine lv_iload_n hx hb dX0_inBasket_8 rfl (lv_at hl 2 rfl) ?_
  refine lv_isub hx hb dX0_inBasket_9 ?_
  refine lv_imul hx hb dX0_inBasket_10 ?_
  refine lv_ishr hx hb dX0_inBasket_11 ?_
  refine lv_iconst (v := 3) hx hb dX0_inBasket_12 rfl ?_
  refine lv_iand hx hb dX0_inBasket_13 ?_
  exact g_reti K hr hM ⟨Nat.le_refl _, Nat.le_refl _⟩ hf dX0_inBasket_14
theorem w_X0_look_101 {p : Program} {l : Launch} {e : Env} {s : State} {m : MethodId} {args : Array Value} {below : List Frame} {meth : Method} {c : Code} {r : GR} {A : Nat → Prop} {P : GS → Prop} {k70 : GS → Int32 → Prop} (K : gC p s m args meth c cX0_look 5 RX0 r A) (hr : meth.sig.returnType = none) (H70 : ∀ (σ : GS) (x2 : Int32), k70 σ x2 → gW dX p l e (gRm 204 8097 0 0) s m args below meth c r A (zV P) 0 0 5 70 [(0, .ref r.2.1), (2, .int x2)] [] 0 0 σ) : ∀ (n : Nat) (σ : GS) (x2 : Int32) (x3 : Int32), f_X0_look_101 r k70 P n σ x2 x3 → gW dX p l e (gRm 204 8097 0 0) s m args below meth c r A (zV P) 0 0 5 101 [(0, .ref r.2.1), (2, .int x2), (3, .int x3)] [] 0 0 σ := by
  obtain ⟨hx, hb, hml, hown, hts, hlk, hKK, hA⟩ := id K
  intro n
  induction n with
  | zero =>
    intro σ x2 x3 hf
    exact absurd hf (fun h => h)
  | succ n ih =>
    intro σ x2 x3 hf H locs ls hM hl
    rw [f_X0_look_101] at hf
    refine lv_iload_n hx hb dX0_look_101 rfl (lv_at hl 2 rfl) ?_
    refine lv_aload_n hx hb dX0_look_102 rfl (lv_at hl 0 rfl) ?_
    refine g_geti K kX hM 2 rfl q163 rfl dX0_look_103 rfl ?_
    refine lv_icmp_ge (tgt := 185) hx hb dX0_look_106 (by decide) (fun b1 => ?_) (fun b1 => ?_)
    · replace hf := hf.1 b1
      refine lv_iinc (v := x2 + 1) (lv' := [(2, .int (x2 + 1)), (0, .ref r.2.1), (3, .int x3)]) hx hb dX0_look_185 hl (k := 1) rfl rfl (by decide) rfl (fun ls hl => ?_)
      refine lv_goto (tgt := 70) hx hb dX0_look_188 (by decide) ?_
      exact H70 _ _ hf _ _ _ hM (lv_sub hl [1, 0] rfl)
    · replace hf := hf.2 b1
      refine lv_aload_n hx hb dX0_look_109 rfl (lv_at hl 0 rfl) ?_
      refine lv_iload_n hx hb dX0_look_110 rfl (lv_at hl 1 rfl) ?_
      refine lv_iload_n hx hb dX0_look_111 rfl (lv_at hl 2 rfl) ?_
      refine g_runi (rV [.int x2, .int x3] [] K kX hM hl (c_X0_inBasket l r A _ _ _ _ hf) q828 q830 qs23 q82 q831 hdX0_inBasket ⟨Nat.le_of_ble_eq_true rfl, Nat.le_of_ble_eq_true rfl⟩ ⟨Nat.le_refl _, Nat.le_refl _⟩ rfl (Nat.le_of_ble_eq_true rfl) dX0_look_112) hM (fun σ2 v3 H locs hf hM => ?_)
      refine lv_istore (lv' := [(4, .int v3), (0, .ref r.2.1), (2, .int x2), (3, .int x3)]) hx hb dX0_look_115 hl (by decide) rfl (fun ls hl => ?_)
      refine lv_aload_n hx hb dX0_look_117 rfl (lv_at hl 1 rfl) ?_
      refine g_geta K kX hM 12 rfl q175 rfl dX0_look_118 rfl ?_
      refine lv_iload_n hx hb dX0_look_121 rfl (lv_at hl 2 rfl) ?_
      refine lv_dup2_11 hx hb dX0_look_122 rfl rfl ?_
      obtain ⟨g4, hf⟩ := hf
      refine g_iald K hM 12 rfl rfl rfl g4 dX0_look_123 ?_
      refine lv_aload_n hx hb dX0_look_124 rfl (lv_at hl 1 rfl) ?_
      refine g_geta K kX hM 15 rfl q178 rfl dX0_look_125 rfl ?_
      refine lv_iconst (v := 4) hx hb dX0_look_128 rfl ?_
      refine lv_iload_n hx hb dX0_look_129 rfl (lv_at hl 3 rfl) ?_
      refine lv_imul hx hb dX0_look_130 ?_
      refine lv_iload hx hb dX0_look_131 (lv_at hl 0 rfl) ?_
      refine lv_iadd hx hb dX0_look_133 ?_
      obtain ⟨g5, hf⟩ := hf
      refine g_iald K hM 15 rfl rfl rfl g5 dX0_look_134 ?_
      refine lv_iadd hx hb dX0_look_135 ?_
      obtain ⟨g6, hf⟩ := hf
      refine g_iastN K hM 12 rfl rfl rfl g6 dX0_look_136 (fun H locs σ7 hσ7 hM => ?_)
      have hf := hf σ7 hσ7
      refine lv_aload_n hx hb dX0_look_137 rfl (lv_at hl 1 rfl) ?_
      refine g_geta K kX hM 13 rfl q176 rfl dX0_look_138 rfl ?_
      refine lv_iload_n hx hb dX0_look_141 rfl (lv_at hl 2 rfl) ?_
      refine lv_dup2_11 hx hb dX0_look_142 rfl rfl ?_
      obtain ⟨g8, hf⟩ := hf
      refine g_iald K hM 13 rfl rfl rfl g8 dX0_look_143 ?_
      refine lv_iload hx hb dX0_look_144 (lv_at hl 0 rfl) ?_
      refine lv_aload_n hx hb dX0_look_146 rfl (lv_at hl 1 rfl) ?_
      refine g_geta K kX hM 0 rfl q161 rfl dX0_look_147 rfl ?_
      refine lv_iload_n hx hb dX0_look_150 rfl (lv_at hl 3 rfl) ?_
      obtain ⟨g9, hf⟩ := hf
      obtain ⟨a10, h11, hf⟩ := hf
      refine g_aaldS K hM 0 rfl rfl rfl rfl g9 h11 dX0_look_151 ?_
      obtain ⟨v13, h12, hf⟩ := hf
      refine p_getN K kY3 hM 2 rfl q274 rfl dX0_look_152 h12 ?_
      refine lv_imul hx hb dX0_look_155 ?_
      refine lv_iadd hx hb dX0_look_156 ?_
      obtain ⟨g14, hf⟩ := hf
      refine g_iastN K hM 13 rfl rfl rfl g14 dX0_look_157 (fun H locs σ15 hσ15 hM => ?_)
      have hf := hf σ15 hσ15
      refine lv_aload_n hx hb dX0_look_158 rfl (lv_at hl 1 rfl) ?_
      refine g_geta K kX hM 14 rfl q177 rfl dX0_look_159 rfl ?_
      refine lv_iload_n hx hb dX0_look_162 rfl (lv_at hl 2 rfl) ?_
      refine lv_dup2_11 hx hb dX0_look_163 rfl rfl ?_
      obtain ⟨g16, hf⟩ := hf
      refine g_iald K hM 14 rfl rfl rfl g16 dX0_look_164 ?_
      refine lv_iload hx hb dX0_look_165 (lv_at hl 0 rfl) ?_
      refine lv_aload_n hx hb dX0_look_167 rfl (lv_at hl 1 rfl) ?_
      refine g_geta K kX hM 0 rfl q161 rfl dX0_look_168 rfl ?_
      refine lv_iload_n hx hb dX0_look_171 rfl (lv_at hl 3 rfl) ?_
      obtain ⟨g17, hf⟩ := hf
      obtain ⟨a18, h19, hf⟩ := hf
      refine g_aaldS K hM 0 rfl rfl rfl rfl g17 h19 dX0_look_172 ?_
      obtain ⟨v21, h20, hf⟩ := hf
      refine p_getN K kY3 hM 3 rfl q276 rfl dX0_look_173 h20 ?_
      refine lv_imul hx hb dX0_look_176 ?_
      refine lv_iadd hx hb dX0_look_177 ?_
      obtain ⟨g22, hf⟩ := hf
      refine g_iastN K hM 14 rfl rfl rfl g22 dX0_look_178 (fun H locs σ23 hσ23 hM => ?_)
      have hf := hf σ23 hσ23
      refine lv_iinc (v := x3 + 1) (lv' := [(3, .int (x3 + 1)), (4, .int v3), (0, .ref r.2.1), (2, .int x2)]) hx hb dX0_look_179 hl (k := 3) rfl rfl (by decide) rfl (fun ls hl => ?_)
      refine lv_goto (tgt := 101) hx hb dX0_look_182 (by decide) ?_
      exact ih _ _ _ hf _ _ _ hM (lv_sub hl [2, 3, 0] rfl)
theorem w_X0_look_70 {p : Program} {l : Launch} {e : Env} {s : State} {m : MethodId} {args : Array Value} {below : List Frame} {meth : Method} {c : Code} {r : GR} {A : Nat → Prop} {P : GS → Prop} (K : gC p s m args meth c cX0_look 5 RX0 r A) (hr : meth.sig.returnType = none) : ∀ (n : Nat) (σ : GS) (x2 : Int32), f_X0_look_70 r P n σ x2 → gW dX p l e (gRm 204 8097 0 0) s m args below meth c r A (zV P) 0 0 5 70 [(0, .ref r.2.1), (2, .int x2)] [] 0 0 σ := by
  obtain ⟨hx, hb, hml, hown, hts, hlk, hKK, hA⟩ := id K
  intro n
  induction n with
  | zero =>
    intro σ x2 hf
    exact absurd hf (fun h => h)
  | succ n ih =>
    intro σ x2 hf H locs ls hM hl
    rw [f_X0_look_70] at hf
    refine lv_iload_n hx hb dX0_look_70 rfl (lv_at hl 1 rfl) ?_
    refine lv_aload_n hx hb dX0_look_71 rfl (lv_at hl 0 rfl) ?_
    refine g_runi (rV [] [.int x2] K kX hM hl (c_X0_basketMany l r A _ _ hf) q824 q826 qs22 q82 q827 hdX0_basketMany ⟨Nat.le_of_ble_eq_true rfl, Nat.le_of_ble_eq_true rfl⟩ ⟨Nat.le_refl _, Nat.le_refl _⟩ rfl (Nat.le_of_ble_eq_true rfl) dX0_look_72) hM (fun σ1 v2 H locs hf hM => ?_)
    refine lv_icmp_ge (tgt := 191) hx hb dX0_look_75 (by decide) (fun b3 => ?_) (fun b3 => ?_)
    · replace hf := hf.1 b3
      exact g_retv K hr hM ⟨Nat.le_refl _, Nat.le_refl _⟩ hf dX0_look_191
    · replace hf := hf.2 b3
      refine lv_aload_n hx hb dX0_look_78 rfl (lv_at hl 0 rfl) ?_
      refine g_geta K kX hM 12 rfl q175 rfl dX0_look_79 rfl ?_
      refine lv_iload_n hx hb dX0_look_82 rfl (lv_at hl 1 rfl) ?_
      refine lv_iconst (v := 0) hx hb dX0_look_83 rfl ?_
      obtain ⟨g4, hf⟩ := hf
      refine g_iastN K hM 12 rfl rfl rfl g4 dX0_look_84 (fun H locs σ5 hσ5 hM => ?_)
      have hf := hf σ5 hσ5
      refine lv_aload_n hx hb dX0_look_85 rfl (lv_at hl 0 rfl) ?_
      refine g_geta K kX hM 13 rfl q176 rfl dX0_look_86 rfl ?_
      refine lv_iload_n hx hb dX0_look_89 rfl (lv_at hl 1 rfl) ?_
      refine lv_iconst (v := 0) hx hb dX0_look_90 rfl ?_
      obtain ⟨g6, hf⟩ := hf
      refine g_iastN K hM 13 rfl rfl rfl g6 dX0_look_91 (fun H locs σ7 hσ7 hM => ?_)
      have hf := hf σ7 hσ7
      refine lv_aload_n hx hb dX0_look_92 rfl (lv_at hl 0 rfl) ?_
      refine g_geta K kX hM 14 rfl q177 rfl dX0_look_93 rfl ?_
      refine lv_iload_n hx hb dX0_look_96 rfl (lv_at hl 1 rfl) ?_
      refine lv_iconst (v := 0) hx hb dX0_look_97 rfl ?_
      obtain ⟨g8, hf⟩ := hf
      refine g_iastN K hM 14 rfl rfl rfl g8 dX0_look_98 (fun H locs σ9 hσ9 hM => ?_)
      have hf := hf σ9 hσ9
      refine lv_iconst (v := 0) hx hb dX0_look_99 rfl ?_
      refine lv_istore_n (lv' := [(3, .int (0 : Int32)), (0, .ref r.2.1), (2, .int x2)]) hx hb dX0_look_100 rfl hl (by decide) rfl (fun ls hl => ?_)
      obtain ⟨n_, hf⟩ := hf
      exact w_X0_look_101 K hr ih n_ _ _ _ hf _ _ _ hM (lv_sub hl [1, 2, 0] rfl)
theorem w_X0_look_21 {p : Program} {l : Launch} {e : Env} {s : State} {m : MethodId} {args : Array Value} {below : List Frame} {meth : Method} {c : Code} {r : GR} {A : Nat → Prop} {P : GS → Prop} {k2 : GS → Int32 → Int32 → Prop} (K : gC p s m args meth c cX0_look 5 RX0 r A) (hr : meth.sig.returnType = none) (H2 : ∀ (σ : GS) (x1 : Int32) (x2 : Int32), k2 σ x1 x2 → gW dX p l e (gRm 204 8097 0 0) s m args below meth c r A (zV P) 0 0 5 2 [(0, .ref r.2.1), (1, .int x1), (2, .int x2)] [] 0 0 σ) : ∀ (n : Nat) (σ : GS) (x1 : Int32) (x2 : Int32) (x3 : Int32), f_X0_look_21 r k2 P n σ x1 x2 x3 → gW dX p l e (gRm 204 8097 0 0) s m args below meth c r A (zV P) 0 0 5 21 [(0, .ref r.2.1), (1, .int x1), (2, .int x2), (3, .int x3)] [] 0 0 σ := by
  obtain ⟨hx, hb, hml, hown, hts, hlk, hKK, hA⟩ := id K
  intro n
  induction n with
  | zero =>
    intro σ x1 x2 x3 hf
    exact absurd hf (fun h => h)
  | succ n ih =>
    intro σ x1 x2 x3 hf H locs ls hM hl
    rw [f_X0_look_21] at hf
    refine lv_iload_n hx hb dX0_look_21 rfl (lv_at hl 3 rfl) ?_
    refine lv_iconst (v := 3) hx hb dX0_look_22 rfl ?_
    refine lv_icmp_gt (tgt := 62) hx hb dX0_look_23 (by decide) (fun b1 => ?_) (fun b1 => ?_)
    · replace hf := hf.1 b1
      refine lv_iinc (v := x2 + 1) (lv' := [(2, .int (x2 + 1)), (0, .ref r.2.1), (1, .int x1), (3, .int x3)]) hx hb dX0_look_62 hl (k := 2) rfl rfl (by decide) rfl (fun ls hl => ?_)
      refine lv_goto (tgt := 2) hx hb dX0_look_65 (by decide) ?_
      exact H2 _ _ _ hf _ _ _ hM (lv_sub hl [1, 2, 0] rfl)
    · replace hf := hf.2 b1
      refine lv_aload_n hx hb dX0_look_26 rfl (lv_at hl 0 rfl) ?_
      refine g_geta K kX hM 15 rfl q178 rfl dX0_look_27 rfl ?_
      refine lv_iconst (v := 4) hx hb dX0_look_30 rfl ?_
      refine lv_iload_n hx hb dX0_look_31 rfl (lv_at hl 2 rfl) ?_
      refine lv_imul hx hb dX0_look_32 ?_
      refine lv_iload_n hx hb dX0_look_33 rfl (lv_at hl 3 rfl) ?_
      refine lv_iadd hx hb dX0_look_34 ?_
      refine lv_aload_n hx hb dX0_look_35 rfl (lv_at hl 0 rfl) ?_
      refine g_geta K kX hM 15 rfl q178 rfl dX0_look_36 rfl ?_
      refine lv_iconst (v := 4) hx hb dX0_look_39 rfl ?_
      refine lv_iload_n hx hb dX0_look_40 rfl (lv_at hl 2 rfl) ?_
      refine lv_imul hx hb dX0_look_41 ?_
      refine lv_iload_n hx hb dX0_look_42 rfl (lv_at hl 3 rfl) ?_
      refine lv_iadd hx hb dX0_look_43 ?_
      refine lv_iconst (v := 1) hx hb dX0_look_44 rfl ?_
      refine lv_isub hx hb dX0_look_45 ?_
      obtain ⟨g2, hf⟩ := hf
      refine g_iald K hM 15 rfl rfl rfl g2 dX0_look_46 ?_
      refine lv_aload_n hx hb dX0_look_47 rfl (lv_at hl 0 rfl) ?_
      refine lv_iload_n hx hb dX0_look_48 rfl (lv_at hl 1 rfl) ?_
      refine lv_iload_n hx hb dX0_look_49 rfl (lv_at hl 2 rfl) ?_
      refine lv_iload_n hx hb dX0_look_50 rfl (lv_at hl 3 rfl) ?_
      refine g_runi (rV [.int x1, .int x2, .int x3] [.int (gA σ 15 ((((4 : Int32) * x2) + x3) - (1 : Int32)).toNatClampNeg), .int (((4 : Int32) * x2) + x3), .ref (r.2.2.1 15)] K kX hM hl (c_X0_worthOf l r A _ _ _ _ _ hf) q778 q780 qs19 q82 q781 hdX0_worthOf ⟨Nat.le_of_ble_eq_true rfl, Nat.le_of_ble_eq_true rfl⟩ ⟨Nat.le_refl _, Nat.le_refl _⟩ rfl (Nat.le_of_ble_eq_true rfl) dX0_look_51) hM (fun σ3 v4 H locs hf hM => ?_)
      refine lv_iadd hx hb dX0_look_54 ?_
      obtain ⟨g5, hf⟩ := hf
      refine g_iastN K hM 15 rfl rfl rfl g5 dX0_look_55 (fun H locs σ6 hσ6 hM => ?_)
      have hf := hf σ6 hσ6
      refine lv_iinc (v := x3 + 1) (lv' := [(3, .int (x3 + 1)), (0, .ref r.2.1), (1, .int x1), (2, .int x2)]) hx hb dX0_look_56 hl (k := 3) rfl rfl (by decide) rfl (fun ls hl => ?_)
      refine lv_goto (tgt := 21) hx hb dX0_look_59 (by decide) ?_
      exact ih _ _ _ _ hf _ _ _ hM (lv_sub hl [1, 2, 3, 0] rfl)
theorem w_X0_look_2 {p : Program} {l : Launch} {e : Env} {s : State} {m : MethodId} {args : Array Value} {below : List Frame} {meth : Method} {c : Code} {r : GR} {A : Nat → Prop} {P : GS → Prop} (K : gC p s m args meth c cX0_look 5 RX0 r A) (hr : meth.sig.returnType = none) : ∀ (n : Nat) (σ : GS) (x1 : Int32) (x2 : Int32), f_X0_look_2 r P n σ x1 x2 → gW dX p l e (gRm 204 8097 0 0) s m args below meth c r A (zV P) 0 0 5 2 [(0, .ref r.2.1), (1, .int x1), (2, .int x2)] [] 0 0 σ := by
  obtain ⟨hx, hb, hml, hown, hts, hlk, hKK, hA⟩ := id K
  intro n
  induction n with
  | zero =>
    intro σ x1 x2 hf
    exact absurd hf (fun h => h)
  | succ n ih =>
    intro σ x1 x2 hf H locs ls hM hl
    rw [f_X0_look_2] at hf
    refine lv_iload_n hx hb dX0_look_2 rfl (lv_at hl 2 rfl) ?_
    refine lv_aload_n hx hb dX0_look_3 rfl (lv_at hl 0 rfl) ?_
    refine g_geti K kX hM 2 rfl q163 rfl dX0_look_4 rfl ?_
    refine lv_icmp_ge (tgt := 68) hx hb dX0_look_7 (by decide) (fun b1 => ?_) (fun b1 => ?_)
    · replace hf := hf.1 b1
      refine lv_iconst (v := 0) hx hb dX0_look_68 rfl ?_
      refine lv_istore_n (lv' := [(2, .int (0 : Int32)), (0, .ref r.2.1), (1, .int x1)]) hx hb dX0_look_69 rfl hl (by decide) rfl (fun ls hl => ?_)
      obtain ⟨n_, hf⟩ := hf
      exact w_X0_look_70 K hr n_ _ _ hf _ _ _ hM (lv_sub hl [1, 0] rfl)
    · replace hf := hf.2 b1
      refine lv_aload_n hx hb dX0_look_10 rfl (lv_at hl 0 rfl) ?_
      refine g_geta K kX hM 15 rfl q178 rfl dX0_look_11 rfl ?_
      refine lv_iconst (v := 4) hx hb dX0_look_14 rfl ?_
      refine lv_iload_n hx hb dX0_look_15 rfl (lv_at hl 2 rfl) ?_
      refine lv_imul hx hb dX0_look_16 ?_
      refine lv_iconst (v := 0) hx hb dX0_look_17 rfl ?_
      obtain ⟨g2, hf⟩ := hf
      refine g_iastN K hM 15 rfl rfl rfl g2 dX0_look_18 (fun H locs σ3 hσ3 hM => ?_)
      have hf := hf σ3 hσ3
      refine lv_iconst (v := 1) hx hb dX0_look_19 rfl ?_
      refine lv_istore_n (lv' := [(3, .int (1 : Int32)), (0, .ref r.2.1), (1, .int x1), (2, .int x2)]) hx hb dX0_look_20 rfl hl (by decide) rfl (fun ls hl => ?_)
      obtain ⟨n_, hf⟩ := hf
      exact w_X0_look_21 K hr ih n_ _ _ _ _ hf _ _ _ hM (lv_sub hl [1, 2, 3, 0] rfl)
theorem c_X0_look (l : Launch) (r : GR) (A : Nat → Prop) (σ : GS) (x1 : Int32) (P : GS → Prop) (hf : f_X0_look r σ x1 P) : gMet dX l yX0_look cX0_look 5 none 204 8097 0 0 r A σ [.ref r.2.1, .int x1] (zV P) := by
  refine g_enter (lv := [(0, .ref r.2.1), (1, .int x1)]) (by decide) (Nat.le_of_ble_eq_true rfl) rfl ?_
  intro p e s m below meth c ls K hr hM hl hi
  obtain ⟨hx, hb, hml, hown, hts, hlk, hKK, hA⟩ := id K
  unfold f_X0_look at hf
  refine lv_iconst (v := 0) hx hb dX0_look_0 rfl ?_
  refine lv_istore_n (lv' := [(2, .int (0 : Int32)), (0, .ref r.2.1), (1, .int x1)]) hx hb dX0_look_1 rfl hl (by decide) rfl (fun ls hl => ?_)
  obtain ⟨n_, hf⟩ := hf
  exact w_X0_look_2 K hr n_ _ _ _ hf _ _ _ hM (lv_sub hl [1, 2, 0] rfl)
theorem c_X0_bestOf (l : Launch) (r : GR) (A : Nat → Prop) (σ : GS) (x1 : Int32) (P : GS → Int32 → Prop) (hf : f_X0_bestOf r σ x1 P) : gMet dX l yX0_bestOf cX0_bestOf 2 (some .int) 205 8121 0 0 r A σ [.ref r.2.1, .int x1] (zI P) := by
  refine g_enter (lv := [(0, .ref r.2.1), (1, .int x1)]) (by decide) (Nat.le_of_ble_eq_true rfl) rfl ?_
  intro p e s m below meth c ls K hr hM hl hi
  obtain ⟨hx, hb, hml, hown, hts, hlk, hKK, hA⟩ := id K
  unfold f_X0_bestOf at hf
  refine lv_aload_n hx hb dX0_bestOf_0 rfl (lv_at hl 0 rfl) ?_
  refine lv_iload_n hx hb dX0_bestOf_1 rfl (lv_at hl 1 rfl) ?_
  refine g_runv (rV [.int x1] [] K kX hM hl (c_X0_look l r A _ _ _ hf) q820 q822 qs21 q82 q823 hdX0_look ⟨Nat.le_of_ble_eq_true rfl, Nat.le_of_ble_eq_true rfl⟩ ⟨Nat.le_refl _, Nat.le_refl _⟩ rfl (Nat.le_of_ble_eq_true rfl) dX0_bestOf_2) hM (fun σ1 H locs hf hM => ?_)
  refine lv_aload_n hx hb dX0_bestOf_5 rfl (lv_at hl 0 rfl) ?_
  refine lv_aload_n hx hb dX0_bestOf_6 rfl (lv_at hl 0 rfl) ?_
  refine g_geta K kX hM 1 rfl q162 rfl dX0_bestOf_7 rfl ?_
  refine lv_iload_n hx hb dX0_bestOf_10 rfl (lv_at hl 1 rfl) ?_
  obtain ⟨g3, hf⟩ := hf
  obtain ⟨a4, h5, hf⟩ := hf
  refine g_aaldS K hM 1 rfl rfl rfl rfl g3 h5 dX0_bestOf_11 ?_
  obtain ⟨v7, h6, hf⟩ := hf
  refine p_getN K kY5 hM 3 rfl q442 rfl dX0_bestOf_12 h6 ?_
  refine lv_aload_n hx hb dX0_bestOf_15 rfl (lv_at hl 0 rfl) ?_
  refine g_geta K kX hM 1 rfl q162 rfl dX0_bestOf_16 rfl ?_
  refine lv_iload_n hx hb dX0_bestOf_19 rfl (lv_at hl 1 rfl) ?_
  obtain ⟨g8, hf⟩ := hf
  obtain ⟨a9, h10, hf⟩ := hf
  refine g_aaldS K hM 1 rfl rfl rfl rfl g8 h10 dX0_bestOf_20 ?_
  obtain ⟨f13, h14, hf⟩ := hf
  refine g_runi (rP [] [.int v7, .ref r.2.1] K kY5 hM hl h14 (c_X5_points l r A _ _ _ hf) q467 q468 q469 q95 q470 hdX5_points ⟨Nat.le_of_ble_eq_true rfl, Nat.le_of_ble_eq_true rfl⟩ ⟨Nat.le_refl _, Nat.le_refl _⟩ rfl (Nat.le_of_ble_eq_true rfl) dX0_bestOf_21) hM (fun σ11 v12 H locs hf hM => ?_)
  refine g_runi (rV [.int v7, .int v12] [] K kX hM hl (c_X0_bestBy l r A _ _ _ _ hf) q832 q834 qs24 q82 q835 hdX0_bestBy ⟨Nat.le_of_ble_eq_true rfl, Nat.le_of_ble_eq_true rfl⟩ ⟨Nat.le_refl _, Nat.le_refl _⟩ rfl (Nat.le_of_ble_eq_true rfl) dX0_bestOf_24) hM (fun σ15 v16 H locs hf hM => ?_)
  exact g_reti K hr hM ⟨Nat.le_refl _, Nat.le_refl _⟩ hf dX0_bestOf_27
theorem w_X0_digits_4 {p : Program} {l : Launch} {e : Env} {s : State} {m : MethodId} {args : Array Value} {below : List Frame} {meth : Method} {c : Code} {r : GR} {A : Nat → Prop} {P : GS → Int32 → Prop} (K : gC p s m args meth c cX0_digits 4 RX0 r A) (hr : meth.sig.returnType = (some .int)) : ∀ (n : Nat) (σ : GS) (x1 : Int32) (x2 : Int32) (x3 : Int32), f_X0_digits_4 r P n σ x1 x2 x3 → gW dX p l e (gRm 1 22 0 0) s m args below meth c r A (zI P) 0 0 4 4 [(0, .ref r.2.1), (1, .int x1), (2, .int x2), (3, .int x3)] [] 0 0 σ := by
  obtain ⟨hx, hb, hml, hown, hts, hlk, hKK, hA⟩ := id K
  intro n
  induction n with
  | zero =>
    intro σ x1 x2 x3 hf
    exact absurd hf (fun h => h)
  | succ n ih =>
    intro σ x1 x2 x3 hf H locs ls hM hl
    rw [f_X0_digits_4] at hf
    refine lv_iload_n hx hb dX0_digits_4 rfl (lv_at hl 3 rfl) ?_
    refine lv_aload_n hx hb dX0_digits_5 rfl (lv_at hl 0 rfl) ?_
    refine g_geti K kX hM 2 rfl q163 rfl dX0_digits_6 rfl ?_
    refine lv_icmp_ge (tgt := 30) hx hb dX0_digits_9 (by decide) (fun b1 => ?_) (fun b1 => ?_)
    · replace hf := hf.1 b1
      refine lv_iload_n hx hb dX0_digits_30 rfl (lv_at hl 2 rfl) ?_
      exact g_reti K hr hM ⟨Nat.le_refl _, Nat.le_refl _⟩ hf dX0_digits_31
    · replace hf := hf.2 b1
      refine lv_bipush (v := 10) hx hb dX0_digits_12 rfl ?_
      refine lv_iload_n hx hb dX0_digits_14 rfl (lv_at hl 2 rfl) ?_
      refine lv_imul hx hb dX0_digits_15 ?_
      refine lv_aload_n hx hb dX0_digits_16 rfl (lv_at hl 0 rfl) ?_
      refine lv_iload_n hx hb dX0_digits_17 rfl (lv_at hl 1 rfl) ?_
      refine lv_iload_n hx hb dX0_digits_18 rfl (lv_at hl 3 rfl) ?_
      refine g_runi (rV [.int x1, .int x3] [.int ((10 : Int32) * x2)] K kX hM hl (c_X0_inBasket l r A _ _ _ _ hf) q828 q830 qs23 q82 q831 hdX0_inBasket ⟨Nat.le_of_ble_eq_true rfl, Nat.le_of_ble_eq_true rfl⟩ ⟨Nat.le_refl _, Nat.le_refl _⟩ rfl (Nat.le_of_ble_eq_true rfl) dX0_digits_19) hM (fun σ2 v3 H locs hf hM => ?_)
      refine lv_iadd hx hb dX0_digits_22 ?_
      refine lv_istore_n (lv' := [(2, .int (((10 : Int32) * x2) + v3)), (0, .ref r.2.1), (1, .int x1), (3, .int x3)]) hx hb dX0_digits_23 rfl hl (by decide) rfl (fun ls hl => ?_)
      refine lv_iinc (v := x3 + 1) (lv' := [(3, .int (x3 + 1)), (2, .int (((10 : Int32) * x2) + v3)), (0, .ref r.2.1), (1, .int x1)]) hx hb dX0_digits_24 hl (k := 3) rfl rfl (by decide) rfl (fun ls hl => ?_)
      refine lv_goto (tgt := 4) hx hb dX0_digits_27 (by decide) ?_
      exact ih _ _ _ _ hf _ _ _ hM (lv_sub hl [2, 3, 1, 0] rfl)
theorem c_X0_digits (l : Launch) (r : GR) (A : Nat → Prop) (σ : GS) (x1 : Int32) (P : GS → Int32 → Prop) (hf : f_X0_digits r σ x1 P) : gMet dX l yX0_digits cX0_digits 4 (some .int) 1 22 0 0 r A σ [.ref r.2.1, .int x1] (zI P) := by
  refine g_enter (lv := [(0, .ref r.2.1), (1, .int x1)]) (by decide) (Nat.le_of_ble_eq_true rfl) rfl ?_
  intro p e s m below meth c ls K hr hM hl hi
  obtain ⟨hx, hb, hml, hown, hts, hlk, hKK, hA⟩ := id K
  unfold f_X0_digits at hf
  refine lv_iconst (v := 0) hx hb dX0_digits_0 rfl ?_
  refine lv_istore_n (lv' := [(2, .int (0 : Int32)), (0, .ref r.2.1), (1, .int x1)]) hx hb dX0_digits_1 rfl hl (by decide) rfl (fun ls hl => ?_)
  refine lv_iconst (v := 0) hx hb dX0_digits_2 rfl ?_
  refine lv_istore_n (lv' := [(3, .int (0 : Int32)), (2, .int (0 : Int32)), (0, .ref r.2.1), (1, .int x1)]) hx hb dX0_digits_3 rfl hl (by decide) rfl (fun ls hl => ?_)
  obtain ⟨n_, hf⟩ := hf
  exact w_X0_digits_4 K hr n_ _ _ _ _ hf _ _ _ hM (lv_sub hl [2, 3, 1, 0] rfl)
theorem c_X0_basket (l : Launch) (r : GR) (A : Nat → Prop) (σ : GS) (x1 : Int32) (x2 : Int32) (P : GS → Int32 → Prop) (hf : f_X0_basket r σ x1 x2 P) : gMet dX l yX0_basket cX0_basket 4 (some .int) 206 8142 0 0 r A σ [.ref r.2.1, .int x1, .int x2] (zI P) := by
  refine g_enter (lv := [(0, .ref r.2.1), (1, .int x1), (2, .int x2)]) (by decide) (Nat.le_of_ble_eq_true rfl) rfl ?_
  intro p e s m below meth c ls K hr hM hl hi
  obtain ⟨hx, hb, hml, hown, hts, hlk, hKK, hA⟩ := id K
  unfold f_X0_basket at hf
  refine lv_aload_n hx hb dX0_basket_0 rfl (lv_at hl 0 rfl) ?_
  refine lv_iload_n hx hb dX0_basket_1 rfl (lv_at hl 1 rfl) ?_
  refine g_runi (rV [.int x1] [] K kX hM hl (c_X0_isSort l r A _ _ _ hf) q463 q465 qs2 q82 q466 hdX0_isSort ⟨Nat.le_of_ble_eq_true rfl, Nat.le_of_ble_eq_true rfl⟩ ⟨Nat.le_refl _, Nat.le_refl _⟩ rfl (Nat.le_of_ble_eq_true rfl) dX0_basket_2) hM (fun σ1 v2 H locs hf hM => ?_)
  refine lv_if_eq (tgt := 17) hx hb dX0_basket_5 (by decide) (fun b3 => ?_) (fun b3 => ?_)
  · replace hf := hf.1 b3
    refine lv_iconst (v := -1) hx hb dX0_basket_17 rfl ?_
    exact g_reti K hr hM ⟨Nat.le_refl _, Nat.le_refl _⟩ hf dX0_basket_18
  · replace hf := hf.2 b3
    refine lv_iload_n hx hb dX0_basket_8 rfl (lv_at hl 2 rfl) ?_
    refine lv_iconst (v := 0) hx hb dX0_basket_9 rfl ?_
    refine lv_iconst (v := 3) hx hb dX0_basket_10 rfl ?_
    refine g_runi (rS [.int x2, .int (0 : Int32), .int (3 : Int32)] [] K hM hl (c_X0_in l r A _ _ _ _ _ hf) q261 q262 q82 q263 hdX0_in ⟨Nat.le_of_ble_eq_true rfl, Nat.le_of_ble_eq_true rfl⟩ ⟨Nat.le_refl _, Nat.le_refl _⟩ rfl (Nat.le_of_ble_eq_true rfl) dX0_basket_11) hM (fun σ4 v5 H locs hf hM => ?_)
    refine lv_if_ne (tgt := 19) hx hb dX0_basket_14 (by decide) (fun b6 => ?_) (fun b6 => ?_)
    · replace hf := hf.2 b6
      refine lv_aload_n hx hb dX0_basket_19 rfl (lv_at hl 0 rfl) ?_
      refine lv_iload_n hx hb dX0_basket_20 rfl (lv_at hl 1 rfl) ?_
      refine g_runi (rV [.int x1] [] K kX hM hl (c_X0_bestOf l r A _ _ _ hf) q816 q818 qs20 q82 q819 hdX0_bestOf ⟨Nat.le_of_ble_eq_true rfl, Nat.le_of_ble_eq_true rfl⟩ ⟨Nat.le_refl _, Nat.le_refl _⟩ rfl (Nat.le_of_ble_eq_true rfl) dX0_basket_21) hM (fun σ7 v8 H locs hf hM => ?_)
      refine lv_istore_n (lv' := [(3, .int v8), (0, .ref r.2.1), (1, .int x1), (2, .int x2)]) hx hb dX0_basket_24 rfl hl (by decide) rfl (fun ls hl => ?_)
      refine lv_iload_n hx hb dX0_basket_25 rfl (lv_at hl 3 rfl) ?_
      refine lv_if_ne (tgt := 37) hx hb dX0_basket_26 (by decide) (fun b9 => ?_) (fun b9 => ?_)
      · replace hf := hf.2 b9
        refine lv_iload_n hx hb dX0_basket_37 rfl (lv_at hl 3 rfl) ?_
        refine lv_iconst (v := 1) hx hb dX0_basket_38 rfl ?_
        refine lv_icmp_ne (tgt := 51) hx hb dX0_basket_39 (by decide) (fun b10 => ?_) (fun b10 => ?_)
        · replace hf := hf.2 b10
          refine lv_iload_n hx hb dX0_basket_51 rfl (lv_at hl 3 rfl) ?_
          refine lv_iconst (v := 2) hx hb dX0_basket_52 rfl ?_
          refine lv_icmp_ne (tgt := 65) hx hb dX0_basket_53 (by decide) (fun b11 => ?_) (fun b11 => ?_)
          · replace hf := hf.2 b11
            refine lv_aload_n hx hb dX0_basket_65 rfl (lv_at hl 1 rfl) ?_
            refine g_geta K kX hM 14 rfl q177 rfl dX0_basket_66 rfl ?_
            refine lv_iload_n hx hb dX0_basket_69 rfl (lv_at hl 0 rfl) ?_
            obtain ⟨g12, hf⟩ := hf
            refine g_iald K hM 14 rfl rfl rfl g12 dX0_basket_70 ?_
            exact g_reti K hr hM ⟨Nat.le_refl _, Nat.le_refl _⟩ hf dX0_basket_71
          · replace hf := hf.1 b11
            refine lv_aload_n hx hb dX0_basket_56 rfl (lv_at hl 1 rfl) ?_
            refine g_geta K kX hM 13 rfl q176 rfl dX0_basket_57 rfl ?_
            refine lv_iload_n hx hb dX0_basket_60 rfl (lv_at hl 0 rfl) ?_
            obtain ⟨g13, hf⟩ := hf
            refine g_iald K hM 13 rfl rfl rfl g13 dX0_basket_61 ?_
            refine lv_goto (tgt := 71) hx hb dX0_basket_62 (by decide) ?_
            exact g_reti K hr hM ⟨Nat.le_refl _, Nat.le_refl _⟩ hf dX0_basket_71
        · replace hf := hf.1 b10
          refine lv_aload_n hx hb dX0_basket_42 rfl (lv_at hl 1 rfl) ?_
          refine g_geta K kX hM 12 rfl q175 rfl dX0_basket_43 rfl ?_
          refine lv_iload_n hx hb dX0_basket_46 rfl (lv_at hl 0 rfl) ?_
          obtain ⟨g14, hf⟩ := hf
          refine g_iald K hM 12 rfl rfl rfl g14 dX0_basket_47 ?_
          refine lv_goto (tgt := 71) hx hb dX0_basket_48 (by decide) ?_
          exact g_reti K hr hM ⟨Nat.le_refl _, Nat.le_refl _⟩ hf dX0_basket_71
      · replace hf := hf.1 b9
        refine lv_aload_n hx hb dX0_basket_29 rfl (lv_at hl 1 rfl) ?_
        refine lv_iload_n hx hb dX0_basket_30 rfl (lv_at hl 0 rfl) ?_
        refine g_runi (rV [.int v8] [] K kX hM hl (c_X0_digits l r A _ _ _ hf) q836 q838 qs25 q82 q839 hdX0_digits ⟨Nat.le_of_ble_eq_true rfl, Nat.le_of_ble_eq_true rfl⟩ ⟨Nat.le_refl _, Nat.le_refl _⟩ rfl (Nat.le_of_ble_eq_true rfl) dX0_basket_31) hM (fun σ15 v16 H locs hf hM => ?_)
        refine lv_goto (tgt := 71) hx hb dX0_basket_34 (by decide) ?_
        exact g_reti K hr hM ⟨Nat.le_refl _, Nat.le_refl _⟩ hf dX0_basket_71
    · replace hf := hf.1 b6
      refine lv_iconst (v := -1) hx hb dX0_basket_17 rfl ?_
      exact g_reti K hr hM ⟨Nat.le_refl _, Nat.le_refl _⟩ hf dX0_basket_18
theorem c_X0_over (l : Launch) (r : GR) (A : Nat → Prop) (σ : GS) (x1 : Int32) (P : GS → Int32 → Prop) (hf : f_X0_over r σ x1 P) : gMet dX l yX0_over cX0_over 2 (some .int) 0 0 0 0 r A σ [.ref r.2.1, .int x1] (zI P) := by
  refine g_enter (lv := [(0, .ref r.2.1), (1, .int x1)]) (by decide) (Nat.le_of_ble_eq_true rfl) rfl ?_
  intro p e s m below meth c ls K hr hM hl hi
  obtain ⟨hx, hb, hml, hown, hts, hlk, hKK, hA⟩ := id K
  unfold f_X0_over at hf
  refine lv_aload_n hx hb dX0_over_0 rfl (lv_at hl 0 rfl) ?_
  refine g_geta K kX hM 0 rfl q161 rfl dX0_over_1 rfl ?_
  refine lv_iload_n hx hb dX0_over_4 rfl (lv_at hl 1 rfl) ?_
  obtain ⟨g1, hf⟩ := hf
  obtain ⟨a2, h3, hf⟩ := hf
  refine g_aaldS K hM 0 rfl rfl rfl rfl g1 h3 dX0_over_5 ?_
  obtain ⟨v5, h4, hf⟩ := hf
  refine p_getN K kY3 hM 1 rfl q272 rfl dX0_over_6 h4 ?_
  refine lv_aload_n hx hb dX0_over_9 rfl (lv_at hl 0 rfl) ?_
  refine g_geta K kX hM 16 rfl q179 rfl dX0_over_10 rfl ?_
  refine lv_iload_n hx hb dX0_over_13 rfl (lv_at hl 1 rfl) ?_
  obtain ⟨g6, hf⟩ := hf
  refine g_iald K hM 16 rfl rfl rfl g6 dX0_over_14 ?_
  refine lv_isub hx hb dX0_over_15 ?_
  exact g_reti K hr hM ⟨Nat.le_refl _, Nat.le_refl _⟩ hf dX0_over_16
theorem w_X0_both_4 {p : Program} {l : Launch} {e : Env} {s : State} {m : MethodId} {args : Array Value} {below : List Frame} {meth : Method} {c : Code} {r : GR} {A : Nat → Prop} {P : GS → Int32 → Prop} (K : gC p s m args meth c cX0_both 3 RX0 r A) (hr : meth.sig.returnType = (some .int)) : ∀ (n : Nat) (σ : GS) (x1 : Int32) (x2 : Int32), f_X0_both_4 r P n σ x1 x2 → gW dX p l e (gRm 1 24 0 0) s m args below meth c r A (zI P) 0 0 3 4 [(0, .ref r.2.1), (1, .int x1), (2, .int x2)] [] 0 0 σ := by
  obtain ⟨hx, hb, hml, hown, hts, hlk, hKK, hA⟩ := id K
  intro n
  induction n with
  | zero =>
    intro σ x1 x2 hf
    exact absurd hf (fun h => h)
  | succ n ih =>
    intro σ x1 x2 hf H locs ls hM hl
    rw [f_X0_both_4] at hf
    refine lv_iload_n hx hb dX0_both_4 rfl (lv_at hl 2 rfl) ?_
    refine lv_aload_n hx hb dX0_both_5 rfl (lv_at hl 0 rfl) ?_
    refine g_geti K kX hM 2 rfl q163 rfl dX0_both_6 rfl ?_
    refine lv_icmp_ge (tgt := 29) hx hb dX0_both_9 (by decide) (fun b1 => ?_) (fun b1 => ?_)
    · replace hf := hf.1 b1
      refine lv_iload_n hx hb dX0_both_29 rfl (lv_at hl 1 rfl) ?_
      exact g_reti K hr hM ⟨Nat.le_refl _, Nat.le_refl _⟩ hf dX0_both_30
    · replace hf := hf.2 b1
      refine lv_iload_n hx hb dX0_both_12 rfl (lv_at hl 1 rfl) ?_
      refine lv_aload_n hx hb dX0_both_13 rfl (lv_at hl 0 rfl) ?_
      refine lv_iload_n hx hb dX0_both_14 rfl (lv_at hl 2 rfl) ?_
      refine g_runi (rV [.int x2] [.int x1] K kX hM hl (c_X0_over l r A _ _ _ hf) q853 q855 qs28 q82 q856 hdX0_over ⟨Nat.le_of_ble_eq_true rfl, Nat.le_of_ble_eq_true rfl⟩ ⟨Nat.le_refl _, Nat.le_refl _⟩ rfl (Nat.le_of_ble_eq_true rfl) dX0_both_15) hM (fun σ2 v3 H locs hf hM => ?_)
      refine va_mabs hx hb (hml.trans hl.1.symm) hown (hts _ q857) (hts _ q858) (hts _ q99) (hts _ q859) (Nat.le_of_ble_eq_true rfl) (Nat.le_of_ble_eq_true rfl) (Nat.zero_le _) (Nat.zero_le _) dX0_both_18 ?_
      refine lv_iadd hx hb dX0_both_21 ?_
      refine lv_istore_n (lv' := [(1, .int (x1 + (if 0 ≤ v3 then v3 else 0 - v3))), (0, .ref r.2.1), (2, .int x2)]) hx hb dX0_both_22 rfl hl (by decide) rfl (fun ls hl => ?_)
      refine lv_iinc (v := x2 + 1) (lv' := [(2, .int (x2 + 1)), (1, .int (x1 + (if 0 ≤ v3 then v3 else 0 - v3))), (0, .ref r.2.1)]) hx hb dX0_both_23 hl (k := 2) rfl rfl (by decide) rfl (fun ls hl => ?_)
      refine lv_goto (tgt := 4) hx hb dX0_both_26 (by decide) ?_
      exact ih _ _ _ hf _ _ _ hM (lv_sub hl [2, 1, 0] rfl)
theorem c_X0_both (l : Launch) (r : GR) (A : Nat → Prop) (σ : GS) (P : GS → Int32 → Prop) (hf : f_X0_both r σ P) : gMet dX l yX0_both cX0_both 3 (some .int) 1 24 0 0 r A σ [.ref r.2.1] (zI P) := by
  refine g_enter (lv := [(0, .ref r.2.1)]) (by decide) (Nat.le_of_ble_eq_true rfl) rfl ?_
  intro p e s m below meth c ls K hr hM hl hi
  obtain ⟨hx, hb, hml, hown, hts, hlk, hKK, hA⟩ := id K
  unfold f_X0_both at hf
  refine lv_iconst (v := 0) hx hb dX0_both_0 rfl ?_
  refine lv_istore_n (lv' := [(1, .int (0 : Int32)), (0, .ref r.2.1)]) hx hb dX0_both_1 rfl hl (by decide) rfl (fun ls hl => ?_)
  refine lv_iconst (v := 0) hx hb dX0_both_2 rfl ?_
  refine lv_istore_n (lv' := [(2, .int (0 : Int32)), (1, .int (0 : Int32)), (0, .ref r.2.1)]) hx hb dX0_both_3 rfl hl (by decide) rfl (fun ls hl => ?_)
  obtain ⟨n_, hf⟩ := hf
  exact w_X0_both_4 K hr n_ _ _ _ hf _ _ _ hM (lv_sub hl [2, 1, 0] rfl)
theorem w_X0_findWanted_41 {p : Program} {l : Launch} {e : Env} {s : State} {m : MethodId} {args : Array Value} {below : List Frame} {meth : Method} {c : Code} {r : GR} {A : Nat → Prop} {P : GS → Prop} {k25 : GS → Int32 → Prop} (K : gC p s m args meth c cX0_findWanted 4 RX0 r A) (hr : meth.sig.returnType = none) (H25 : ∀ (σ : GS) (x1 : Int32), k25 σ x1 → gW dX p l e (gRm 206 8142 0 0) s m args below meth c r A (zV P) 0 0 4 25 [(0, .ref r.2.1), (1, .int x1)] [] 0 0 σ) : ∀ (n : Nat) (σ : GS) (x1 : Int32) (x2 : Int32) (x3 : Int32), f_X0_findWanted_41 r k25 P n σ x1 x2 x3 → gW dX p l e (gRm 206 8142 0 0) s m args below meth c r A (zV P) 0 0 4 41 [(0, .ref r.2.1), (1, .int x1), (2, .int x2), (3, .int x3)] [] 0 0 σ := by
  obtain ⟨hx, hb, hml, hown, hts, hlk, hKK, hA⟩ := id K
  intro n
  induction n with
  | zero =>
    intro σ x1 x2 x3 hf
    exact absurd hf (fun h => h)
  | succ n ih =>
    intro σ x1 x2 x3 hf H locs ls hM hl
    rw [f_X0_findWanted_41] at hf
    refine lv_iload_n hx hb dX0_findWanted_41 rfl (lv_at hl 3 rfl) ?_
    refine lv_aload_n hx hb dX0_findWanted_42 rfl (lv_at hl 0 rfl) ?_
    refine g_geti K kX hM 2 rfl q163 rfl dX0_findWanted_43 rfl ?_
    refine lv_icmp_ge (tgt := 80) hx hb dX0_findWanted_46 (by decide) (fun b1 => ?_) (fun b1 => ?_)
    · replace hf := hf.1 b1
      refine lv_iinc (v := x1 + 1) (lv' := [(1, .int (x1 + 1)), (0, .ref r.2.1), (2, .int x2), (3, .int x3)]) hx hb dX0_findWanted_80 hl (k := 1) rfl rfl (by decide) rfl (fun ls hl => ?_)
      refine lv_goto (tgt := 25) hx hb dX0_findWanted_83 (by decide) ?_
      exact H25 _ _ hf _ _ _ hM (lv_sub hl [1, 0] rfl)
    · replace hf := hf.2 b1
      refine lv_aload_n hx hb dX0_findWanted_49 rfl (lv_at hl 0 rfl) ?_
      refine g_geta K kX hM 16 rfl q179 rfl dX0_findWanted_50 rfl ?_
      refine lv_iload_n hx hb dX0_findWanted_53 rfl (lv_at hl 3 rfl) ?_
      refine lv_dup2_11 hx hb dX0_findWanted_54 rfl rfl ?_
      obtain ⟨g2, hf⟩ := hf
      refine g_iald K hM 16 rfl rfl rfl g2 dX0_findWanted_55 ?_
      refine lv_aload_n hx hb dX0_findWanted_56 rfl (lv_at hl 0 rfl) ?_
      refine g_geta K kX hM 1 rfl q162 rfl dX0_findWanted_57 rfl ?_
      refine lv_iload_n hx hb dX0_findWanted_60 rfl (lv_at hl 1 rfl) ?_
      obtain ⟨g3, hf⟩ := hf
      obtain ⟨a4, h5, hf⟩ := hf
      refine g_aaldS K hM 1 rfl rfl rfl rfl g3 h5 dX0_findWanted_61 ?_
      obtain ⟨v7, h6, hf⟩ := hf
      refine p_getN K kY5 hM 0 rfl q436 rfl dX0_findWanted_62 h6 ?_
      refine lv_aload_n hx hb dX0_findWanted_65 rfl (lv_at hl 0 rfl) ?_
      refine lv_iload_n hx hb dX0_findWanted_66 rfl (lv_at hl 2 rfl) ?_
      refine lv_iload_n hx hb dX0_findWanted_67 rfl (lv_at hl 3 rfl) ?_
      refine g_runi (rV [.int x2, .int x3] [.int v7, .int (gA σ 16 x3.toNatClampNeg), .int x3, .ref (r.2.2.1 16)] K kX hM hl (c_X0_inBasket l r A _ _ _ _ hf) q828 q830 qs23 q82 q831 hdX0_inBasket ⟨Nat.le_of_ble_eq_true rfl, Nat.le_of_ble_eq_true rfl⟩ ⟨Nat.le_refl _, Nat.le_refl _⟩ rfl (Nat.le_of_ble_eq_true rfl) dX0_findWanted_68) hM (fun σ8 v9 H locs hf hM => ?_)
      refine lv_imul hx hb dX0_findWanted_71 ?_
      refine lv_iadd hx hb dX0_findWanted_72 ?_
      obtain ⟨g10, hf⟩ := hf
      refine g_iastN K hM 16 rfl rfl rfl g10 dX0_findWanted_73 (fun H locs σ11 hσ11 hM => ?_)
      have hf := hf σ11 hσ11
      refine lv_iinc (v := x3 + 1) (lv' := [(3, .int (x3 + 1)), (0, .ref r.2.1), (1, .int x1), (2, .int x2)]) hx hb dX0_findWanted_74 hl (k := 3) rfl rfl (by decide) rfl (fun ls hl => ?_)
      refine lv_goto (tgt := 41) hx hb dX0_findWanted_77 (by decide) ?_
      exact ih _ _ _ _ hf _ _ _ hM (lv_sub hl [1, 2, 3, 0] rfl)
theorem w_X0_findWanted_25 {p : Program} {l : Launch} {e : Env} {s : State} {m : MethodId} {args : Array Value} {below : List Frame} {meth : Method} {c : Code} {r : GR} {A : Nat → Prop} {P : GS → Prop} (K : gC p s m args meth c cX0_findWanted 4 RX0 r A) (hr : meth.sig.returnType = none) : ∀ (n : Nat) (σ : GS) (x1 : Int32), f_X0_findWanted_25 r P n σ x1 → gW dX p l e (gRm 206 8142 0 0) s m args below meth c r A (zV P) 0 0 4 25 [(0, .ref r.2.1), (1, .int x1)] [] 0 0 σ := by
  obtain ⟨hx, hb, hml, hown, hts, hlk, hKK, hA⟩ := id K
  intro n
  induction n with
  | zero =>
    intro σ x1 hf
    exact absurd hf (fun h => h)
  | succ n ih =>
    intro σ x1 hf H locs ls hM hl
    rw [f_X0_findWanted_25] at hf
    refine lv_iload_n hx hb dX0_findWanted_25 rfl (lv_at hl 1 rfl) ?_
    refine lv_aload_n hx hb dX0_findWanted_26 rfl (lv_at hl 0 rfl) ?_
    refine g_geti K kX hM 3 rfl q164 rfl dX0_findWanted_27 rfl ?_
    refine lv_icmp_ge (tgt := 86) hx hb dX0_findWanted_30 (by decide) (fun b1 => ?_) (fun b1 => ?_)
    · replace hf := hf.1 b1
      exact g_retv K hr hM ⟨Nat.le_refl _, Nat.le_refl _⟩ hf dX0_findWanted_86
    · replace hf := hf.2 b1
      refine lv_aload_n hx hb dX0_findWanted_33 rfl (lv_at hl 0 rfl) ?_
      refine lv_iload_n hx hb dX0_findWanted_34 rfl (lv_at hl 1 rfl) ?_
      refine g_runi (rV [.int x1] [] K kX hM hl (c_X0_bestOf l r A _ _ _ hf) q816 q818 qs20 q82 q819 hdX0_bestOf ⟨Nat.le_of_ble_eq_true rfl, Nat.le_of_ble_eq_true rfl⟩ ⟨Nat.le_refl _, Nat.le_refl _⟩ rfl (Nat.le_of_ble_eq_true rfl) dX0_findWanted_35) hM (fun σ2 v3 H locs hf hM => ?_)
      refine lv_istore_n (lv' := [(2, .int v3), (0, .ref r.2.1), (1, .int x1)]) hx hb dX0_findWanted_38 rfl hl (by decide) rfl (fun ls hl => ?_)
      refine lv_iconst (v := 0) hx hb dX0_findWanted_39 rfl ?_
      refine lv_istore_n (lv' := [(3, .int (0 : Int32)), (2, .int v3), (0, .ref r.2.1), (1, .int x1)]) hx hb dX0_findWanted_40 rfl hl (by decide) rfl (fun ls hl => ?_)
      obtain ⟨n_, hf⟩ := hf
      exact w_X0_findWanted_41 K hr ih n_ _ _ _ _ hf _ _ _ hM (lv_sub hl [2, 3, 1, 0] rfl)
theorem w_X0_findWanted_2 {p : Program} {l : Launch} {e : Env} {s : State} {m : MethodId} {args : Array Value} {below : List Frame} {meth : Method} {c : Code} {r : GR} {A : Nat → Prop} {P : GS → Prop} (K : gC p s m args meth c cX0_findWanted 4 RX0 r A) (hr : meth.sig.returnType = none) : ∀ (n : Nat) (σ : GS) (x1 : Int32), f_X0_findWanted_2 r P n σ x1 → gW dX p l e (gRm 206 8142 0 0) s m args below meth c r A (zV P) 0 0 4 2 [(0, .ref r.2.1), (1, .int x1)] [] 0 0 σ := by
  obtain ⟨hx, hb, hml, hown, hts, hlk, hKK, hA⟩ := id K
  intro n
  induction n with
  | zero =>
    intro σ x1 hf
    exact absurd hf (fun h => h)
  | succ n ih =>
    intro σ x1 hf H locs ls hM hl
    rw [f_X0_findWanted_2] at hf
    refine lv_iload_n hx hb dX0_findWanted_2 rfl (lv_at hl 1 rfl) ?_
    refine lv_aload_n hx hb dX0_findWanted_3 rfl (lv_at hl 0 rfl) ?_
    refine g_geti K kX hM 2 rfl q163 rfl dX0_findWanted_4 rfl ?_
    refine lv_icmp_ge (tgt := 23) hx hb dX0_findWanted_7 (by decide) (fun b1 => ?_) (fun b1 => ?_)
    · replace hf := hf.1 b1
      refine lv_iconst (v := 0) hx hb dX0_findWanted_23 rfl ?_
      refine lv_istore_n (lv' := [(1, .int (0 : Int32)), (0, .ref r.2.1)]) hx hb dX0_findWanted_24 rfl hl (by decide) rfl (fun ls hl => ?_)
      obtain ⟨n_, hf⟩ := hf
      exact w_X0_findWanted_25 K hr n_ _ _ hf _ _ _ hM (lv_sub hl [1, 0] rfl)
    · replace hf := hf.2 b1
      refine lv_aload_n hx hb dX0_findWanted_10 rfl (lv_at hl 0 rfl) ?_
      refine g_geta K kX hM 16 rfl q179 rfl dX0_findWanted_11 rfl ?_
      refine lv_iload_n hx hb dX0_findWanted_14 rfl (lv_at hl 1 rfl) ?_
      refine lv_iconst (v := 0) hx hb dX0_findWanted_15 rfl ?_
      obtain ⟨g2, hf⟩ := hf
      refine g_iastN K hM 16 rfl rfl rfl g2 dX0_findWanted_16 (fun H locs σ3 hσ3 hM => ?_)
      have hf := hf σ3 hσ3
      refine lv_iinc (v := x1 + 1) (lv' := [(1, .int (x1 + 1)), (0, .ref r.2.1)]) hx hb dX0_findWanted_17 hl (k := 1) rfl rfl (by decide) rfl (fun ls hl => ?_)
      refine lv_goto (tgt := 2) hx hb dX0_findWanted_20 (by decide) ?_
      exact ih _ _ hf _ _ _ hM (lv_sub hl [1, 0] rfl)
theorem c_X0_findWanted (l : Launch) (r : GR) (A : Nat → Prop) (σ : GS) (P : GS → Prop) (hf : f_X0_findWanted r σ P) : gMet dX l yX0_findWanted cX0_findWanted 4 none 206 8142 0 0 r A σ [.ref r.2.1] (zV P) := by
  refine g_enter (lv := [(0, .ref r.2.1)]) (by decide) (Nat.le_of_ble_eq_true rfl) rfl ?_
  intro p e s m below meth c ls K hr hM hl hi
  obtain ⟨hx, hb, hml, hown, hts, hlk, hKK, hA⟩ := id K
  unfold f_X0_findWanted at hf
  refine lv_iconst (v := 0) hx hb dX0_findWanted_0 rfl ?_
  refine lv_istore_n (lv' := [(1, .int (0 : Int32)), (0, .ref r.2.1)]) hx hb dX0_findWanted_1 rfl hl (by decide) rfl (fun ls hl => ?_)
  obtain ⟨n_, hf⟩ := hf
  exact w_X0_findWanted_2 K hr n_ _ _ hf _ _ _ hM (lv_sub hl [1, 0] rfl)
theorem w_X0_wanted_35 {p : Program} {l : Launch} {e : Env} {s : State} {m : MethodId} {args : Array Value} {below : List Frame} {meth : Method} {c : Code} {r : GR} {A : Nat → Prop} {P : GS → Int32 → Prop} (K : gC p s m args meth c cX0_wanted 3 RX0 r A) (hr : meth.sig.returnType = (some .int)) : ∀ (σ : GS) (x1 : Int32) (x2 : Int32), f_X0_wanted_35 r P σ x1 x2 → gW dX p l e (gRm 207 8165 0 0) s m args below meth c r A (zI P) 0 0 3 35 [(0, .ref r.2.1), (1, .int x1), (2, .int x2)] [] 0 0 σ := by
  obtain ⟨hx, hb, hml, hown, hts, hlk, hKK, hA⟩ := id K
  intro σ x1 x2 hf H locs ls hM hl
  unfold f_X0_wanted_35 at hf
  refine lv_aload_n hx hb dX0_wanted_35 rfl (lv_at hl 0 rfl) ?_
  refine g_runv (rV [] [] K kX hM hl (c_X0_findWanted l r A _ _ hf) q845 q847 qs26 q82 q848 hdX0_findWanted ⟨Nat.le_of_ble_eq_true rfl, Nat.le_of_ble_eq_true rfl⟩ ⟨Nat.le_refl _, Nat.le_refl _⟩ rfl (Nat.le_of_ble_eq_true rfl) dX0_wanted_36) hM (fun σ1 H locs hf hM => ?_)
  refine lv_iload_n hx hb dX0_wanted_39 rfl (lv_at hl 1 rfl) ?_
  refine lv_if_ge (tgt := 50) hx hb dX0_wanted_40 (by decide) (fun b3 => ?_) (fun b3 => ?_)
  · replace hf := hf.1 b3
    refine lv_iload_n hx hb dX0_wanted_50 rfl (lv_at hl 2 rfl) ?_
    refine lv_if_ne (tgt := 63) hx hb dX0_wanted_51 (by decide) (fun b4 => ?_) (fun b4 => ?_)
    · replace hf := hf.2 b4
      refine lv_aload_n hx hb dX0_wanted_63 rfl (lv_at hl 0 rfl) ?_
      refine lv_iload_n hx hb dX0_wanted_64 rfl (lv_at hl 1 rfl) ?_
      refine g_runi (rV [.int x1] [] K kX hM hl (c_X0_over l r A _ _ _ hf) q853 q855 qs28 q82 q856 hdX0_over ⟨Nat.le_of_ble_eq_true rfl, Nat.le_of_ble_eq_true rfl⟩ ⟨Nat.le_refl _, Nat.le_refl _⟩ rfl (Nat.le_of_ble_eq_true rfl) dX0_wanted_65) hM (fun σ5 v6 H locs hf hM => ?_)
      exact g_reti K hr hM ⟨Nat.le_refl _, Nat.le_refl _⟩ hf dX0_wanted_68
    · replace hf := hf.1 b4
      refine lv_aload_n hx hb dX0_wanted_54 rfl (lv_at hl 0 rfl) ?_
      refine g_geta K kX hM 16 rfl q179 rfl dX0_wanted_55 rfl ?_
      refine lv_iload_n hx hb dX0_wanted_58 rfl (lv_at hl 1 rfl) ?_
      obtain ⟨g7, hf⟩ := hf
      refine g_iald K hM 16 rfl rfl rfl g7 dX0_wanted_59 ?_
      refine lv_goto (tgt := 68) hx hb dX0_wanted_60 (by decide) ?_
      exact g_reti K hr hM ⟨Nat.le_refl _, Nat.le_refl _⟩ hf dX0_wanted_68
  · replace hf := hf.2 b3
    refine lv_aload_n hx hb dX0_wanted_43 rfl (lv_at hl 0 rfl) ?_
    refine g_runi (rV [] [] K kX hM hl (c_X0_both l r A _ _ hf) q849 q851 qs27 q82 q852 hdX0_both ⟨Nat.le_of_ble_eq_true rfl, Nat.le_of_ble_eq_true rfl⟩ ⟨Nat.le_refl _, Nat.le_refl _⟩ rfl (Nat.le_of_ble_eq_true rfl) dX0_wanted_44) hM (fun σ8 v9 H locs hf hM => ?_)
    refine lv_goto (tgt := 68) hx hb dX0_wanted_47 (by decide) ?_
    exact g_reti K hr hM ⟨Nat.le_refl _, Nat.le_refl _⟩ hf dX0_wanted_68
theorem w_X0_wanted_13 {p : Program} {l : Launch} {e : Env} {s : State} {m : MethodId} {args : Array Value} {below : List Frame} {meth : Method} {c : Code} {r : GR} {A : Nat → Prop} {P : GS → Int32 → Prop} (K : gC p s m args meth c cX0_wanted 3 RX0 r A) (hr : meth.sig.returnType = (some .int)) : ∀ (σ : GS) (x1 : Int32) (x2 : Int32), f_X0_wanted_13 r P σ x1 x2 → gW dX p l e (gRm 207 8165 0 0) s m args below meth c r A (zI P) 0 0 3 13 [(0, .ref r.2.1), (1, .int x1), (2, .int x2)] [] 0 0 σ := by
  obtain ⟨hx, hb, hml, hown, hts, hlk, hKK, hA⟩ := id K
  intro σ x1 x2 hf H locs ls hM hl
  unfold f_X0_wanted_13 at hf
  refine lv_iload_n hx hb dX0_wanted_13 rfl (lv_at hl 2 rfl) ?_
  refine lv_iconst (v := 0) hx hb dX0_wanted_14 rfl ?_
  refine lv_iconst (v := 1) hx hb dX0_wanted_15 rfl ?_
  refine g_runi (rS [.int x2, .int (0 : Int32), .int (1 : Int32)] [] K hM hl (c_X0_in l r A _ _ _ _ _ hf) q261 q262 q82 q263 hdX0_in ⟨Nat.le_of_ble_eq_true rfl, Nat.le_of_ble_eq_true rfl⟩ ⟨Nat.le_refl _, Nat.le_refl _⟩ rfl (Nat.le_of_ble_eq_true rfl) dX0_wanted_16) hM (fun σ1 v2 H locs hf hM => ?_)
  refine lv_if_eq (tgt := 31) hx hb dX0_wanted_19 (by decide) (fun b3 => ?_) (fun b3 => ?_)
  · replace hf := hf.1 b3
    refine lv_ldcw hx hb hown (hts _ q844) dX0_wanted_31 ?_
    exact g_reti K hr hM ⟨Nat.le_refl _, Nat.le_refl _⟩ hf dX0_wanted_34
  · replace hf := hf.2 b3
    refine lv_iload_n hx hb dX0_wanted_22 rfl (lv_at hl 1 rfl) ?_
    refine lv_iconst (v := -1) hx hb dX0_wanted_23 rfl ?_
    refine lv_icmp_ne (tgt := 35) hx hb dX0_wanted_24 (by decide) (fun b4 => ?_) (fun b4 => ?_)
    · replace hf := hf.2 b4
      exact w_X0_wanted_35 K hr _ _ _ hf _ _ _ hM (lv_sub hl [0, 1, 2] rfl)
    · replace hf := hf.1 b4
      refine lv_iload_n hx hb dX0_wanted_27 rfl (lv_at hl 2 rfl) ?_
      refine lv_if_ne (tgt := 35) hx hb dX0_wanted_28 (by decide) (fun b5 => ?_) (fun b5 => ?_)
      · replace hf := hf.2 b5
        exact w_X0_wanted_35 K hr _ _ _ hf _ _ _ hM (lv_sub hl [0, 1, 2] rfl)
      · replace hf := hf.1 b5
        refine lv_ldcw hx hb hown (hts _ q844) dX0_wanted_31 ?_
        exact g_reti K hr hM ⟨Nat.le_refl _, Nat.le_refl _⟩ hf dX0_wanted_34
theorem c_X0_wanted (l : Launch) (r : GR) (A : Nat → Prop) (σ : GS) (x1 : Int32) (x2 : Int32) (P : GS → Int32 → Prop) (hf : f_X0_wanted r σ x1 x2 P) : gMet dX l yX0_wanted cX0_wanted 3 (some .int) 207 8165 0 0 r A σ [.ref r.2.1, .int x1, .int x2] (zI P) := by
  refine g_enter (lv := [(0, .ref r.2.1), (1, .int x1), (2, .int x2)]) (by decide) (Nat.le_of_ble_eq_true rfl) rfl ?_
  intro p e s m below meth c ls K hr hM hl hi
  obtain ⟨hx, hb, hml, hown, hts, hlk, hKK, hA⟩ := id K
  unfold f_X0_wanted at hf
  refine lv_iload_n hx hb dX0_wanted_0 rfl (lv_at hl 1 rfl) ?_
  refine lv_iconst (v := -1) hx hb dX0_wanted_1 rfl ?_
  refine lv_icmp_eq (tgt := 13) hx hb dX0_wanted_2 (by decide) (fun b1 => ?_) (fun b1 => ?_)
  · replace hf := hf.1 b1
    exact w_X0_wanted_13 K hr _ _ _ hf _ _ _ hM (lv_sub hl [0, 1, 2] rfl)
  · replace hf := hf.2 b1
    refine lv_aload_n hx hb dX0_wanted_5 rfl (lv_at hl 0 rfl) ?_
    refine lv_iload_n hx hb dX0_wanted_6 rfl (lv_at hl 1 rfl) ?_
    refine g_runi (rV [.int x1] [] K kX hM hl (c_X0_isThing l r A _ _ _ hf) q471 q473 qs3 q82 q474 hdX0_isThing ⟨Nat.le_of_ble_eq_true rfl, Nat.le_of_ble_eq_true rfl⟩ ⟨Nat.le_refl _, Nat.le_refl _⟩ rfl (Nat.le_of_ble_eq_true rfl) dX0_wanted_7) hM (fun σ2 v3 H locs hf hM => ?_)
    refine lv_if_eq (tgt := 31) hx hb dX0_wanted_10 (by decide) (fun b4 => ?_) (fun b4 => ?_)
    · replace hf := hf.1 b4
      refine lv_ldcw hx hb hown (hts _ q844) dX0_wanted_31 ?_
      exact g_reti K hr hM ⟨Nat.le_refl _, Nat.le_refl _⟩ hf dX0_wanted_34
    · replace hf := hf.2 b4
      exact w_X0_wanted_13 K hr _ _ _ hf _ _ _ hM (lv_sub hl [0, 1, 2] rfl)
theorem c_X0_led (l : Launch) (r : GR) (A : Nat → Prop) (σ : GS) (x1 : Int32) (x2 : Int32) (P : GS → Int32 → Prop) (hf : f_X0_led r σ x1 x2 P) : gMet dX l yX0_led cX0_led 3 (some .int) 206 8142 0 0 r A σ [.ref r.2.1, .int x1, .int x2] (zI P) := by
  refine g_enter (lv := [(0, .ref r.2.1), (1, .int x1), (2, .int x2)]) (by decide) (Nat.le_of_ble_eq_true rfl) rfl ?_
  intro p e s m below meth c ls K hr hM hl hi
  obtain ⟨hx, hb, hml, hown, hts, hlk, hKK, hA⟩ := id K
  unfold f_X0_led at hf
  refine lv_aload_n hx hb dX0_led_0 rfl (lv_at hl 0 rfl) ?_
  refine lv_iload_n hx hb dX0_led_1 rfl (lv_at hl 1 rfl) ?_
  refine g_runi (rV [.int x1] [] K kX hM hl (c_X0_isThing l r A _ _ _ hf) q471 q473 qs3 q82 q474 hdX0_isThing ⟨Nat.le_of_ble_eq_true rfl, Nat.le_of_ble_eq_true rfl⟩ ⟨Nat.le_refl _, Nat.le_refl _⟩ rfl (Nat.le_of_ble_eq_true rfl) dX0_led_2) hM (fun σ1 v2 H locs hf hM => ?_)
  refine lv_if_eq (tgt := 39) hx hb dX0_led_5 (by decide) (fun b3 => ?_) (fun b3 => ?_)
  · replace hf := hf.1 b3
    refine lv_iconst (v := -1) hx hb dX0_led_39 rfl ?_
    exact g_reti K hr hM ⟨Nat.le_refl _, Nat.le_refl _⟩ hf dX0_led_40
  · replace hf := hf.2 b3
    refine lv_aload_n hx hb dX0_led_8 rfl (lv_at hl 0 rfl) ?_
    refine lv_iload_n hx hb dX0_led_9 rfl (lv_at hl 2 rfl) ?_
    refine g_runi (rV [.int x2] [] K kX hM hl (c_X0_isSort l r A _ _ _ hf) q463 q465 qs2 q82 q466 hdX0_isSort ⟨Nat.le_of_ble_eq_true rfl, Nat.le_of_ble_eq_true rfl⟩ ⟨Nat.le_refl _, Nat.le_refl _⟩ rfl (Nat.le_of_ble_eq_true rfl) dX0_led_10) hM (fun σ4 v5 H locs hf hM => ?_)
    refine lv_if_eq (tgt := 39) hx hb dX0_led_13 (by decide) (fun b6 => ?_) (fun b6 => ?_)
    · replace hf := hf.1 b6
      refine lv_iconst (v := -1) hx hb dX0_led_39 rfl ?_
      exact g_reti K hr hM ⟨Nat.le_refl _, Nat.le_refl _⟩ hf dX0_led_40
    · replace hf := hf.2 b6
      refine lv_aload_n hx hb dX0_led_16 rfl (lv_at hl 0 rfl) ?_
      refine g_geta K kX hM 1 rfl q162 rfl dX0_led_17 rfl ?_
      refine lv_iload_n hx hb dX0_led_20 rfl (lv_at hl 2 rfl) ?_
      obtain ⟨g7, hf⟩ := hf
      obtain ⟨a8, h9, hf⟩ := hf
      refine g_aaldS K hM 1 rfl rfl rfl rfl g7 h9 dX0_led_21 ?_
      obtain ⟨v11, h10, hf⟩ := hf
      refine p_getN K kY5 hM 0 rfl q436 rfl dX0_led_22 h10 ?_
      refine lv_aload_n hx hb dX0_led_25 rfl (lv_at hl 0 rfl) ?_
      refine lv_aload_n hx hb dX0_led_26 rfl (lv_at hl 0 rfl) ?_
      refine lv_iload_n hx hb dX0_led_27 rfl (lv_at hl 2 rfl) ?_
      refine g_runi (rV [.int x2] [.ref r.2.1, .int v11] K kX hM hl (c_X0_bestOf l r A _ _ _ hf) q816 q818 qs20 q82 q819 hdX0_bestOf ⟨Nat.le_of_ble_eq_true rfl, Nat.le_of_ble_eq_true rfl⟩ ⟨Nat.le_refl _, Nat.le_refl _⟩ rfl (Nat.le_of_ble_eq_true rfl) dX0_led_28) hM (fun σ12 v13 H locs hf hM => ?_)
      refine lv_iload_n hx hb dX0_led_31 rfl (lv_at hl 1 rfl) ?_
      refine g_runi (rV [.int v13, .int x1] [.int v11] K kX hM hl (c_X0_inBasket l r A _ _ _ _ hf) q828 q830 qs23 q82 q831 hdX0_inBasket ⟨Nat.le_of_ble_eq_true rfl, Nat.le_of_ble_eq_true rfl⟩ ⟨Nat.le_refl _, Nat.le_refl _⟩ rfl (Nat.le_of_ble_eq_true rfl) dX0_led_32) hM (fun σ14 v15 H locs hf hM => ?_)
      refine lv_imul hx hb dX0_led_35 ?_
      refine lv_goto (tgt := 40) hx hb dX0_led_36 (by decide) ?_
      exact g_reti K hr hM ⟨Nat.le_refl _, Nat.le_refl _⟩ hf dX0_led_40
theorem w_X0_step_89 {p : Program} {l : Launch} {e : Env} {s : State} {m : MethodId} {args : Array Value} {below : List Frame} {meth : Method} {c : Code} {r : GR} {A : Nat → Prop} {P : GS → Int32 → Prop} {k4 : GS → Int32 → Int32 → Prop} (K : gC p s m args meth c cX0_step 4 RX0 r A) (hr : meth.sig.returnType = (some .boolean)) (H4 : ∀ (σ : GS) (x1 : Int32) (x2 : Int32), k4 σ x1 x2 → gW dX p l e (gRm 1 21 0 0) s m args below meth c r A (zI P) 0 0 4 4 [(0, .ref r.2.1), (1, .int x1), (2, .int x2)] [] 0 0 σ) : ∀ (σ : GS) (x2 : Int32) (t1 : Int32) (t0 : Int32), f_X0_step_89 r k4 P σ x2 t1 t0 → gW dX p l e (gRm 1 21 0 0) s m args below meth c r A (zI P) 0 0 4 89 [(0, .ref r.2.1), (2, .int x2)] [.int t1, .int t0] 0 0 σ := by
  obtain ⟨hx, hb, hml, hown, hts, hlk, hKK, hA⟩ := id K
  intro σ x2 t1 t0 hf H locs ls hM hl
  unfold f_X0_step_89 at hf
  refine lv_ior hx hb dX0_step_89 ?_
  refine lv_istore_n (lv' := [(1, .int (t0 ||| t1)), (0, .ref r.2.1), (2, .int x2)]) hx hb dX0_step_90 rfl hl (by decide) rfl (fun ls hl => ?_)
  refine lv_iinc (v := x2 + 1) (lv' := [(2, .int (x2 + 1)), (1, .int (t0 ||| t1)), (0, .ref r.2.1)]) hx hb dX0_step_91 hl (k := 2) rfl rfl (by decide) rfl (fun ls hl => ?_)
  refine lv_goto (tgt := 4) hx hb dX0_step_94 (by decide) ?_
  exact H4 _ _ _ hf _ _ _ hM (lv_sub hl [2, 1, 0] rfl)
theorem w_X0_step_63 {p : Program} {l : Launch} {e : Env} {s : State} {m : MethodId} {args : Array Value} {below : List Frame} {meth : Method} {c : Code} {r : GR} {A : Nat → Prop} {P : GS → Int32 → Prop} {k4 : GS → Int32 → Int32 → Prop} (K : gC p s m args meth c cX0_step 4 RX0 r A) (hr : meth.sig.returnType = (some .boolean)) (H4 : ∀ (σ : GS) (x1 : Int32) (x2 : Int32), k4 σ x1 x2 → gW dX p l e (gRm 1 21 0 0) s m args below meth c r A (zI P) 0 0 4 4 [(0, .ref r.2.1), (1, .int x1), (2, .int x2)] [] 0 0 σ) : ∀ (σ : GS) (x1 : Int32) (x2 : Int32) (t0 : Int32), f_X0_step_63 r k4 P σ x1 x2 t0 → gW dX p l e (gRm 1 21 0 0) s m args below meth c r A (zI P) 0 0 4 63 [(0, .ref r.2.1), (1, .int x1), (2, .int x2)] [.int t0] 0 0 σ := by
  obtain ⟨hx, hb, hml, hown, hts, hlk, hKK, hA⟩ := id K
  intro σ x1 x2 t0 hf H locs ls hM hl
  unfold f_X0_step_63 at hf
  refine lv_istore_n (lv' := [(3, .int t0), (0, .ref r.2.1), (1, .int x1), (2, .int x2)]) hx hb dX0_step_63 rfl hl (by decide) rfl (fun ls hl => ?_)
  refine lv_aload_n hx hb dX0_step_64 rfl (lv_at hl 1 rfl) ?_
  refine g_geta K kX hM 0 rfl q161 rfl dX0_step_65 rfl ?_
  refine lv_iload_n hx hb dX0_step_68 rfl (lv_at hl 3 rfl) ?_
  obtain ⟨g1, hf⟩ := hf
  obtain ⟨a2, h3, hf⟩ := hf
  refine g_aaldS K hM 0 rfl rfl rfl rfl g1 h3 dX0_step_69 ?_
  refine lv_dup hx hb dX0_step_70 rfl ?_
  obtain ⟨v5, h4, hf⟩ := hf
  refine p_getN K kY3 hM 3 rfl q276 rfl dX0_step_71 h4 ?_
  refine lv_iload_n hx hb dX0_step_74 rfl (lv_at hl 0 rfl) ?_
  refine lv_iadd hx hb dX0_step_75 ?_
  refine p_putN K kY3 nmX3 hM 3 rfl q276 rfl dX0_step_76 rfl rfl rfl hf (fun H locs σ6 hf hM => ?_)
  refine lv_iload_n hx hb dX0_step_79 rfl (lv_at hl 2 rfl) ?_
  refine lv_iload_n hx hb dX0_step_80 rfl (lv_at hl 0 rfl) ?_
  refine lv_if_eq (tgt := 88) hx hb dX0_step_81 (by decide) (fun b7 => ?_) (fun b7 => ?_)
  · replace hf := hf.1 b7
    refine lv_iconst (v := 0) hx hb dX0_step_88 rfl ?_
    exact w_X0_step_89 K hr H4 _ _ _ _ hf _ _ _ hM (lv_sub hl [1, 3] rfl)
  · replace hf := hf.2 b7
    refine lv_iconst (v := 1) hx hb dX0_step_84 rfl ?_
    refine lv_goto (tgt := 89) hx hb dX0_step_85 (by decide) ?_
    exact w_X0_step_89 K hr H4 _ _ _ _ hf _ _ _ hM (lv_sub hl [1, 3] rfl)
theorem w_X0_step_62 {p : Program} {l : Launch} {e : Env} {s : State} {m : MethodId} {args : Array Value} {below : List Frame} {meth : Method} {c : Code} {r : GR} {A : Nat → Prop} {P : GS → Int32 → Prop} {k4 : GS → Int32 → Int32 → Prop} (K : gC p s m args meth c cX0_step 4 RX0 r A) (hr : meth.sig.returnType = (some .boolean)) (H4 : ∀ (σ : GS) (x1 : Int32) (x2 : Int32), k4 σ x1 x2 → gW dX p l e (gRm 1 21 0 0) s m args below meth c r A (zI P) 0 0 4 4 [(0, .ref r.2.1), (1, .int x1), (2, .int x2)] [] 0 0 σ) : ∀ (σ : GS) (x1 : Int32) (x2 : Int32), f_X0_step_62 r k4 P σ x1 x2 → gW dX p l e (gRm 1 21 0 0) s m args below meth c r A (zI P) 0 0 4 62 [(0, .ref r.2.1), (1, .int x1), (2, .int x2)] [] 0 0 σ := by
  obtain ⟨hx, hb, hml, hown, hts, hlk, hKK, hA⟩ := id K
  intro σ x1 x2 hf H locs ls hM hl
  unfold f_X0_step_62 at hf
  refine lv_iconst (v := 0) hx hb dX0_step_62 rfl ?_
  exact w_X0_step_63 K hr H4 _ _ _ _ hf _ _ _ hM (lv_sub hl [0, 1, 2] rfl)
theorem w_X0_step_38 {p : Program} {l : Launch} {e : Env} {s : State} {m : MethodId} {args : Array Value} {below : List Frame} {meth : Method} {c : Code} {r : GR} {A : Nat → Prop} {P : GS → Int32 → Prop} {k4 : GS → Int32 → Int32 → Prop} (K : gC p s m args meth c cX0_step 4 RX0 r A) (hr : meth.sig.returnType = (some .boolean)) (H4 : ∀ (σ : GS) (x1 : Int32) (x2 : Int32), k4 σ x1 x2 → gW dX p l e (gRm 1 21 0 0) s m args below meth c r A (zI P) 0 0 4 4 [(0, .ref r.2.1), (1, .int x1), (2, .int x2)] [] 0 0 σ) : ∀ (σ : GS) (x1 : Int32) (x2 : Int32), f_X0_step_38 r k4 P σ x1 x2 → gW dX p l e (gRm 1 21 0 0) s m args below meth c r A (zI P) 0 0 4 38 [(0, .ref r.2.1), (1, .int x1), (2, .int x2)] [] 0 0 σ := by
  obtain ⟨hx, hb, hml, hown, hts, hlk, hKK, hA⟩ := id K
  intro σ x1 x2 hf H locs ls hM hl
  unfold f_X0_step_38 at hf
  refine lv_aload_n hx hb dX0_step_38 rfl (lv_at hl 0 rfl) ?_
  refine lv_iload_n hx hb dX0_step_39 rfl (lv_at hl 2 rfl) ?_
  refine g_runi (rV [.int x2] [] K kX hM hl (c_X0_over l r A _ _ _ hf) q853 q855 qs28 q82 q856 hdX0_over ⟨Nat.le_of_ble_eq_true rfl, Nat.le_of_ble_eq_true rfl⟩ ⟨Nat.le_refl _, Nat.le_refl _⟩ rfl (Nat.le_of_ble_eq_true rfl) dX0_step_40) hM (fun σ1 v2 H locs hf hM => ?_)
  refine lv_if_le (tgt := 62) hx hb dX0_step_43 (by decide) (fun b3 => ?_) (fun b3 => ?_)
  · replace hf := hf.1 b3
    exact w_X0_step_62 K hr H4 _ _ _ hf _ _ _ hM (lv_sub hl [0, 1, 2] rfl)
  · replace hf := hf.2 b3
    refine lv_aload_n hx hb dX0_step_46 rfl (lv_at hl 0 rfl) ?_
    refine g_geta K kX hM 0 rfl q161 rfl dX0_step_47 rfl ?_
    refine lv_iload_n hx hb dX0_step_50 rfl (lv_at hl 2 rfl) ?_
    obtain ⟨g4, hf⟩ := hf
    obtain ⟨a5, h6, hf⟩ := hf
    refine g_aaldS K hM 0 rfl rfl rfl rfl g4 h6 dX0_step_51 ?_
    obtain ⟨v8, h7, hf⟩ := hf
    refine p_getN K kY3 hM 3 rfl q276 rfl dX0_step_52 h7 ?_
    refine lv_if_le (tgt := 62) hx hb dX0_step_55 (by decide) (fun b9 => ?_) (fun b9 => ?_)
    · replace hf := hf.1 b9
      exact w_X0_step_62 K hr H4 _ _ _ hf _ _ _ hM (lv_sub hl [0, 1, 2] rfl)
    · replace hf := hf.2 b9
      refine lv_iconst (v := -1) hx hb dX0_step_58 rfl ?_
      refine lv_goto (tgt := 63) hx hb dX0_step_59 (by decide) ?_
      exact w_X0_step_63 K hr H4 _ _ _ _ hf _ _ _ hM (lv_sub hl [0, 1, 2] rfl)
theorem w_X0_step_4 {p : Program} {l : Launch} {e : Env} {s : State} {m : MethodId} {args : Array Value} {below : List Frame} {meth : Method} {c : Code} {r : GR} {A : Nat → Prop} {P : GS → Int32 → Prop} (K : gC p s m args meth c cX0_step 4 RX0 r A) (hr : meth.sig.returnType = (some .boolean)) : ∀ (n : Nat) (σ : GS) (x1 : Int32) (x2 : Int32), f_X0_step_4 r P n σ x1 x2 → gW dX p l e (gRm 1 21 0 0) s m args below meth c r A (zI P) 0 0 4 4 [(0, .ref r.2.1), (1, .int x1), (2, .int x2)] [] 0 0 σ := by
  obtain ⟨hx, hb, hml, hown, hts, hlk, hKK, hA⟩ := id K
  intro n
  induction n with
  | zero =>
    intro σ x1 x2 hf
    exact absurd hf (fun h => h)
  | succ n ih =>
    intro σ x1 x2 hf H locs ls hM hl
    rw [f_X0_step_4] at hf
    refine lv_iload_n hx hb dX0_step_4 rfl (lv_at hl 2 rfl) ?_
    refine lv_aload_n hx hb dX0_step_5 rfl (lv_at hl 0 rfl) ?_
    refine g_geti K kX hM 2 rfl q163 rfl dX0_step_6 rfl ?_
    refine lv_icmp_ge (tgt := 97) hx hb dX0_step_9 (by decide) (fun b1 => ?_) (fun b1 => ?_)
    · replace hf := hf.1 b1
      refine lv_iload_n hx hb dX0_step_97 rfl (lv_at hl 1 rfl) ?_
      obtain ⟨g2, hf⟩ := hf
      exact g_retz K hr hM ⟨Nat.le_refl _, Nat.le_refl _⟩ g2 hf dX0_step_98
    · replace hf := hf.2 b1
      refine lv_aload_n hx hb dX0_step_12 rfl (lv_at hl 0 rfl) ?_
      refine lv_iload_n hx hb dX0_step_13 rfl (lv_at hl 2 rfl) ?_
      refine g_runi (rV [.int x2] [] K kX hM hl (c_X0_over l r A _ _ _ hf) q853 q855 qs28 q82 q856 hdX0_over ⟨Nat.le_of_ble_eq_true rfl, Nat.le_of_ble_eq_true rfl⟩ ⟨Nat.le_refl _, Nat.le_refl _⟩ rfl (Nat.le_of_ble_eq_true rfl) dX0_step_14) hM (fun σ3 v4 H locs hf hM => ?_)
      refine lv_if_ge (tgt := 38) hx hb dX0_step_17 (by decide) (fun b5 => ?_) (fun b5 => ?_)
      · replace hf := hf.1 b5
        exact w_X0_step_38 K hr ih _ _ _ hf _ _ _ hM (lv_sub hl [0, 1, 2] rfl)
      · replace hf := hf.2 b5
        refine lv_aload_n hx hb dX0_step_20 rfl (lv_at hl 0 rfl) ?_
        refine g_geta K kX hM 0 rfl q161 rfl dX0_step_21 rfl ?_
        refine lv_iload_n hx hb dX0_step_24 rfl (lv_at hl 2 rfl) ?_
        obtain ⟨g6, hf⟩ := hf
        obtain ⟨a7, h8, hf⟩ := hf
        refine g_aaldS K hM 0 rfl rfl rfl rfl g6 h8 dX0_step_25 ?_
        obtain ⟨v10, h9, hf⟩ := hf
        refine p_getN K kY3 hM 3 rfl q276 rfl dX0_step_26 h9 ?_
        refine lv_bipush (v := 99) hx hb dX0_step_29 rfl ?_
        refine lv_icmp_ge (tgt := 38) hx hb dX0_step_31 (by decide) (fun b11 => ?_) (fun b11 => ?_)
        · replace hf := hf.1 b11
          exact w_X0_step_38 K hr ih _ _ _ hf _ _ _ hM (lv_sub hl [0, 1, 2] rfl)
        · replace hf := hf.2 b11
          refine lv_iconst (v := 1) hx hb dX0_step_34 rfl ?_
          refine lv_goto (tgt := 63) hx hb dX0_step_35 (by decide) ?_
          exact w_X0_step_63 K hr ih _ _ _ _ hf _ _ _ hM (lv_sub hl [0, 1, 2] rfl)
theorem c_X0_step (l : Launch) (r : GR) (A : Nat → Prop) (σ : GS) (P : GS → Int32 → Prop) (hf : f_X0_step r σ P) : gMet dX l yX0_step cX0_step 4 (some .boolean) 1 21 0 0 r A σ [.ref r.2.1] (zI P) := by
  refine g_enter (lv := [(0, .ref r.2.1)]) (by decide) (Nat.le_of_ble_eq_true rfl) rfl ?_
  intro p e s m below meth c ls K hr hM hl hi
  obtain ⟨hx, hb, hml, hown, hts, hlk, hKK, hA⟩ := id K
  unfold f_X0_step at hf
  refine lv_iconst (v := 0) hx hb dX0_step_0 rfl ?_
  refine lv_istore_n (lv' := [(1, .int (0 : Int32)), (0, .ref r.2.1)]) hx hb dX0_step_1 rfl hl (by decide) rfl (fun ls hl => ?_)
  refine lv_iconst (v := 0) hx hb dX0_step_2 rfl ?_
  refine lv_istore_n (lv' := [(2, .int (0 : Int32)), (1, .int (0 : Int32)), (0, .ref r.2.1)]) hx hb dX0_step_3 rfl hl (by decide) rfl (fun ls hl => ?_)
  obtain ⟨n_, hf⟩ := hf
  exact w_X0_step_4 K hr n_ _ _ _ hf _ _ _ hM (lv_sub hl [2, 1, 0] rfl)
theorem w_X0_takePoints_18_2 {p : Program} {l : Launch} {e : Env} {s : State} {m : MethodId} {args : Array Value} {below : List Frame} {meth : Method} {c : Code} {r : GR} {A : Nat → Prop} {P : GS → Prop} (K : gC p s m args meth c cX0_takePoints 3 RX0 r A) (hr : meth.sig.returnType = none) : ∀ (n : Nat) (σ : GS) (x2 : Int32), f_X0_takePoints_18_2 r P n σ x2 → gW dX p l e (gRm 0 0 0 0) s m args below meth c r A (zV P) 0 0 3 2 [(0, .ref r.2.1), (1, .ref (r.2.2.1 18)), (2, .int x2)] [] 0 0 σ := by
  obtain ⟨hx, hb, hml, hown, hts, hlk, hKK, hA⟩ := id K
  intro n
  induction n with
  | zero =>
    intro σ x2 hf
    exact absurd hf (fun h => h)
  | succ n ih =>
    intro σ x2 hf H locs ls hM hl
    rw [f_X0_takePoints_18_2] at hf
    refine lv_iload_n hx hb dX0_takePoints_2 rfl (lv_at hl 2 rfl) ?_
    refine lv_aload_n hx hb dX0_takePoints_3 rfl (lv_at hl 0 rfl) ?_
    refine g_geti K kX hM 2 rfl q163 rfl dX0_takePoints_4 rfl ?_
    refine lv_icmp_ge (tgt := 28) hx hb dX0_takePoints_7 (by decide) (fun b1 => ?_) (fun b1 => ?_)
    · replace hf := hf.1 b1
      exact g_retv K hr hM ⟨Nat.le_refl _, Nat.le_refl _⟩ hf dX0_takePoints_28
    · replace hf := hf.2 b1
      refine lv_aload_n hx hb dX0_takePoints_10 rfl (lv_at hl 1 rfl) ?_
      refine lv_iload_n hx hb dX0_takePoints_11 rfl (lv_at hl 2 rfl) ?_
      refine lv_aload_n hx hb dX0_takePoints_12 rfl (lv_at hl 0 rfl) ?_
      refine g_geta K kX hM 0 rfl q161 rfl dX0_takePoints_13 rfl ?_
      refine lv_iload_n hx hb dX0_takePoints_16 rfl (lv_at hl 2 rfl) ?_
      obtain ⟨g2, hf⟩ := hf
      obtain ⟨a3, h4, hf⟩ := hf
      refine g_aaldS K hM 0 rfl rfl rfl rfl g2 h4 dX0_takePoints_17 ?_
      obtain ⟨v6, h5, hf⟩ := hf
      refine p_getN K kY3 hM 3 rfl q276 rfl dX0_takePoints_18 h5 ?_
      obtain ⟨g7, hf⟩ := hf
      refine g_iastN K hM 18 rfl rfl rfl g7 dX0_takePoints_21 (fun H locs σ8 hσ8 hM => ?_)
      have hf := hf σ8 hσ8
      refine lv_iinc (v := x2 + 1) (lv' := [(2, .int (x2 + 1)), (0, .ref r.2.1), (1, .ref (r.2.2.1 18))]) hx hb dX0_takePoints_22 hl (k := 2) rfl rfl (by decide) rfl (fun ls hl => ?_)
      refine lv_goto (tgt := 2) hx hb dX0_takePoints_25 (by decide) ?_
      exact ih _ _ hf _ _ _ hM (lv_sub hl [1, 2, 0] rfl)
theorem c_X0_takePoints_18 (l : Launch) (r : GR) (A : Nat → Prop) (σ : GS) (P : GS → Prop) (hf : f_X0_takePoints_18 r σ P) : gMet dX l yX0_takePoints cX0_takePoints 3 none 0 0 0 0 r A σ [.ref r.2.1, .ref (r.2.2.1 18)] (zV P) := by
  refine g_enter (lv := [(0, .ref r.2.1), (1, .ref (r.2.2.1 18))]) (by decide) (Nat.le_of_ble_eq_true rfl) rfl ?_
  intro p e s m below meth c ls K hr hM hl hi
  obtain ⟨hx, hb, hml, hown, hts, hlk, hKK, hA⟩ := id K
  unfold f_X0_takePoints_18 at hf
  refine lv_iconst (v := 0) hx hb dX0_takePoints_0 rfl ?_
  refine lv_istore_n (lv' := [(2, .int (0 : Int32)), (0, .ref r.2.1), (1, .ref (r.2.2.1 18))]) hx hb dX0_takePoints_1 rfl hl (by decide) rfl (fun ls hl => ?_)
  obtain ⟨n_, hf⟩ := hf
  exact w_X0_takePoints_18_2 K hr n_ _ _ hf _ _ _ hM (lv_sub hl [1, 2, 0] rfl)
theorem w_X0_takePoints_19_2 {p : Program} {l : Launch} {e : Env} {s : State} {m : MethodId} {args : Array Value} {below : List Frame} {meth : Method} {c : Code} {r : GR} {A : Nat → Prop} {P : GS → Prop} (K : gC p s m args meth c cX0_takePoints 3 RX0 r A) (hr : meth.sig.returnType = none) : ∀ (n : Nat) (σ : GS) (x2 : Int32), f_X0_takePoints_19_2 r P n σ x2 → gW dX p l e (gRm 0 0 0 0) s m args below meth c r A (zV P) 0 0 3 2 [(0, .ref r.2.1), (1, .ref (r.2.2.1 19)), (2, .int x2)] [] 0 0 σ := by
  obtain ⟨hx, hb, hml, hown, hts, hlk, hKK, hA⟩ := id K
  intro n
  induction n with
  | zero =>
    intro σ x2 hf
    exact absurd hf (fun h => h)
  | succ n ih =>
    intro σ x2 hf H locs ls hM hl
    rw [f_X0_takePoints_19_2] at hf
    refine lv_iload_n hx hb dX0_takePoints_2 rfl (lv_at hl 2 rfl) ?_
    refine lv_aload_n hx hb dX0_takePoints_3 rfl (lv_at hl 0 rfl) ?_
    refine g_geti K kX hM 2 rfl q163 rfl dX0_takePoints_4 rfl ?_
    refine lv_icmp_ge (tgt := 28) hx hb dX0_takePoints_7 (by decide) (fun b1 => ?_) (fun b1 => ?_)
    · replace hf := hf.1 b1
      exact g_retv K hr hM ⟨Nat.le_refl _, Nat.le_refl _⟩ hf dX0_takePoints_28
    · replace hf := hf.2 b1
      refine lv_aload_n hx hb dX0_takePoints_10 rfl (lv_at hl 1 rfl) ?_
      refine lv_iload_n hx hb dX0_takePoints_11 rfl (lv_at hl 2 rfl) ?_
      refine lv_aload_n hx hb dX0_takePoints_12 rfl (lv_at hl 0 rfl) ?_
      refine g_geta K kX hM 0 rfl q161 rfl dX0_takePoints_13 rfl ?_
      refine lv_iload_n hx hb dX0_takePoints_16 rfl (lv_at hl 2 rfl) ?_
      obtain ⟨g2, hf⟩ := hf
      obtain ⟨a3, h4, hf⟩ := hf
      refine g_aaldS K hM 0 rfl rfl rfl rfl g2 h4 dX0_takePoints_17 ?_
      obtain ⟨v6, h5, hf⟩ := hf
      refine p_getN K kY3 hM 3 rfl q276 rfl dX0_takePoints_18 h5 ?_
      obtain ⟨g7, hf⟩ := hf
      refine g_iastN K hM 19 rfl rfl rfl g7 dX0_takePoints_21 (fun H locs σ8 hσ8 hM => ?_)
      have hf := hf σ8 hσ8
      refine lv_iinc (v := x2 + 1) (lv' := [(2, .int (x2 + 1)), (0, .ref r.2.1), (1, .ref (r.2.2.1 19))]) hx hb dX0_takePoints_22 hl (k := 2) rfl rfl (by decide) rfl (fun ls hl => ?_)
      refine lv_goto (tgt := 2) hx hb dX0_takePoints_25 (by decide) ?_
      exact ih _ _ hf _ _ _ hM (lv_sub hl [1, 2, 0] rfl)
theorem c_X0_takePoints_19 (l : Launch) (r : GR) (A : Nat → Prop) (σ : GS) (P : GS → Prop) (hf : f_X0_takePoints_19 r σ P) : gMet dX l yX0_takePoints cX0_takePoints 3 none 0 0 0 0 r A σ [.ref r.2.1, .ref (r.2.2.1 19)] (zV P) := by
  refine g_enter (lv := [(0, .ref r.2.1), (1, .ref (r.2.2.1 19))]) (by decide) (Nat.le_of_ble_eq_true rfl) rfl ?_
  intro p e s m below meth c ls K hr hM hl hi
  obtain ⟨hx, hb, hml, hown, hts, hlk, hKK, hA⟩ := id K
  unfold f_X0_takePoints_19 at hf
  refine lv_iconst (v := 0) hx hb dX0_takePoints_0 rfl ?_
  refine lv_istore_n (lv' := [(2, .int (0 : Int32)), (0, .ref r.2.1), (1, .ref (r.2.2.1 19))]) hx hb dX0_takePoints_1 rfl hl (by decide) rfl (fun ls hl => ?_)
  obtain ⟨n_, hf⟩ := hf
  exact w_X0_takePoints_19_2 K hr n_ _ _ hf _ _ _ hM (lv_sub hl [1, 2, 0] rfl)
theorem w_X0_goRounds_143 {p : Program} {l : Launch} {e : Env} {s : State} {m : MethodId} {args : Array Value} {below : List Frame} {meth : Method} {c : Code} {r : GR} {A : Nat → Prop} {P : GS → Prop} (K : gC p s m args meth c cX0_goRounds 3 RX0 r A) (hr : meth.sig.returnType = none) : ∀ (n : Nat) (σ : GS) (x2 : Int32), f_X0_goRounds_143 r P n σ x2 → gW dX p l e (gRm 207 8165 0 0) s m args below meth c r A (zV P) 0 0 3 143 [(0, .ref r.2.1), (2, .int x2)] [] 0 0 σ := by
  obtain ⟨hx, hb, hml, hown, hts, hlk, hKK, hA⟩ := id K
  intro n
  induction n with
  | zero =>
    intro σ x2 hf
    exact absurd hf (fun h => h)
  | succ n ih =>
    intro σ x2 hf H locs ls hM hl
    rw [f_X0_goRounds_143] at hf
    refine lv_iload_n hx hb dX0_goRounds_143 rfl (lv_at hl 1 rfl) ?_
    refine lv_aload_n hx hb dX0_goRounds_144 rfl (lv_at hl 0 rfl) ?_
    refine g_geti K kX hM 2 rfl q163 rfl dX0_goRounds_145 rfl ?_
    refine lv_icmp_ge (tgt := 172) hx hb dX0_goRounds_148 (by decide) (fun b1 => ?_) (fun b1 => ?_)
    · replace hf := hf.1 b1
      exact g_retv K hr hM ⟨Nat.le_refl _, Nat.le_refl _⟩ hf dX0_goRounds_172
    · replace hf := hf.2 b1
      refine lv_aload_n hx hb dX0_goRounds_151 rfl (lv_at hl 0 rfl) ?_
      refine g_geta K kX hM 0 rfl q161 rfl dX0_goRounds_152 rfl ?_
      refine lv_iload_n hx hb dX0_goRounds_155 rfl (lv_at hl 1 rfl) ?_
      obtain ⟨g2, hf⟩ := hf
      obtain ⟨a3, h4, hf⟩ := hf
      refine g_aaldS K hM 0 rfl rfl rfl rfl g2 h4 dX0_goRounds_156 ?_
      refine lv_aload_n hx hb dX0_goRounds_157 rfl (lv_at hl 0 rfl) ?_
      refine g_geta K kX hM 17 rfl q180 rfl dX0_goRounds_158 rfl ?_
      refine lv_iload_n hx hb dX0_goRounds_161 rfl (lv_at hl 1 rfl) ?_
      obtain ⟨g5, hf⟩ := hf
      refine g_iald K hM 17 rfl rfl rfl g5 dX0_goRounds_162 ?_
      refine p_putN K kY3 nmX3 hM 3 rfl q276 rfl dX0_goRounds_163 rfl rfl rfl hf (fun H locs σ6 hf hM => ?_)
      refine lv_iinc (v := x2 + 1) (lv' := [(2, .int (x2 + 1)), (0, .ref r.2.1)]) hx hb dX0_goRounds_166 hl (k := 1) rfl rfl (by decide) rfl (fun ls hl => ?_)
      refine lv_goto (tgt := 143) hx hb dX0_goRounds_169 (by decide) ?_
      exact ih _ _ hf _ _ _ hM (lv_sub hl [1, 0] rfl)
theorem w_X0_goRounds_125 {p : Program} {l : Launch} {e : Env} {s : State} {m : MethodId} {args : Array Value} {below : List Frame} {meth : Method} {c : Code} {r : GR} {A : Nat → Prop} {P : GS → Prop} (K : gC p s m args meth c cX0_goRounds 3 RX0 r A) (hr : meth.sig.returnType = none) : ∀ (σ : GS), f_X0_goRounds_125 r P σ → gW dX p l e (gRm 207 8165 0 0) s m args below meth c r A (zV P) 0 0 3 125 [(0, .ref r.2.1)] [] 0 0 σ := by
  obtain ⟨hx, hb, hml, hown, hts, hlk, hKK, hA⟩ := id K
  intro σ hf H locs ls hM hl
  unfold f_X0_goRounds_125 at hf
  refine lv_aload_n hx hb dX0_goRounds_125 rfl (lv_at hl 0 rfl) ?_
  refine lv_aload_n hx hb dX0_goRounds_126 rfl (lv_at hl 0 rfl) ?_
  refine g_runi (rV [] [.ref r.2.1] K kX hM hl (c_X0_both l r A _ _ hf) q849 q851 qs27 q82 q852 hdX0_both ⟨Nat.le_of_ble_eq_true rfl, Nat.le_of_ble_eq_true rfl⟩ ⟨Nat.le_refl _, Nat.le_refl _⟩ rfl (Nat.le_of_ble_eq_true rfl) dX0_goRounds_127) hM (fun σ1 v2 H locs hf hM => ?_)
  refine g_putiN K kX hM 21 rfl q184 rfl dX0_goRounds_130 rfl rfl rfl (fun H locs σ3 hσ3 hM => ?_)
  have hf := hf σ3 hσ3
  refine lv_aload_n hx hb dX0_goRounds_133 rfl (lv_at hl 0 rfl) ?_
  refine lv_aload_n hx hb dX0_goRounds_134 rfl (lv_at hl 0 rfl) ?_
  refine g_geta K kX hM 19 rfl q182 rfl dX0_goRounds_135 rfl ?_
  refine g_runv (rV [.ref (r.2.2.1 19)] [] K kX hM hl (c_X0_takePoints_19 l r A _ _ hf) q872 q874 qs30 q82 q875 hdX0_takePoints ⟨Nat.le_of_ble_eq_true rfl, Nat.le_of_ble_eq_true rfl⟩ ⟨Nat.le_refl _, Nat.le_refl _⟩ rfl (Nat.le_of_ble_eq_true rfl) dX0_goRounds_138) hM (fun σ4 H locs hf hM => ?_)
  refine lv_iconst (v := 0) hx hb dX0_goRounds_141 rfl ?_
  refine lv_istore_n (lv' := [(2, .int (0 : Int32)), (0, .ref r.2.1)]) hx hb dX0_goRounds_142 rfl hl (by decide) rfl (fun ls hl => ?_)
  obtain ⟨n_, hf⟩ := hf
  exact w_X0_goRounds_143 K hr n_ _ _ hf _ _ _ hM (lv_sub hl [1, 0] rfl)
theorem w_X0_goRounds_119 {p : Program} {l : Launch} {e : Env} {s : State} {m : MethodId} {args : Array Value} {below : List Frame} {meth : Method} {c : Code} {r : GR} {A : Nat → Prop} {P : GS → Prop} {k63 : GS → Int32 → Int32 → Prop} (K : gC p s m args meth c cX0_goRounds 3 RX0 r A) (hr : meth.sig.returnType = none) (H63 : ∀ (σ : GS) (x1 : Int32) (x2 : Int32), k63 σ x1 x2 → gW dX p l e (gRm 207 8165 0 0) s m args below meth c r A (zV P) 0 0 3 63 [(0, .ref r.2.1), (1, .int x1), (2, .int x2)] [] 0 0 σ) : ∀ (σ : GS) (x1 : Int32) (x2 : Int32), f_X0_goRounds_119 r k63 P σ x1 x2 → gW dX p l e (gRm 207 8165 0 0) s m args below meth c r A (zV P) 0 0 3 119 [(0, .ref r.2.1), (1, .int x1), (2, .int x2)] [] 0 0 σ := by
  obtain ⟨hx, hb, hml, hown, hts, hlk, hKK, hA⟩ := id K
  intro σ x1 x2 hf H locs ls hM hl
  unfold f_X0_goRounds_119 at hf
  refine lv_iinc (v := x2 + 1) (lv' := [(2, .int (x2 + 1)), (0, .ref r.2.1), (1, .int x1)]) hx hb dX0_goRounds_119 hl (k := 2) rfl rfl (by decide) rfl (fun ls hl => ?_)
  refine lv_goto (tgt := 63) hx hb dX0_goRounds_122 (by decide) ?_
  exact H63 _ _ _ hf _ _ _ hM (lv_sub hl [1, 2, 0] rfl)
theorem w_X0_goRounds_63 {p : Program} {l : Launch} {e : Env} {s : State} {m : MethodId} {args : Array Value} {below : List Frame} {meth : Method} {c : Code} {r : GR} {A : Nat → Prop} {P : GS → Prop} (K : gC p s m args meth c cX0_goRounds 3 RX0 r A) (hr : meth.sig.returnType = none) : ∀ (n : Nat) (σ : GS) (x1 : Int32) (x2 : Int32), f_X0_goRounds_63 r P n σ x1 x2 → gW dX p l e (gRm 207 8165 0 0) s m args below meth c r A (zV P) 0 0 3 63 [(0, .ref r.2.1), (1, .int x1), (2, .int x2)] [] 0 0 σ := by
  obtain ⟨hx, hb, hml, hown, hts, hlk, hKK, hA⟩ := id K
  intro n
  induction n with
  | zero =>
    intro σ x1 x2 hf
    exact absurd hf (fun h => h)
  | succ n ih =>
    intro σ x1 x2 hf H locs ls hM hl
    rw [f_X0_goRounds_63] at hf
    refine lv_iload_n hx hb dX0_goRounds_63 rfl (lv_at hl 2 rfl) ?_
    refine lv_iload_n hx hb dX0_goRounds_64 rfl (lv_at hl 1 rfl) ?_
    refine lv_icmp_gt (tgt := 125) hx hb dX0_goRounds_65 (by decide) (fun b1 => ?_) (fun b1 => ?_)
    · replace hf := hf.1 b1
      exact w_X0_goRounds_125 K hr _ hf _ _ _ hM (lv_sub hl [0] rfl)
    · replace hf := hf.2 b1
      refine lv_aload_n hx hb dX0_goRounds_68 rfl (lv_at hl 0 rfl) ?_
      refine g_runi (rV [] [] K kX hM hl (c_X0_step l r A _ _ hf) q876 q878 qs31 q82 q879 hdX0_step ⟨Nat.le_of_ble_eq_true rfl, Nat.le_of_ble_eq_true rfl⟩ ⟨Nat.le_refl _, Nat.le_refl _⟩ rfl (Nat.le_of_ble_eq_true rfl) dX0_goRounds_69) hM (fun σ2 v3 H locs hf hM => ?_)
      refine lv_if_eq (tgt := 125) hx hb dX0_goRounds_72 (by decide) (fun b4 => ?_) (fun b4 => ?_)
      · replace hf := hf.1 b4
        exact w_X0_goRounds_125 K hr _ hf _ _ _ hM (lv_sub hl [0] rfl)
      · replace hf := hf.2 b4
        refine lv_aload_n hx hb dX0_goRounds_75 rfl (lv_at hl 0 rfl) ?_
        refine lv_iload_n hx hb dX0_goRounds_76 rfl (lv_at hl 2 rfl) ?_
        refine g_putiN K kX hM 20 rfl q183 rfl dX0_goRounds_77 rfl rfl rfl (fun H locs σ5 hσ5 hM => ?_)
        have hf := hf σ5 hσ5
        refine lv_aload_n hx hb dX0_goRounds_80 rfl (lv_at hl 0 rfl) ?_
        refine g_runv (rV [] [] K kX hM hl (c_X0_findWanted l r A _ _ hf) q845 q847 qs26 q82 q848 hdX0_findWanted ⟨Nat.le_of_ble_eq_true rfl, Nat.le_of_ble_eq_true rfl⟩ ⟨Nat.le_refl _, Nat.le_refl _⟩ rfl (Nat.le_of_ble_eq_true rfl) dX0_goRounds_81) hM (fun σ6 H locs hf hM => ?_)
        refine lv_aload_n hx hb dX0_goRounds_84 rfl (lv_at hl 0 rfl) ?_
        refine g_runi (rV [] [] K kX hM hl (c_X0_both l r A _ _ hf) q849 q851 qs27 q82 q852 hdX0_both ⟨Nat.le_of_ble_eq_true rfl, Nat.le_of_ble_eq_true rfl⟩ ⟨Nat.le_refl _, Nat.le_refl _⟩ rfl (Nat.le_of_ble_eq_true rfl) dX0_goRounds_85) hM (fun σ8 v9 H locs hf hM => ?_)
        refine lv_aload_n hx hb dX0_goRounds_88 rfl (lv_at hl 0 rfl) ?_
        refine g_geti K kX hM 22 rfl q185 rfl dX0_goRounds_89 rfl ?_
        refine lv_icmp_lt (tgt := 98) hx hb dX0_goRounds_92 (by decide) (fun b10 => ?_) (fun b10 => ?_)
        · replace hf := hf.1 b10
          refine lv_aload_n hx hb dX0_goRounds_98 rfl (lv_at hl 0 rfl) ?_
          refine lv_aload_n hx hb dX0_goRounds_99 rfl (lv_at hl 0 rfl) ?_
          refine g_runi (rV [] [.ref r.2.1] K kX hM hl (c_X0_both l r A _ _ hf) q849 q851 qs27 q82 q852 hdX0_both ⟨Nat.le_of_ble_eq_true rfl, Nat.le_of_ble_eq_true rfl⟩ ⟨Nat.le_refl _, Nat.le_refl _⟩ rfl (Nat.le_of_ble_eq_true rfl) dX0_goRounds_100) hM (fun σ11 v12 H locs hf hM => ?_)
          refine g_putiN K kX hM 22 rfl q185 rfl dX0_goRounds_103 rfl rfl rfl (fun H locs σ13 hσ13 hM => ?_)
          have hf := hf σ13 hσ13
          refine lv_aload_n hx hb dX0_goRounds_106 rfl (lv_at hl 0 rfl) ?_
          refine lv_iload_n hx hb dX0_goRounds_107 rfl (lv_at hl 2 rfl) ?_
          refine g_putiN K kX hM 23 rfl q186 rfl dX0_goRounds_108 rfl rfl rfl (fun H locs σ14 hσ14 hM => ?_)
          have hf := hf σ14 hσ14
          refine lv_aload_n hx hb dX0_goRounds_111 rfl (lv_at hl 0 rfl) ?_
          refine lv_aload_n hx hb dX0_goRounds_112 rfl (lv_at hl 0 rfl) ?_
          refine g_geta K kX hM 18 rfl q181 rfl dX0_goRounds_113 rfl ?_
          refine g_runv (rV [.ref (r.2.2.1 18)] [] K kX hM hl (c_X0_takePoints_18 l r A _ _ hf) q872 q874 qs30 q82 q875 hdX0_takePoints ⟨Nat.le_of_ble_eq_true rfl, Nat.le_of_ble_eq_true rfl⟩ ⟨Nat.le_refl _, Nat.le_refl _⟩ rfl (Nat.le_of_ble_eq_true rfl) dX0_goRounds_116) hM (fun σ15 H locs hf hM => ?_)
          exact w_X0_goRounds_119 K hr ih _ _ _ hf _ _ _ hM (lv_sub hl [0, 1, 2] rfl)
        · replace hf := hf.2 b10
          refine lv_goto (tgt := 119) hx hb dX0_goRounds_95 (by decide) ?_
          exact w_X0_goRounds_119 K hr ih _ _ _ hf _ _ _ hM (lv_sub hl [0, 1, 2] rfl)
theorem w_X0_goRounds_2 {p : Program} {l : Launch} {e : Env} {s : State} {m : MethodId} {args : Array Value} {below : List Frame} {meth : Method} {c : Code} {r : GR} {A : Nat → Prop} {P : GS → Prop} (K : gC p s m args meth c cX0_goRounds 3 RX0 r A) (hr : meth.sig.returnType = none) : ∀ (n : Nat) (σ : GS) (x1 : Int32) (x2 : Int32), f_X0_goRounds_2 r P n σ x1 x2 → gW dX p l e (gRm 207 8165 0 0) s m args below meth c r A (zV P) 0 0 3 2 [(0, .ref r.2.1), (1, .int x1), (2, .int x2)] [] 0 0 σ := by
  obtain ⟨hx, hb, hml, hown, hts, hlk, hKK, hA⟩ := id K
  intro n
  induction n with
  | zero =>
    intro σ x1 x2 hf
    exact absurd hf (fun h => h)
  | succ n ih =>
    intro σ x1 x2 hf H locs ls hM hl
    rw [f_X0_goRounds_2] at hf
    refine lv_iload_n hx hb dX0_goRounds_2 rfl (lv_at hl 2 rfl) ?_
    refine lv_aload_n hx hb dX0_goRounds_3 rfl (lv_at hl 0 rfl) ?_
    refine g_geti K kX hM 2 rfl q163 rfl dX0_goRounds_4 rfl ?_
    refine lv_icmp_ge (tgt := 31) hx hb dX0_goRounds_7 (by decide) (fun b1 => ?_) (fun b1 => ?_)
    · replace hf := hf.1 b1
      refine lv_aload_n hx hb dX0_goRounds_31 rfl (lv_at hl 0 rfl) ?_
      refine g_runv (rV [] [] K kX hM hl (c_X0_findWanted l r A _ _ hf) q845 q847 qs26 q82 q848 hdX0_findWanted ⟨Nat.le_of_ble_eq_true rfl, Nat.le_of_ble_eq_true rfl⟩ ⟨Nat.le_refl _, Nat.le_refl _⟩ rfl (Nat.le_of_ble_eq_true rfl) dX0_goRounds_32) hM (fun σ2 H locs hf hM => ?_)
      refine lv_aload_n hx hb dX0_goRounds_35 rfl (lv_at hl 0 rfl) ?_
      refine lv_iconst (v := 0) hx hb dX0_goRounds_36 rfl ?_
      refine g_putiN K kX hM 20 rfl q183 rfl dX0_goRounds_37 rfl rfl rfl (fun H locs σ4 hσ4 hM => ?_)
      have hf := hf σ4 hσ4
      refine lv_aload_n hx hb dX0_goRounds_40 rfl (lv_at hl 0 rfl) ?_
      refine lv_aload_n hx hb dX0_goRounds_41 rfl (lv_at hl 0 rfl) ?_
      refine g_runi (rV [] [.ref r.2.1] K kX hM hl (c_X0_both l r A _ _ hf) q849 q851 qs27 q82 q852 hdX0_both ⟨Nat.le_of_ble_eq_true rfl, Nat.le_of_ble_eq_true rfl⟩ ⟨Nat.le_refl _, Nat.le_refl _⟩ rfl (Nat.le_of_ble_eq_true rfl) dX0_goRounds_42) hM (fun σ5 v6 H locs hf hM => ?_)
      refine g_putiN K kX hM 22 rfl q185 rfl dX0_goRounds_45 rfl rfl rfl (fun H locs σ7 hσ7 hM => ?_)
      have hf := hf σ7 hσ7
      refine lv_aload_n hx hb dX0_goRounds_48 rfl (lv_at hl 0 rfl) ?_
      refine lv_iconst (v := 0) hx hb dX0_goRounds_49 rfl ?_
      refine g_putiN K kX hM 23 rfl q186 rfl dX0_goRounds_50 rfl rfl rfl (fun H locs σ8 hσ8 hM => ?_)
      have hf := hf σ8 hσ8
      refine lv_aload_n hx hb dX0_goRounds_53 rfl (lv_at hl 0 rfl) ?_
      refine lv_aload_n hx hb dX0_goRounds_54 rfl (lv_at hl 0 rfl) ?_
      refine g_geta K kX hM 18 rfl q181 rfl dX0_goRounds_55 rfl ?_
      refine g_runv (rV [.ref (r.2.2.1 18)] [] K kX hM hl (c_X0_takePoints_18 l r A _ _ hf) q872 q874 qs30 q82 q875 hdX0_takePoints ⟨Nat.le_of_ble_eq_true rfl, Nat.le_of_ble_eq_true rfl⟩ ⟨Nat.le_refl _, Nat.le_refl _⟩ rfl (Nat.le_of_ble_eq_true rfl) dX0_goRounds_58) hM (fun σ9 H locs hf hM => ?_)
      refine lv_iconst (v := 1) hx hb dX0_goRounds_61 rfl ?_
      refine lv_istore_n (lv' := [(2, .int (1 : Int32)), (0, .ref r.2.1), (1, .int x1)]) hx hb dX0_goRounds_62 rfl hl (by decide) rfl (fun ls hl => ?_)
      obtain ⟨n_, hf⟩ := hf
      exact w_X0_goRounds_63 K hr n_ _ _ _ hf _ _ _ hM (lv_sub hl [1, 2, 0] rfl)
    · replace hf := hf.2 b1
      refine lv_aload_n hx hb dX0_goRounds_10 rfl (lv_at hl 0 rfl) ?_
      refine g_geta K kX hM 17 rfl q180 rfl dX0_goRounds_11 rfl ?_
      refine lv_iload_n hx hb dX0_goRounds_14 rfl (lv_at hl 2 rfl) ?_
      refine lv_aload_n hx hb dX0_goRounds_15 rfl (lv_at hl 0 rfl) ?_
      refine g_geta K kX hM 0 rfl q161 rfl dX0_goRounds_16 rfl ?_
      refine lv_iload_n hx hb dX0_goRounds_19 rfl (lv_at hl 2 rfl) ?_
      obtain ⟨g11, hf⟩ := hf
      obtain ⟨a12, h13, hf⟩ := hf
      refine g_aaldS K hM 0 rfl rfl rfl rfl g11 h13 dX0_goRounds_20 ?_
      obtain ⟨v15, h14, hf⟩ := hf
      refine p_getN K kY3 hM 3 rfl q276 rfl dX0_goRounds_21 h14 ?_
      obtain ⟨g16, hf⟩ := hf
      refine g_iastN K hM 17 rfl rfl rfl g16 dX0_goRounds_24 (fun H locs σ17 hσ17 hM => ?_)
      have hf := hf σ17 hσ17
      refine lv_iinc (v := x2 + 1) (lv' := [(2, .int (x2 + 1)), (0, .ref r.2.1), (1, .int x1)]) hx hb dX0_goRounds_25 hl (k := 2) rfl rfl (by decide) rfl (fun ls hl => ?_)
      refine lv_goto (tgt := 2) hx hb dX0_goRounds_28 (by decide) ?_
      exact ih _ _ _ hf _ _ _ hM (lv_sub hl [1, 2, 0] rfl)
theorem c_X0_goRounds (l : Launch) (r : GR) (A : Nat → Prop) (σ : GS) (x1 : Int32) (P : GS → Prop) (hf : f_X0_goRounds r σ x1 P) : gMet dX l yX0_goRounds cX0_goRounds 3 none 207 8165 0 0 r A σ [.ref r.2.1, .int x1] (zV P) := by
  refine g_enter (lv := [(0, .ref r.2.1), (1, .int x1)]) (by decide) (Nat.le_of_ble_eq_true rfl) rfl ?_
  intro p e s m below meth c ls K hr hM hl hi
  obtain ⟨hx, hb, hml, hown, hts, hlk, hKK, hA⟩ := id K
  unfold f_X0_goRounds at hf
  refine lv_iconst (v := 0) hx hb dX0_goRounds_0 rfl ?_
  refine lv_istore_n (lv' := [(2, .int (0 : Int32)), (0, .ref r.2.1), (1, .int x1)]) hx hb dX0_goRounds_1 rfl hl (by decide) rfl (fun ls hl => ?_)
  obtain ⟨n_, hf⟩ := hf
  exact w_X0_goRounds_2 K hr n_ _ _ _ hf _ _ _ hM (lv_sub hl [1, 2, 0] rfl)
theorem w_X0_found_30 {p : Program} {l : Launch} {e : Env} {s : State} {m : MethodId} {args : Array Value} {below : List Frame} {meth : Method} {c : Code} {r : GR} {A : Nat → Prop} {P : GS → Int32 → Prop} (K : gC p s m args meth c cX0_found 3 RX0 r A) (hr : meth.sig.returnType = (some .int)) : ∀ (σ : GS) (x1 : Int32) (x2 : Int32), f_X0_found_30 r P σ x1 x2 → gW dX p l e (gRm 208 8187 0 0) s m args below meth c r A (zI P) 0 0 3 30 [(0, .ref r.2.1), (1, .int x1), (2, .int x2)] [] 0 0 σ := by
  obtain ⟨hx, hb, hml, hown, hts, hlk, hKK, hA⟩ := id K
  intro σ x1 x2 hf H locs ls hM hl
  unfold f_X0_found_30 at hf
  refine lv_aload_n hx hb dX0_found_30 rfl (lv_at hl 0 rfl) ?_
  refine lv_iload_n hx hb dX0_found_31 rfl (lv_at hl 1 rfl) ?_
  refine g_runv (rV [.int x1] [] K kX hM hl (c_X0_goRounds l r A _ _ _ hf) q868 q870 qs29 q82 q871 hdX0_goRounds ⟨Nat.le_of_ble_eq_true rfl, Nat.le_of_ble_eq_true rfl⟩ ⟨Nat.le_refl _, Nat.le_refl _⟩ rfl (Nat.le_of_ble_eq_true rfl) dX0_found_32) hM (fun σ1 H locs hf hM => ?_)
  refine lv_iload_n hx hb dX0_found_35 rfl (lv_at hl 2 rfl) ?_
  by_cases b4_0 : x2 = (-4 : Int32)
  · replace hf := hf.1 b4_0
    refine lv_tableIn (off := 47) (tgt := 83) hx hb dX0_found_36 (by rw [b4_0]; decide) (by rw [b4_0]; decide) (by rw [b4_0]; rfl) (by decide) ?_
    refine lv_aload_n hx hb dX0_found_83 rfl (lv_at hl 0 rfl) ?_
    refine g_geti K kX hM 23 rfl q186 rfl dX0_found_84 rfl ?_
    exact g_reti K hr hM ⟨Nat.le_refl _, Nat.le_refl _⟩ hf dX0_found_87
  replace hf := hf.2 b4_0
  by_cases b4_1 : x2 = (-3 : Int32)
  · replace hf := hf.1 b4_1
    refine lv_tableIn (off := 42) (tgt := 78) hx hb dX0_found_36 (by rw [b4_1]; decide) (by rw [b4_1]; decide) (by rw [b4_1]; rfl) (by decide) ?_
    refine lv_aload_n hx hb dX0_found_78 rfl (lv_at hl 0 rfl) ?_
    refine g_geti K kX hM 22 rfl q185 rfl dX0_found_79 rfl ?_
    exact g_reti K hr hM ⟨Nat.le_refl _, Nat.le_refl _⟩ hf dX0_found_82
  replace hf := hf.2 b4_1
  by_cases b4_2 : x2 = (-2 : Int32)
  · replace hf := hf.1 b4_2
    refine lv_tableIn (off := 37) (tgt := 73) hx hb dX0_found_36 (by rw [b4_2]; decide) (by rw [b4_2]; decide) (by rw [b4_2]; rfl) (by decide) ?_
    refine lv_aload_n hx hb dX0_found_73 rfl (lv_at hl 0 rfl) ?_
    refine g_geti K kX hM 21 rfl q184 rfl dX0_found_74 rfl ?_
    exact g_reti K hr hM ⟨Nat.le_refl _, Nat.le_refl _⟩ hf dX0_found_77
  replace hf := hf.2 b4_2
  by_cases b4_3 : x2 = (-1 : Int32)
  · replace hf := hf.1 b4_3
    refine lv_tableIn (off := 32) (tgt := 68) hx hb dX0_found_36 (by rw [b4_3]; decide) (by rw [b4_3]; decide) (by rw [b4_3]; rfl) (by decide) ?_
    refine lv_aload_n hx hb dX0_found_68 rfl (lv_at hl 0 rfl) ?_
    refine g_geti K kX hM 20 rfl q183 rfl dX0_found_69 rfl ?_
    exact g_reti K hr hM ⟨Nat.le_refl _, Nat.le_refl _⟩ hf dX0_found_72
  replace hf := hf.2 b4_3
  refine lv_tableOut (tgt := 88) hx hb dX0_found_36 (by have := lv_neT (a := -4) b4_0 rfl; have := lv_neT (a := -3) b4_1 rfl; have := lv_neT (a := -2) b4_2 rfl; have := lv_neT (a := -1) b4_3 rfl; omega) (by decide) ?_
  refine lv_aload_n hx hb dX0_found_88 rfl (lv_at hl 0 rfl) ?_
  refine g_geta K kX hM 19 rfl q182 rfl dX0_found_89 rfl ?_
  refine lv_iload_n hx hb dX0_found_92 rfl (lv_at hl 2 rfl) ?_
  obtain ⟨g3, hf⟩ := hf
  refine g_iald K hM 19 rfl rfl rfl g3 dX0_found_93 ?_
  exact g_reti K hr hM ⟨Nat.le_refl _, Nat.le_refl _⟩ hf dX0_found_94
theorem c_X0_found (l : Launch) (r : GR) (A : Nat → Prop) (σ : GS) (x1 : Int32) (x2 : Int32) (P : GS → Int32 → Prop) (hf : f_X0_found r σ x1 x2 P) : gMet dX l yX0_found cX0_found 3 (some .int) 208 8187 0 0 r A σ [.ref r.2.1, .int x1, .int x2] (zI P) := by
  refine g_enter (lv := [(0, .ref r.2.1), (1, .int x1), (2, .int x2)]) (by decide) (Nat.le_of_ble_eq_true rfl) rfl ?_
  intro p e s m below meth c ls K hr hM hl hi
  obtain ⟨hx, hb, hml, hown, hts, hlk, hKK, hA⟩ := id K
  unfold f_X0_found at hf
  refine lv_iload_n hx hb dX0_found_0 rfl (lv_at hl 1 rfl) ?_
  refine lv_iconst (v := 1) hx hb dX0_found_1 rfl ?_
  refine lv_bipush (v := 60) hx hb dX0_found_2 rfl ?_
  refine g_runi (rS [.int x1, .int (1 : Int32), .int (60 : Int32)] [] K hM hl (c_X0_in l r A _ _ _ _ _ hf) q261 q262 q82 q263 hdX0_in ⟨Nat.le_of_ble_eq_true rfl, Nat.le_of_ble_eq_true rfl⟩ ⟨Nat.le_refl _, Nat.le_refl _⟩ rfl (Nat.le_of_ble_eq_true rfl) dX0_found_4) hM (fun σ1 v2 H locs hf hM => ?_)
  refine lv_if_eq (tgt := 28) hx hb dX0_found_7 (by decide) (fun b3 => ?_) (fun b3 => ?_)
  · replace hf := hf.1 b3
    refine lv_iconst (v := -1) hx hb dX0_found_28 rfl ?_
    exact g_reti K hr hM ⟨Nat.le_refl _, Nat.le_refl _⟩ hf dX0_found_29
  · replace hf := hf.2 b3
    refine lv_iload_n hx hb dX0_found_10 rfl (lv_at hl 2 rfl) ?_
    refine lv_bipush (v := -4) hx hb dX0_found_11 rfl ?_
    refine lv_icmp_lt (tgt := 28) hx hb dX0_found_13 (by decide) (fun b4 => ?_) (fun b4 => ?_)
    · replace hf := hf.1 b4
      refine lv_iconst (v := -1) hx hb dX0_found_28 rfl ?_
      exact g_reti K hr hM ⟨Nat.le_refl _, Nat.le_refl _⟩ hf dX0_found_29
    · replace hf := hf.2 b4
      refine lv_iload_n hx hb dX0_found_16 rfl (lv_at hl 2 rfl) ?_
      refine lv_if_lt (tgt := 30) hx hb dX0_found_17 (by decide) (fun b5 => ?_) (fun b5 => ?_)
      · replace hf := hf.1 b5
        exact w_X0_found_30 K hr _ _ _ hf _ _ _ hM (lv_sub hl [0, 1, 2] rfl)
      · replace hf := hf.2 b5
        refine lv_aload_n hx hb dX0_found_20 rfl (lv_at hl 0 rfl) ?_
        refine lv_iload_n hx hb dX0_found_21 rfl (lv_at hl 2 rfl) ?_
        refine g_runi (rV [.int x2] [] K kX hM hl (c_X0_isThing l r A _ _ _ hf) q471 q473 qs3 q82 q474 hdX0_isThing ⟨Nat.le_of_ble_eq_true rfl, Nat.le_of_ble_eq_true rfl⟩ ⟨Nat.le_refl _, Nat.le_refl _⟩ rfl (Nat.le_of_ble_eq_true rfl) dX0_found_22) hM (fun σ6 v7 H locs hf hM => ?_)
        refine lv_if_ne (tgt := 30) hx hb dX0_found_25 (by decide) (fun b8 => ?_) (fun b8 => ?_)
        · replace hf := hf.2 b8
          exact w_X0_found_30 K hr _ _ _ hf _ _ _ hM (lv_sub hl [0, 1, 2] rfl)
        · replace hf := hf.1 b8
          refine lv_iconst (v := -1) hx hb dX0_found_28 rfl ?_
          exact g_reti K hr hM ⟨Nat.le_refl _, Nat.le_refl _⟩ hf dX0_found_29

set_option maxRecDepth 100000
set_option maxHeartbeats 4000000
theorem c_X1_init_e (l : Launch) (r : GR) (A : Nat → Prop) (bc bs : Nat) (σ : GS) (x0 : Nat) (P : GS → Prop) (hf : f_X1_init_e r bc bs σ x0 P) : gMet dE l yX1_init cX1_init 1 none 1 24 bc bs r A σ [.ref x0] (zV P) := by
  refine g_enter (lv := [(0, .ref x0)]) (by decide) (Nat.le_of_ble_eq_true rfl) rfl ?_
  intro p e s m below meth c ls K hr hM hl hi
  obtain ⟨hx, hb, hml, hown, hts, hlk, hKK, hA⟩ := id K
  unfold f_X1_init_e at hf
  generalize hB_ : bc = B
  generalize hS_ : bs = S
  have hc : 0 + bc ≤ B ∧ 0 + bs ≤ S := ⟨bud_0 hB_, bud_0 hS_⟩
  refine lv_aload_n hx hb dX1_init_0 rfl (lv_at hl 0 rfl) ?_
  refine rO K hl q148 q133 q134 ⟨Nat.le_of_ble_eq_true rfl, Nat.le_of_ble_eq_true rfl⟩ dX1_init_1 ?_
  refine lv_aload_n hx hb dX1_init_4 rfl (lv_at hl 0 rfl) ?_
  refine lv_sipush (v := 128) hx hb dX1_init_5 rfl ?_
  obtain ⟨b3, s4, g5, g6, hf⟩ := hf
  refine p_newa (ty := .int) (a0 := (128, .inl (fun _ => 0))) (N' := 128) K hM (by rfl) q156 0 rfl (newI 128 _ rfl) (by decide +kernel) (by decide +kernel) (by decide +kernel) (bud_le hc.1 g5) (bud_le hc.2 g6) dX1_init_8 (fun H a1 σ2 ea1 hσ2 hM => ?_)
  have hf := hf a1 ea1 σ2 hσ2
  replace hc := And.intro (bud hc.1 g5) (bud hc.2 g6)
  refine p_putF K kY1 nmX1 hM 0 rfl q149 rfl dX1_init_10 rfl (hi rfl) rfl rfl rfl hf (fun H locs σ7 hf hM => ?_)
  exact g_retv K hr hM ⟨bud_ret hc.1, bud_ret hc.2⟩ hf dX1_init_13
theorem c_X0_init_e (l : Launch) (r : GR) (A : Nat → Prop) (bc bs : Nat) (σ : GS) (x0 : Nat) (P : GS → Prop) (hf : f_X0_init_e r bc bs σ x0 P) : gMet dE l yX0_init cX0_init 1 none 2 44 bc bs r A σ [.ref x0] (zV P) := by
  refine g_enter (lv := [(0, .ref x0)]) (by decide) (Nat.le_of_ble_eq_true rfl) rfl ?_
  intro p e s m below meth c ls K hr hM hl hi
  obtain ⟨hx, hb, hml, hown, hts, hlk, hKK, hA⟩ := id K
  unfold f_X0_init_e at hf
  generalize hB_ : bc = B
  generalize hS_ : bs = S
  have hc : 0 + bc ≤ B ∧ 0 + bs ≤ S := ⟨bud_0 hB_, bud_0 hS_⟩
  refine lv_aload_n hx hb dX0_init_0 rfl (lv_at hl 0 rfl) ?_
  refine rO K hl q132 q133 q134 ⟨Nat.le_of_ble_eq_true rfl, Nat.le_of_ble_eq_true rfl⟩ dX0_init_1 ?_
  refine lv_aload_n hx hb dX0_init_4 rfl (lv_at hl 0 rfl) ?_
  refine lv_bipush (v := 6) hx hb dX0_init_5 rfl ?_
  obtain ⟨b3, s4, g5, g6, hf⟩ := hf
  refine p_newq (N' := 6) K hM q135 (by decide +kernel) 5 rfl (by decide +kernel) (by decide +kernel) (by decide +kernel) (bud_le hc.1 g5) (bud_le hc.2 g6) dX0_init_7 (fun H a1 σ2 ea1 hσ2 hM => ?_)
  have hf := hf a1 ea1 σ2 hσ2
  replace hc := And.intro (bud hc.1 g5) (bud hc.2 g6)
  refine p_putF K kY0 nmX0 hM 0 rfl q161 rfl dX0_init_10 rfl (hi rfl) rfl rfl rfl hf (fun H locs σ7 hf hM => ?_)
  refine lv_aload_n hx hb dX0_init_13 rfl (lv_at hl 0 rfl) ?_
  refine lv_iconst (v := 5) hx hb dX0_init_14 rfl ?_
  obtain ⟨b10, s11, g12, g13, hf⟩ := hf
  refine p_newq (N' := 5) K hM q137 (by decide +kernel) 6 rfl (by decide +kernel) (by decide +kernel) (by decide +kernel) (bud_le hc.1 g12) (bud_le hc.2 g13) dX0_init_15 (fun H a8 σ9 ea8 hσ9 hM => ?_)
  have hf := hf a8 ea8 σ9 hσ9
  replace hc := And.intro (bud hc.1 g12) (bud hc.2 g13)
  refine p_putF K kY0 nmX0 hM 1 rfl q162 rfl dX0_init_18 rfl (hi rfl) rfl rfl rfl hf (fun H locs σ14 hf hM => ?_)
  refine lv_aload_n hx hb dX0_init_21 rfl (lv_at hl 0 rfl) ?_
  refine lv_bipush (v := 40) hx hb dX0_init_22 rfl ?_
  obtain ⟨b17, s18, g19, g20, hf⟩ := hf
  refine p_newq (N' := 40) K hM q139 (by decide +kernel) 7 rfl (by decide +kernel) (by decide +kernel) (by decide +kernel) (bud_le hc.1 g19) (bud_le hc.2 g20) dX0_init_24 (fun H a15 σ16 ea15 hσ16 hM => ?_)
  have hf := hf a15 ea15 σ16 hσ16
  replace hc := And.intro (bud hc.1 g19) (bud hc.2 g20)
  refine p_putF K kY0 nmX0 hM 4 rfl q165 rfl dX0_init_27 rfl (hi rfl) rfl rfl rfl hf (fun H locs σ21 hf hM => ?_)
  refine lv_aload_n hx hb dX0_init_30 rfl (lv_at hl 0 rfl) ?_
  refine lv_bipush (v := 120) hx hb dX0_init_31 rfl ?_
  obtain ⟨b24, s25, g26, g27, hf⟩ := hf
  refine p_newa (ty := .byte) (a0 := (120, .inl (fun _ => 0))) (N' := 120) K hM (by rfl) q155 2 rfl (newI 120 _ rfl) (by decide +kernel) (by decide +kernel) (by decide +kernel) (bud_le hc.1 g26) (bud_le hc.2 g27) dX0_init_33 (fun H a22 σ23 ea22 hσ23 hM => ?_)
  have hf := hf a22 ea22 σ23 hσ23
  replace hc := And.intro (bud hc.1 g26) (bud hc.2 g27)
  refine p_putF K kY0 nmX0 hM 7 rfl q168 rfl dX0_init_35 rfl (hi rfl) rfl rfl rfl hf (fun H locs σ28 hf hM => ?_)
  refine lv_aload_n hx hb dX0_init_38 rfl (lv_at hl 0 rfl) ?_
  refine lv_iconst (v := 4) hx hb dX0_init_39 rfl ?_
  obtain ⟨b31, s32, g33, g34, hf⟩ := hf
  refine p_newq (N' := 4) K hM q141 (by decide +kernel) 8 rfl (by decide +kernel) (by decide +kernel) (by decide +kernel) (bud_le hc.1 g33) (bud_le hc.2 g34) dX0_init_40 (fun H a29 σ30 ea29 hσ30 hM => ?_)
  have hf := hf a29 ea29 σ30 hσ30
  replace hc := And.intro (bud hc.1 g33) (bud hc.2 g34)
  refine p_putF K kY0 nmX0 hM 9 rfl q172 rfl dX0_init_43 rfl (hi rfl) rfl rfl rfl hf (fun H locs σ35 hf hM => ?_)
  refine lv_aload_n hx hb dX0_init_46 rfl (lv_at hl 0 rfl) ?_
  obtain ⟨b38, s39, g40, g41, hf⟩ := hf
  refine p_new K kY1 hM q143 q144 q83 hf0X1 (bud_le hc.1 g40) (bud_le hc.2 g41) dX0_init_47 (fun H a36 σ37 ea36 hσ37 hM => ?_)
  have hf := hf a36 ea36 σ37 hσ37
  replace hc := And.intro (bud hc.1 g40) (bud hc.2 g41)
  refine lv_dup hx hb dX0_init_50 rfl ?_
  obtain ⟨c44, s45, hf⟩ := hf
  obtain ⟨b46, s47, g48, g49, hf⟩ := hf
  refine g_runv (rIN [] [.ref a36, .ref x0] K hM hl (c_X1_init_e l r A _ _ _ _ _ hf) q145 q146 q83 q147 hdX1_init ⟨Nat.le_of_ble_eq_true rfl, Nat.le_of_ble_eq_true rfl⟩ ⟨bud_le hc.1 g48, bud_le hc.2 g49⟩ rfl (Nat.le_of_ble_eq_true rfl) dX0_init_51) hM (fun σ42 H locs hf hM => ?_)
  replace hc := And.intro (bud hc.1 g48) (bud hc.2 g49)
  refine p_putF K kY0 nmX0 hM 11 rfl q174 rfl dX0_init_54 rfl (hi rfl) rfl rfl rfl hf (fun H locs σ50 hf hM => ?_)
  refine lv_aload_n hx hb dX0_init_57 rfl (lv_at hl 0 rfl) ?_
  refine lv_sipush (v := 4096) hx hb dX0_init_58 rfl ?_
  obtain ⟨b53, s54, g55, g56, hf⟩ := hf
  refine p_newa (ty := .int) (a0 := (4096, .inl (fun _ => 0))) (N' := 4096) K hM (by rfl) q156 0 rfl (newI 4096 _ rfl) (by decide +kernel) (by decide +kernel) (by decide +kernel) (bud_le hc.1 g55) (bud_le hc.2 g56) dX0_init_61 (fun H a51 σ52 ea51 hσ52 hM => ?_)
  have hf := hf a51 ea51 σ52 hσ52
  replace hc := And.intro (bud hc.1 g55) (bud hc.2 g56)
  refine p_putF K kY0 nmX0 hM 12 rfl q175 rfl dX0_init_63 rfl (hi rfl) rfl rfl rfl hf (fun H locs σ57 hf hM => ?_)
  refine lv_aload_n hx hb dX0_init_66 rfl (lv_at hl 0 rfl) ?_
  refine lv_sipush (v := 4096) hx hb dX0_init_67 rfl ?_
  obtain ⟨b60, s61, g62, g63, hf⟩ := hf
  refine p_newa (ty := .int) (a0 := (4096, .inl (fun _ => 0))) (N' := 4096) K hM (by rfl) q156 0 rfl (newI 4096 _ rfl) (by decide +kernel) (by decide +kernel) (by decide +kernel) (bud_le hc.1 g62) (bud_le hc.2 g63) dX0_init_70 (fun H a58 σ59 ea58 hσ59 hM => ?_)
  have hf := hf a58 ea58 σ59 hσ59
  replace hc := And.intro (bud hc.1 g62) (bud hc.2 g63)
  refine p_putF K kY0 nmX0 hM 13 rfl q176 rfl dX0_init_72 rfl (hi rfl) rfl rfl rfl hf (fun H locs σ64 hf hM => ?_)
  refine lv_aload_n hx hb dX0_init_75 rfl (lv_at hl 0 rfl) ?_
  refine lv_sipush (v := 4096) hx hb dX0_init_76 rfl ?_
  obtain ⟨b67, s68, g69, g70, hf⟩ := hf
  refine p_newa (ty := .int) (a0 := (4096, .inl (fun _ => 0))) (N' := 4096) K hM (by rfl) q156 0 rfl (newI 4096 _ rfl) (by decide +kernel) (by decide +kernel) (by decide +kernel) (bud_le hc.1 g69) (bud_le hc.2 g70) dX0_init_79 (fun H a65 σ66 ea65 hσ66 hM => ?_)
  have hf := hf a65 ea65 σ66 hσ66
  replace hc := And.intro (bud hc.1 g69) (bud hc.2 g70)
  refine p_putF K kY0 nmX0 hM 14 rfl q177 rfl dX0_init_81 rfl (hi rfl) rfl rfl rfl hf (fun H locs σ71 hf hM => ?_)
  refine lv_aload_n hx hb dX0_init_84 rfl (lv_at hl 0 rfl) ?_
  refine lv_bipush (v := 24) hx hb dX0_init_85 rfl ?_
  obtain ⟨b74, s75, g76, g77, hf⟩ := hf
  refine p_newa (ty := .int) (a0 := (24, .inl (fun _ => 0))) (N' := 24) K hM (by rfl) q156 0 rfl (newI 24 _ rfl) (by decide +kernel) (by decide +kernel) (by decide +kernel) (bud_le hc.1 g76) (bud_le hc.2 g77) dX0_init_87 (fun H a72 σ73 ea72 hσ73 hM => ?_)
  have hf := hf a72 ea72 σ73 hσ73
  replace hc := And.intro (bud hc.1 g76) (bud hc.2 g77)
  refine p_putF K kY0 nmX0 hM 15 rfl q178 rfl dX0_init_89 rfl (hi rfl) rfl rfl rfl hf (fun H locs σ78 hf hM => ?_)
  refine lv_aload_n hx hb dX0_init_92 rfl (lv_at hl 0 rfl) ?_
  refine lv_bipush (v := 6) hx hb dX0_init_93 rfl ?_
  obtain ⟨b81, s82, g83, g84, hf⟩ := hf
  refine p_newa (ty := .int) (a0 := (6, .inl (fun _ => 0))) (N' := 6) K hM (by rfl) q156 0 rfl (newI 6 _ rfl) (by decide +kernel) (by decide +kernel) (by decide +kernel) (bud_le hc.1 g83) (bud_le hc.2 g84) dX0_init_95 (fun H a79 σ80 ea79 hσ80 hM => ?_)
  have hf := hf a79 ea79 σ80 hσ80
  replace hc := And.intro (bud hc.1 g83) (bud hc.2 g84)
  refine p_putF K kY0 nmX0 hM 16 rfl q179 rfl dX0_init_97 rfl (hi rfl) rfl rfl rfl hf (fun H locs σ85 hf hM => ?_)
  refine lv_aload_n hx hb dX0_init_100 rfl (lv_at hl 0 rfl) ?_
  refine lv_bipush (v := 6) hx hb dX0_init_101 rfl ?_
  obtain ⟨b88, s89, g90, g91, hf⟩ := hf
  refine p_newa (ty := .int) (a0 := (6, .inl (fun _ => 0))) (N' := 6) K hM (by rfl) q156 0 rfl (newI 6 _ rfl) (by decide +kernel) (by decide +kernel) (by decide +kernel) (bud_le hc.1 g90) (bud_le hc.2 g91) dX0_init_103 (fun H a86 σ87 ea86 hσ87 hM => ?_)
  have hf := hf a86 ea86 σ87 hσ87
  replace hc := And.intro (bud hc.1 g90) (bud hc.2 g91)
  refine p_putF K kY0 nmX0 hM 17 rfl q180 rfl dX0_init_105 rfl (hi rfl) rfl rfl rfl hf (fun H locs σ92 hf hM => ?_)
  refine lv_aload_n hx hb dX0_init_108 rfl (lv_at hl 0 rfl) ?_
  refine lv_bipush (v := 6) hx hb dX0_init_109 rfl ?_
  obtain ⟨b95, s96, g97, g98, hf⟩ := hf
  refine p_newa (ty := .int) (a0 := (6, .inl (fun _ => 0))) (N' := 6) K hM (by rfl) q156 0 rfl (newI 6 _ rfl) (by decide +kernel) (by decide +kernel) (by decide +kernel) (bud_le hc.1 g97) (bud_le hc.2 g98) dX0_init_111 (fun H a93 σ94 ea93 hσ94 hM => ?_)
  have hf := hf a93 ea93 σ94 hσ94
  replace hc := And.intro (bud hc.1 g97) (bud hc.2 g98)
  refine p_putF K kY0 nmX0 hM 18 rfl q181 rfl dX0_init_113 rfl (hi rfl) rfl rfl rfl hf (fun H locs σ99 hf hM => ?_)
  refine lv_aload_n hx hb dX0_init_116 rfl (lv_at hl 0 rfl) ?_
  refine lv_bipush (v := 6) hx hb dX0_init_117 rfl ?_
  obtain ⟨b102, s103, g104, g105, hf⟩ := hf
  refine p_newa (ty := .int) (a0 := (6, .inl (fun _ => 0))) (N' := 6) K hM (by rfl) q156 0 rfl (newI 6 _ rfl) (by decide +kernel) (by decide +kernel) (by decide +kernel) (bud_le hc.1 g104) (bud_le hc.2 g105) dX0_init_119 (fun H a100 σ101 ea100 hσ101 hM => ?_)
  have hf := hf a100 ea100 σ101 hσ101
  replace hc := And.intro (bud hc.1 g104) (bud hc.2 g105)
  refine p_putF K kY0 nmX0 hM 19 rfl q182 rfl dX0_init_121 rfl (hi rfl) rfl rfl rfl hf (fun H locs σ106 hf hM => ?_)
  refine lv_aload_n hx hb dX0_init_124 rfl (lv_at hl 0 rfl) ?_
  refine lv_sipush (v := 259) hx hb dX0_init_125 rfl ?_
  obtain ⟨b109, s110, g111, g112, hf⟩ := hf
  refine p_newa (ty := .int) (a0 := (259, .inl (fun _ => 0))) (N' := 259) K hM (by rfl) q156 0 rfl (newI 259 _ rfl) (by decide +kernel) (by decide +kernel) (by decide +kernel) (bud_le hc.1 g111) (bud_le hc.2 g112) dX0_init_128 (fun H a107 σ108 ea107 hσ108 hM => ?_)
  have hf := hf a107 ea107 σ108 hσ108
  replace hc := And.intro (bud hc.1 g111) (bud hc.2 g112)
  refine p_putF K kY0 nmX0 hM 24 rfl q187 rfl dX0_init_130 rfl (hi rfl) rfl rfl rfl hf (fun H locs σ113 hf hM => ?_)
  refine lv_aload_n hx hb dX0_init_133 rfl (lv_at hl 0 rfl) ?_
  refine lv_bipush (v := 24) hx hb dX0_init_134 rfl ?_
  obtain ⟨b116, s117, g118, g119, hf⟩ := hf
  refine p_newa (ty := .byte) (a0 := (24, .inl (fun _ => 0))) (N' := 24) K hM (by rfl) q155 2 rfl (newI 24 _ rfl) (by decide +kernel) (by decide +kernel) (by decide +kernel) (bud_le hc.1 g118) (bud_le hc.2 g119) dX0_init_136 (fun H a114 σ115 ea114 hσ115 hM => ?_)
  have hf := hf a114 ea114 σ115 hσ115
  replace hc := And.intro (bud hc.1 g118) (bud hc.2 g119)
  refine p_putF K kY0 nmX0 hM 26 rfl q189 rfl dX0_init_138 rfl (hi rfl) rfl rfl rfl hf (fun H locs σ120 hf hM => ?_)
  refine lv_aload_n hx hb dX0_init_141 rfl (lv_at hl 0 rfl) ?_
  refine lv_bipush (v := 50) hx hb dX0_init_142 rfl ?_
  obtain ⟨b123, s124, g125, g126, hf⟩ := hf
  refine p_newq (N' := 50) K hM q157 (by decide +kernel) 9 rfl (by decide +kernel) (by decide +kernel) (by decide +kernel) (bud_le hc.1 g125) (bud_le hc.2 g126) dX0_init_144 (fun H a121 σ122 ea121 hσ122 hM => ?_)
  have hf := hf a121 ea121 σ122 hσ122
  replace hc := And.intro (bud hc.1 g125) (bud hc.2 g126)
  refine p_putF K kY0 nmX0 hM 27 rfl q190 rfl dX0_init_147 rfl (hi rfl) rfl rfl rfl hf (fun H locs σ127 hf hM => ?_)
  refine lv_aload_n hx hb dX0_init_150 rfl (lv_at hl 0 rfl) ?_
  refine lv_bipush (v := 6) hx hb dX0_init_151 rfl ?_
  obtain ⟨b130, s131, g132, g133, hf⟩ := hf
  refine p_newq (N' := 6) K hM q159 (by decide +kernel) 10 rfl (by decide +kernel) (by decide +kernel) (by decide +kernel) (bud_le hc.1 g132) (bud_le hc.2 g133) dX0_init_153 (fun H a128 σ129 ea128 hσ129 hM => ?_)
  have hf := hf a128 ea128 σ129 hσ129
  replace hc := And.intro (bud hc.1 g132) (bud hc.2 g133)
  refine p_putF K kY0 nmX0 hM 29 rfl q192 rfl dX0_init_156 rfl (hi rfl) rfl rfl rfl hf (fun H locs σ134 hf hM => ?_)
  exact g_retv K hr hM ⟨bud_ret hc.1, bud_ret hc.2⟩ hf dX0_init_159
theorem w_X2_init_e_226 {p : Program} {l : Launch} {e : Env} {s : State} {m : MethodId} {args : Array Value} {below : List Frame} {meth : Method} {c : Code} {r : GR} {A : Nat → Prop} {B S : Nat} {P : GS → Prop} (K : gC p s m args meth c cX2_init 2 RX2 r A) (hr : meth.sig.returnType = none) : ∀ (n : Nat) (bc bs cells slots : Nat) (σ : GS) (x0 : Nat) (x1 : Int32), cells + bc ≤ B ∧ slots + bs ≤ S → f_X2_init_e_226 r P n bc bs σ x0 x1 → gW dE p l e (gRm 1 24 B S) s m args below meth c r A (zV P) B S 2 226 [(0, .ref x0), (1, .int x1)] [] cells slots σ := by
  obtain ⟨hx, hb, hml, hown, hts, hlk, hKK, hA⟩ := id K
  intro n
  induction n with
  | zero =>
    intro bc bs cells slots σ x0 x1 hc hf
    exact absurd hf (fun h => h)
  | succ n ih =>
    intro bc bs cells slots σ x0 x1 hc hf H locs ls hM hl
    rw [f_X2_init_e_226] at hf
    refine lv_iload_n hx hb dX2_init_226 rfl (lv_at hl 1 rfl) ?_
    refine lv_bipush (v := 6) hx hb dX2_init_227 rfl ?_
    refine lv_icmp_ge (tgt := 245) hx hb dX2_init_229 (by decide) (fun b1 => ?_) (fun b1 => ?_)
    · replace hf := hf.1 b1
      exact g_retv K hr hM ⟨bud_ret hc.1, bud_ret hc.2⟩ hf dX2_init_245
    · replace hf := hf.2 b1
      refine lv_aload_n hx hb dX2_init_232 rfl (lv_at hl 0 rfl) ?_
      obtain ⟨v3, h2, hf⟩ := hf
      refine p_get K kY2 hM 51 rfl q1504 rfl dX2_init_233 h2 ?_
      refine lv_iload_n hx hb dX2_init_236 rfl (lv_at hl 1 rfl) ?_
      refine lv_iconst (v := -1) hx hb dX2_init_237 rfl ?_
      obtain ⟨n4, f5, h6, hf⟩ := hf
      obtain ⟨g7, hf⟩ := hf
      refine p_iast K hM h6 g7 dX2_init_238 (fun H locs σ8 hσ8 hM => ?_)
      have hf := hf σ8 hσ8
      refine lv_iinc (v := x1 + 1) (lv' := [(1, .int (x1 + 1)), (0, .ref x0)]) hx hb dX2_init_239 hl (k := 1) rfl rfl (by decide) rfl (fun ls hl => ?_)
      refine lv_goto (tgt := 226) hx hb dX2_init_242 (by decide) ?_
      exact ih _ _ _ _ _ _ _ hc hf _ _ _ hM (lv_sub hl [1, 0] rfl)
theorem c_X2_init_e (l : Launch) (r : GR) (A : Nat → Prop) (bc bs : Nat) (σ : GS) (x0 : Nat) (P : GS → Prop) (hf : f_X2_init_e r bc bs σ x0 P) : gMet dE l yX2_init cX2_init 2 none 1 24 bc bs r A σ [.ref x0] (zV P) := by
  refine g_enter (lv := [(0, .ref x0)]) (by decide) (Nat.le_of_ble_eq_true rfl) rfl ?_
  intro p e s m below meth c ls K hr hM hl hi
  obtain ⟨hx, hb, hml, hown, hts, hlk, hKK, hA⟩ := id K
  unfold f_X2_init_e at hf
  generalize hB_ : bc = B
  generalize hS_ : bs = S
  have hc : 0 + bc ≤ B ∧ 0 + bs ≤ S := ⟨bud_0 hB_, bud_0 hS_⟩
  refine lv_aload_n hx hb dX2_init_0 rfl (lv_at hl 0 rfl) ?_
  refine rO K hl q1452 q133 q134 ⟨Nat.le_of_ble_eq_true rfl, Nat.le_of_ble_eq_true rfl⟩ dX2_init_1 ?_
  refine lv_aload_n hx hb dX2_init_4 rfl (lv_at hl 0 rfl) ?_
  refine lv_bipush (v := 28) hx hb dX2_init_5 rfl ?_
  obtain ⟨b3, s4, g5, g6, hf⟩ := hf
  refine p_newa (ty := .int) (a0 := (28, .inl (fun _ => 0))) (N' := 28) K hM (by rfl) q156 0 rfl (newI 28 _ rfl) (by decide +kernel) (by decide +kernel) (by decide +kernel) (bud_le hc.1 g5) (bud_le hc.2 g6) dX2_init_7 (fun H a1 σ2 ea1 hσ2 hM => ?_)
  have hf := hf a1 ea1 σ2 hσ2
  replace hc := And.intro (bud hc.1 g5) (bud hc.2 g6)
  refine p_putF K kY2 nmX2 hM 0 rfl q1453 rfl dX2_init_9 rfl (hi rfl) rfl rfl rfl hf (fun H locs σ7 hf hM => ?_)
  refine lv_aload_n hx hb dX2_init_12 rfl (lv_at hl 0 rfl) ?_
  refine lv_bipush (v := 40) hx hb dX2_init_13 rfl ?_
  obtain ⟨b10, s11, g12, g13, hf⟩ := hf
  refine p_newa (ty := .int) (a0 := (40, .inl (fun _ => 0))) (N' := 40) K hM (by rfl) q156 0 rfl (newI 40 _ rfl) (by decide +kernel) (by decide +kernel) (by decide +kernel) (bud_le hc.1 g12) (bud_le hc.2 g13) dX2_init_15 (fun H a8 σ9 ea8 hσ9 hM => ?_)
  have hf := hf a8 ea8 σ9 hσ9
  replace hc := And.intro (bud hc.1 g12) (bud hc.2 g13)
  refine p_putF K kY2 nmX2 hM 1 rfl q1454 rfl dX2_init_17 rfl (hi rfl) rfl rfl rfl hf (fun H locs σ14 hf hM => ?_)
  refine lv_aload_n hx hb dX2_init_20 rfl (lv_at hl 0 rfl) ?_
  refine lv_bipush (v := 40) hx hb dX2_init_21 rfl ?_
  obtain ⟨b17, s18, g19, g20, hf⟩ := hf
  refine p_newa (ty := .int) (a0 := (40, .inl (fun _ => 0))) (N' := 40) K hM (by rfl) q156 0 rfl (newI 40 _ rfl) (by decide +kernel) (by decide +kernel) (by decide +kernel) (bud_le hc.1 g19) (bud_le hc.2 g20) dX2_init_23 (fun H a15 σ16 ea15 hσ16 hM => ?_)
  have hf := hf a15 ea15 σ16 hσ16
  replace hc := And.intro (bud hc.1 g19) (bud hc.2 g20)
  refine p_putF K kY2 nmX2 hM 2 rfl q1455 rfl dX2_init_25 rfl (hi rfl) rfl rfl rfl hf (fun H locs σ21 hf hM => ?_)
  refine lv_aload_n hx hb dX2_init_28 rfl (lv_at hl 0 rfl) ?_
  refine lv_bipush (v := 40) hx hb dX2_init_29 rfl ?_
  obtain ⟨b24, s25, g26, g27, hf⟩ := hf
  refine p_newa (ty := .int) (a0 := (40, .inl (fun _ => 0))) (N' := 40) K hM (by rfl) q156 0 rfl (newI 40 _ rfl) (by decide +kernel) (by decide +kernel) (by decide +kernel) (bud_le hc.1 g26) (bud_le hc.2 g27) dX2_init_31 (fun H a22 σ23 ea22 hσ23 hM => ?_)
  have hf := hf a22 ea22 σ23 hσ23
  replace hc := And.intro (bud hc.1 g26) (bud hc.2 g27)
  refine p_putF K kY2 nmX2 hM 3 rfl q1456 rfl dX2_init_33 rfl (hi rfl) rfl rfl rfl hf (fun H locs σ28 hf hM => ?_)
  refine lv_aload_n hx hb dX2_init_36 rfl (lv_at hl 0 rfl) ?_
  refine lv_bipush (v := 6) hx hb dX2_init_37 rfl ?_
  obtain ⟨b31, s32, g33, g34, hf⟩ := hf
  refine p_newa (ty := .int) (a0 := (6, .inl (fun _ => 0))) (N' := 6) K hM (by rfl) q156 0 rfl (newI 6 _ rfl) (by decide +kernel) (by decide +kernel) (by decide +kernel) (bud_le hc.1 g33) (bud_le hc.2 g34) dX2_init_39 (fun H a29 σ30 ea29 hσ30 hM => ?_)
  have hf := hf a29 ea29 σ30 hσ30
  replace hc := And.intro (bud hc.1 g33) (bud hc.2 g34)
  refine p_putF K kY2 nmX2 hM 7 rfl q1460 rfl dX2_init_41 rfl (hi rfl) rfl rfl rfl hf (fun H locs σ35 hf hM => ?_)
  refine lv_aload_n hx hb dX2_init_44 rfl (lv_at hl 0 rfl) ?_
  refine lv_iconst (v := 5) hx hb dX2_init_45 rfl ?_
  obtain ⟨b38, s39, g40, g41, hf⟩ := hf
  refine p_newa (ty := .int) (a0 := (5, .inl (fun _ => 0))) (N' := 5) K hM (by rfl) q156 0 rfl (newI 5 _ rfl) (by decide +kernel) (by decide +kernel) (by decide +kernel) (bud_le hc.1 g40) (bud_le hc.2 g41) dX2_init_46 (fun H a36 σ37 ea36 hσ37 hM => ?_)
  have hf := hf a36 ea36 σ37 hσ37
  replace hc := And.intro (bud hc.1 g40) (bud hc.2 g41)
  refine p_putF K kY2 nmX2 hM 9 rfl q1462 rfl dX2_init_48 rfl (hi rfl) rfl rfl rfl hf (fun H locs σ42 hf hM => ?_)
  refine lv_aload_n hx hb dX2_init_51 rfl (lv_at hl 0 rfl) ?_
  refine lv_iconst (v := 5) hx hb dX2_init_52 rfl ?_
  obtain ⟨b45, s46, g47, g48, hf⟩ := hf
  refine p_newa (ty := .int) (a0 := (5, .inl (fun _ => 0))) (N' := 5) K hM (by rfl) q156 0 rfl (newI 5 _ rfl) (by decide +kernel) (by decide +kernel) (by decide +kernel) (bud_le hc.1 g47) (bud_le hc.2 g48) dX2_init_53 (fun H a43 σ44 ea43 hσ44 hM => ?_)
  have hf := hf a43 ea43 σ44 hσ44
  replace hc := And.intro (bud hc.1 g47) (bud hc.2 g48)
  refine p_putF K kY2 nmX2 hM 10 rfl q1463 rfl dX2_init_55 rfl (hi rfl) rfl rfl rfl hf (fun H locs σ49 hf hM => ?_)
  refine lv_aload_n hx hb dX2_init_58 rfl (lv_at hl 0 rfl) ?_
  refine lv_iconst (v := 5) hx hb dX2_init_59 rfl ?_
  obtain ⟨b52, s53, g54, g55, hf⟩ := hf
  refine p_newa (ty := .int) (a0 := (5, .inl (fun _ => 0))) (N' := 5) K hM (by rfl) q156 0 rfl (newI 5 _ rfl) (by decide +kernel) (by decide +kernel) (by decide +kernel) (bud_le hc.1 g54) (bud_le hc.2 g55) dX2_init_60 (fun H a50 σ51 ea50 hσ51 hM => ?_)
  have hf := hf a50 ea50 σ51 hσ51
  replace hc := And.intro (bud hc.1 g54) (bud hc.2 g55)
  refine p_putF K kY2 nmX2 hM 11 rfl q1464 rfl dX2_init_62 rfl (hi rfl) rfl rfl rfl hf (fun H locs σ56 hf hM => ?_)
  refine lv_aload_n hx hb dX2_init_65 rfl (lv_at hl 0 rfl) ?_
  refine lv_iconst (v := 5) hx hb dX2_init_66 rfl ?_
  obtain ⟨b59, s60, g61, g62, hf⟩ := hf
  refine p_newa (ty := .int) (a0 := (5, .inl (fun _ => 0))) (N' := 5) K hM (by rfl) q156 0 rfl (newI 5 _ rfl) (by decide +kernel) (by decide +kernel) (by decide +kernel) (bud_le hc.1 g61) (bud_le hc.2 g62) dX2_init_67 (fun H a57 σ58 ea57 hσ58 hM => ?_)
  have hf := hf a57 ea57 σ58 hσ58
  replace hc := And.intro (bud hc.1 g61) (bud hc.2 g62)
  refine p_putF K kY2 nmX2 hM 12 rfl q1465 rfl dX2_init_69 rfl (hi rfl) rfl rfl rfl hf (fun H locs σ63 hf hM => ?_)
  refine lv_aload_n hx hb dX2_init_72 rfl (lv_at hl 0 rfl) ?_
  refine lv_bipush (v := 120) hx hb dX2_init_73 rfl ?_
  obtain ⟨b66, s67, g68, g69, hf⟩ := hf
  refine p_newa (ty := .int) (a0 := (120, .inl (fun _ => 0))) (N' := 120) K hM (by rfl) q156 0 rfl (newI 120 _ rfl) (by decide +kernel) (by decide +kernel) (by decide +kernel) (bud_le hc.1 g68) (bud_le hc.2 g69) dX2_init_75 (fun H a64 σ65 ea64 hσ65 hM => ?_)
  have hf := hf a64 ea64 σ65 hσ65
  replace hc := And.intro (bud hc.1 g68) (bud hc.2 g69)
  refine p_putF K kY2 nmX2 hM 13 rfl q1466 rfl dX2_init_77 rfl (hi rfl) rfl rfl rfl hf (fun H locs σ70 hf hM => ?_)
  refine lv_aload_n hx hb dX2_init_80 rfl (lv_at hl 0 rfl) ?_
  refine lv_sipush (v := 480) hx hb dX2_init_81 rfl ?_
  obtain ⟨b73, s74, g75, g76, hf⟩ := hf
  refine p_newa (ty := .int) (a0 := (480, .inl (fun _ => 0))) (N' := 480) K hM (by rfl) q156 0 rfl (newI 480 _ rfl) (by decide +kernel) (by decide +kernel) (by decide +kernel) (bud_le hc.1 g75) (bud_le hc.2 g76) dX2_init_84 (fun H a71 σ72 ea71 hσ72 hM => ?_)
  have hf := hf a71 ea71 σ72 hσ72
  replace hc := And.intro (bud hc.1 g75) (bud hc.2 g76)
  refine p_putF K kY2 nmX2 hM 16 rfl q1469 rfl dX2_init_86 rfl (hi rfl) rfl rfl rfl hf (fun H locs σ77 hf hM => ?_)
  refine lv_aload_n hx hb dX2_init_89 rfl (lv_at hl 0 rfl) ?_
  refine lv_iconst (v := 4) hx hb dX2_init_90 rfl ?_
  obtain ⟨b80, s81, g82, g83, hf⟩ := hf
  refine p_newa (ty := .int) (a0 := (4, .inl (fun _ => 0))) (N' := 4) K hM (by rfl) q156 0 rfl (newI 4 _ rfl) (by decide +kernel) (by decide +kernel) (by decide +kernel) (bud_le hc.1 g82) (bud_le hc.2 g83) dX2_init_91 (fun H a78 σ79 ea78 hσ79 hM => ?_)
  have hf := hf a78 ea78 σ79 hσ79
  replace hc := And.intro (bud hc.1 g82) (bud hc.2 g83)
  refine p_putF K kY2 nmX2 hM 17 rfl q1470 rfl dX2_init_93 rfl (hi rfl) rfl rfl rfl hf (fun H locs σ84 hf hM => ?_)
  refine lv_aload_n hx hb dX2_init_96 rfl (lv_at hl 0 rfl) ?_
  refine lv_bipush (v := 7) hx hb dX2_init_97 rfl ?_
  obtain ⟨b87, s88, g89, g90, hf⟩ := hf
  refine p_newa (ty := .int) (a0 := (7, .inl (fun _ => 0))) (N' := 7) K hM (by rfl) q156 0 rfl (newI 7 _ rfl) (by decide +kernel) (by decide +kernel) (by decide +kernel) (bud_le hc.1 g89) (bud_le hc.2 g90) dX2_init_99 (fun H a85 σ86 ea85 hσ86 hM => ?_)
  have hf := hf a85 ea85 σ86 hσ86
  replace hc := And.intro (bud hc.1 g89) (bud hc.2 g90)
  refine p_putF K kY2 nmX2 hM 23 rfl q1476 rfl dX2_init_101 rfl (hi rfl) rfl rfl rfl hf (fun H locs σ91 hf hM => ?_)
  refine lv_aload_n hx hb dX2_init_104 rfl (lv_at hl 0 rfl) ?_
  refine lv_bipush (v := 24) hx hb dX2_init_105 rfl ?_
  obtain ⟨b94, s95, g96, g97, hf⟩ := hf
  refine p_newa (ty := .int) (a0 := (24, .inl (fun _ => 0))) (N' := 24) K hM (by rfl) q156 0 rfl (newI 24 _ rfl) (by decide +kernel) (by decide +kernel) (by decide +kernel) (bud_le hc.1 g96) (bud_le hc.2 g97) dX2_init_107 (fun H a92 σ93 ea92 hσ93 hM => ?_)
  have hf := hf a92 ea92 σ93 hσ93
  replace hc := And.intro (bud hc.1 g96) (bud hc.2 g97)
  refine p_putF K kY2 nmX2 hM 24 rfl q1477 rfl dX2_init_109 rfl (hi rfl) rfl rfl rfl hf (fun H locs σ98 hf hM => ?_)
  refine lv_aload_n hx hb dX2_init_112 rfl (lv_at hl 0 rfl) ?_
  refine lv_bipush (v := 6) hx hb dX2_init_113 rfl ?_
  obtain ⟨b101, s102, g103, g104, hf⟩ := hf
  refine p_newa (ty := .int) (a0 := (6, .inl (fun _ => 0))) (N' := 6) K hM (by rfl) q156 0 rfl (newI 6 _ rfl) (by decide +kernel) (by decide +kernel) (by decide +kernel) (bud_le hc.1 g103) (bud_le hc.2 g104) dX2_init_115 (fun H a99 σ100 ea99 hσ100 hM => ?_)
  have hf := hf a99 ea99 σ100 hσ100
  replace hc := And.intro (bud hc.1 g103) (bud hc.2 g104)
  refine p_putF K kY2 nmX2 hM 25 rfl q1478 rfl dX2_init_117 rfl (hi rfl) rfl rfl rfl hf (fun H locs σ105 hf hM => ?_)
  refine lv_aload_n hx hb dX2_init_120 rfl (lv_at hl 0 rfl) ?_
  refine lv_bipush (v := 100) hx hb dX2_init_121 rfl ?_
  refine p_put K kY2 nmX2 hM 29 rfl q1482 rfl dX2_init_123 rfl rfl rfl hf (fun H locs σ106 hf hM => ?_)
  refine lv_aload_n hx hb dX2_init_126 rfl (lv_at hl 0 rfl) ?_
  refine lv_bipush (v := 6) hx hb dX2_init_127 rfl ?_
  obtain ⟨b109, s110, g111, g112, hf⟩ := hf
  refine p_newa (ty := .int) (a0 := (6, .inl (fun _ => 0))) (N' := 6) K hM (by rfl) q156 0 rfl (newI 6 _ rfl) (by decide +kernel) (by decide +kernel) (by decide +kernel) (bud_le hc.1 g111) (bud_le hc.2 g112) dX2_init_129 (fun H a107 σ108 ea107 hσ108 hM => ?_)
  have hf := hf a107 ea107 σ108 hσ108
  replace hc := And.intro (bud hc.1 g111) (bud hc.2 g112)
  refine p_putF K kY2 nmX2 hM 33 rfl q1486 rfl dX2_init_131 rfl (hi rfl) rfl rfl rfl hf (fun H locs σ113 hf hM => ?_)
  refine lv_aload_n hx hb dX2_init_134 rfl (lv_at hl 0 rfl) ?_
  refine lv_bipush (v := 30) hx hb dX2_init_135 rfl ?_
  obtain ⟨b116, s117, g118, g119, hf⟩ := hf
  refine p_newa (ty := .int) (a0 := (30, .inl (fun _ => 0))) (N' := 30) K hM (by rfl) q156 0 rfl (newI 30 _ rfl) (by decide +kernel) (by decide +kernel) (by decide +kernel) (bud_le hc.1 g118) (bud_le hc.2 g119) dX2_init_137 (fun H a114 σ115 ea114 hσ115 hM => ?_)
  have hf := hf a114 ea114 σ115 hσ115
  replace hc := And.intro (bud hc.1 g118) (bud hc.2 g119)
  refine p_putF K kY2 nmX2 hM 34 rfl q1487 rfl dX2_init_139 rfl (hi rfl) rfl rfl rfl hf (fun H locs σ120 hf hM => ?_)
  refine lv_aload_n hx hb dX2_init_142 rfl (lv_at hl 0 rfl) ?_
  refine lv_bipush (v := 6) hx hb dX2_init_143 rfl ?_
  obtain ⟨b123, s124, g125, g126, hf⟩ := hf
  refine p_newa (ty := .int) (a0 := (6, .inl (fun _ => 0))) (N' := 6) K hM (by rfl) q156 0 rfl (newI 6 _ rfl) (by decide +kernel) (by decide +kernel) (by decide +kernel) (bud_le hc.1 g125) (bud_le hc.2 g126) dX2_init_145 (fun H a121 σ122 ea121 hσ122 hM => ?_)
  have hf := hf a121 ea121 σ122 hσ122
  replace hc := And.intro (bud hc.1 g125) (bud hc.2 g126)
  refine p_putF K kY2 nmX2 hM 39 rfl q1492 rfl dX2_init_147 rfl (hi rfl) rfl rfl rfl hf (fun H locs σ127 hf hM => ?_)
  refine lv_aload_n hx hb dX2_init_150 rfl (lv_at hl 0 rfl) ?_
  refine lv_bipush (v := 6) hx hb dX2_init_151 rfl ?_
  obtain ⟨b130, s131, g132, g133, hf⟩ := hf
  refine p_newa (ty := .int) (a0 := (6, .inl (fun _ => 0))) (N' := 6) K hM (by rfl) q156 0 rfl (newI 6 _ rfl) (by decide +kernel) (by decide +kernel) (by decide +kernel) (bud_le hc.1 g132) (bud_le hc.2 g133) dX2_init_153 (fun H a128 σ129 ea128 hσ129 hM => ?_)
  have hf := hf a128 ea128 σ129 hσ129
  replace hc := And.intro (bud hc.1 g132) (bud hc.2 g133)
  refine p_putF K kY2 nmX2 hM 40 rfl q1493 rfl dX2_init_155 rfl (hi rfl) rfl rfl rfl hf (fun H locs σ134 hf hM => ?_)
  refine lv_aload_n hx hb dX2_init_158 rfl (lv_at hl 0 rfl) ?_
  refine lv_bipush (v := 6) hx hb dX2_init_159 rfl ?_
  obtain ⟨b137, s138, g139, g140, hf⟩ := hf
  refine p_newa (ty := .int) (a0 := (6, .inl (fun _ => 0))) (N' := 6) K hM (by rfl) q156 0 rfl (newI 6 _ rfl) (by decide +kernel) (by decide +kernel) (by decide +kernel) (bud_le hc.1 g139) (bud_le hc.2 g140) dX2_init_161 (fun H a135 σ136 ea135 hσ136 hM => ?_)
  have hf := hf a135 ea135 σ136 hσ136
  replace hc := And.intro (bud hc.1 g139) (bud hc.2 g140)
  refine p_putF K kY2 nmX2 hM 41 rfl q1494 rfl dX2_init_163 rfl (hi rfl) rfl rfl rfl hf (fun H locs σ141 hf hM => ?_)
  refine lv_aload_n hx hb dX2_init_166 rfl (lv_at hl 0 rfl) ?_
  refine lv_sipush (v := 1783) hx hb dX2_init_167 rfl ?_
  obtain ⟨b144, s145, g146, g147, hf⟩ := hf
  refine p_newa (ty := .int) (a0 := (1783, .inl (fun _ => 0))) (N' := 1783) K hM (by rfl) q156 0 rfl (newI 1783 _ rfl) (by decide +kernel) (by decide +kernel) (by decide +kernel) (bud_le hc.1 g146) (bud_le hc.2 g147) dX2_init_170 (fun H a142 σ143 ea142 hσ143 hM => ?_)
  have hf := hf a142 ea142 σ143 hσ143
  replace hc := And.intro (bud hc.1 g146) (bud hc.2 g147)
  refine p_putF K kY2 nmX2 hM 44 rfl q1497 rfl dX2_init_172 rfl (hi rfl) rfl rfl rfl hf (fun H locs σ148 hf hM => ?_)
  refine lv_aload_n hx hb dX2_init_175 rfl (lv_at hl 0 rfl) ?_
  refine lv_bipush (v := 50) hx hb dX2_init_176 rfl ?_
  obtain ⟨b151, s152, g153, g154, hf⟩ := hf
  refine p_newa (ty := .int) (a0 := (50, .inl (fun _ => 0))) (N' := 50) K hM (by rfl) q156 0 rfl (newI 50 _ rfl) (by decide +kernel) (by decide +kernel) (by decide +kernel) (bud_le hc.1 g153) (bud_le hc.2 g154) dX2_init_178 (fun H a149 σ150 ea149 hσ150 hM => ?_)
  have hf := hf a149 ea149 σ150 hσ150
  replace hc := And.intro (bud hc.1 g153) (bud hc.2 g154)
  refine p_putF K kY2 nmX2 hM 46 rfl q1499 rfl dX2_init_180 rfl (hi rfl) rfl rfl rfl hf (fun H locs σ155 hf hM => ?_)
  refine lv_aload_n hx hb dX2_init_183 rfl (lv_at hl 0 rfl) ?_
  refine lv_bipush (v := 24) hx hb dX2_init_184 rfl ?_
  obtain ⟨b158, s159, g160, g161, hf⟩ := hf
  refine p_newa (ty := .int) (a0 := (24, .inl (fun _ => 0))) (N' := 24) K hM (by rfl) q156 0 rfl (newI 24 _ rfl) (by decide +kernel) (by decide +kernel) (by decide +kernel) (bud_le hc.1 g160) (bud_le hc.2 g161) dX2_init_186 (fun H a156 σ157 ea156 hσ157 hM => ?_)
  have hf := hf a156 ea156 σ157 hσ157
  replace hc := And.intro (bud hc.1 g160) (bud hc.2 g161)
  refine p_putF K kY2 nmX2 hM 47 rfl q1500 rfl dX2_init_188 rfl (hi rfl) rfl rfl rfl hf (fun H locs σ162 hf hM => ?_)
  refine lv_aload_n hx hb dX2_init_191 rfl (lv_at hl 0 rfl) ?_
  refine lv_bipush (v := 6) hx hb dX2_init_192 rfl ?_
  obtain ⟨b165, s166, g167, g168, hf⟩ := hf
  refine p_newa (ty := .int) (a0 := (6, .inl (fun _ => 0))) (N' := 6) K hM (by rfl) q156 0 rfl (newI 6 _ rfl) (by decide +kernel) (by decide +kernel) (by decide +kernel) (bud_le hc.1 g167) (bud_le hc.2 g168) dX2_init_194 (fun H a163 σ164 ea163 hσ164 hM => ?_)
  have hf := hf a163 ea163 σ164 hσ164
  replace hc := And.intro (bud hc.1 g167) (bud hc.2 g168)
  refine p_putF K kY2 nmX2 hM 51 rfl q1504 rfl dX2_init_196 rfl (hi rfl) rfl rfl rfl hf (fun H locs σ169 hf hM => ?_)
  refine lv_aload_n hx hb dX2_init_199 rfl (lv_at hl 0 rfl) ?_
  refine lv_bipush (v := 6) hx hb dX2_init_200 rfl ?_
  obtain ⟨b172, s173, g174, g175, hf⟩ := hf
  refine p_newa (ty := .int) (a0 := (6, .inl (fun _ => 0))) (N' := 6) K hM (by rfl) q156 0 rfl (newI 6 _ rfl) (by decide +kernel) (by decide +kernel) (by decide +kernel) (bud_le hc.1 g174) (bud_le hc.2 g175) dX2_init_202 (fun H a170 σ171 ea170 hσ171 hM => ?_)
  have hf := hf a170 ea170 σ171 hσ171
  replace hc := And.intro (bud hc.1 g174) (bud hc.2 g175)
  refine p_putF K kY2 nmX2 hM 52 rfl q1505 rfl dX2_init_204 rfl (hi rfl) rfl rfl rfl hf (fun H locs σ176 hf hM => ?_)
  refine lv_aload_n hx hb dX2_init_207 rfl (lv_at hl 0 rfl) ?_
  refine lv_sipush (v := 360) hx hb dX2_init_208 rfl ?_
  obtain ⟨b179, s180, g181, g182, hf⟩ := hf
  refine p_newa (ty := .long) (a0 := (360, .inr (.inl (fun _ => 0)))) (N' := 360) K hM (by rfl) q1301 1 rfl (newL 360 _ rfl) (by decide +kernel) (by decide +kernel) (by decide +kernel) (bud_le hc.1 g181) (bud_le hc.2 g182) dX2_init_211 (fun H a177 σ178 ea177 hσ178 hM => ?_)
  have hf := hf a177 ea177 σ178 hσ178
  replace hc := And.intro (bud hc.1 g181) (bud hc.2 g182)
  refine p_putF K kY2 nmX2 hM 53 rfl q1506 rfl dX2_init_213 rfl (hi rfl) rfl rfl rfl hf (fun H locs σ183 hf hM => ?_)
  refine lv_aload_n hx hb dX2_init_216 rfl (lv_at hl 0 rfl) ?_
  refine lv_bipush (v := 60) hx hb dX2_init_217 rfl ?_
  obtain ⟨b186, s187, g188, g189, hf⟩ := hf
  refine p_newa (ty := .long) (a0 := (60, .inr (.inl (fun _ => 0)))) (N' := 60) K hM (by rfl) q1301 1 rfl (newL 60 _ rfl) (by decide +kernel) (by decide +kernel) (by decide +kernel) (bud_le hc.1 g188) (bud_le hc.2 g189) dX2_init_219 (fun H a184 σ185 ea184 hσ185 hM => ?_)
  have hf := hf a184 ea184 σ185 hσ185
  replace hc := And.intro (bud hc.1 g188) (bud hc.2 g189)
  refine p_putF K kY2 nmX2 hM 54 rfl q1507 rfl dX2_init_221 rfl (hi rfl) rfl rfl rfl hf (fun H locs σ190 hf hM => ?_)
  refine lv_iconst (v := 0) hx hb dX2_init_224 rfl ?_
  refine lv_istore_n (lv' := [(1, .int (0 : Int32)), (0, .ref x0)]) hx hb dX2_init_225 rfl hl (by decide) rfl (fun ls hl => ?_)
  obtain ⟨n_, hf⟩ := hf
  exact w_X2_init_e_226 K hr n_ _ _ _ _ _ _ _ hc hf _ _ _ hM (lv_sub hl [1, 0] rfl)

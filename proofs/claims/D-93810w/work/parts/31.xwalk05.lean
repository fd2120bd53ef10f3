set_option maxRecDepth 100000
set_option maxHeartbeats 4000000
theorem c_X15_keeps_c20 (l : Launch) (r : GR) (A : Nat → Prop) (σ : GS) (x0 : Nat) (x1 : Int32) (P : GS → Int32 → Prop) (hf : f_X15_keeps_c20 r σ x0 x1 P) : gMet dX l yX15_keeps cX15_keeps 2 (some .int) 2 42 0 0 r A σ [.ref x0, .int x1] (zI P) := by
  refine g_enter (lv := [(0, .ref x0), (1, .int x1)]) (by decide) (Nat.le_of_ble_eq_true rfl) rfl ?_
  intro p e s m below meth c ls K hr hM hl hi
  obtain ⟨hx, hb, hml, hown, hts, hlk, hKK, hA⟩ := id K
  unfold f_X15_keeps_c20 at hf
  refine lv_aload_n hx hb dX15_keeps_0 rfl (lv_at hl 0 rfl) ?_
  obtain ⟨h1, hf⟩ := hf
  refine p_get K kY20 hM 1 rfl q990 rfl dX15_keeps_1 h1 ?_
  refine lv_bipush (v := 10) hx hb dX15_keeps_4 rfl ?_
  refine g_runv (rVN [.int (10 : Int32)] [] K kX hM hl (c_X0_ran l r A _ _ _ hf) q1108 q1101 qs39 q82 q1102 hdX0_ran.2 ⟨Nat.le_of_ble_eq_true rfl, Nat.le_of_ble_eq_true rfl⟩ ⟨Nat.le_refl _, Nat.le_refl _⟩ rfl (Nat.le_of_ble_eq_true rfl) dX15_keeps_6) hM (fun σ2 H locs hf hM => ?_)
  refine lv_aload_n hx hb dX15_keeps_9 rfl (lv_at hl 0 rfl) ?_
  refine lv_iload_n hx hb dX15_keeps_10 rfl (lv_at hl 1 rfl) ?_
  obtain ⟨f6, h7, hf⟩ := hf
  refine g_runi (rOv (x := ⟨"PointsForAll$Purse", "buys", "(I)I"⟩) (owner := "PointsForAll$Purse") [.int x1] [] K kY20 hM hl h7 (c_X15_buys_c20 l r A _ _ _ _ hf) q1194 q1991 q1106 q1107 q1993 q1106 q111 q1107 hdo_Purse_buys ⟨Nat.le_of_ble_eq_true rfl, Nat.le_of_ble_eq_true rfl⟩ ⟨Nat.le_refl _, Nat.le_refl _⟩ rfl (Nat.le_of_ble_eq_true rfl) dX15_keeps_11) hM (fun σ4 v5 H locs hf hM => ?_)
  refine lv_iconst (v := 2) hx hb dX15_keeps_14 rfl ?_
  refine lv_imul hx hb dX15_keeps_15 ?_
  exact g_reti K hr hM ⟨Nat.le_refl _, Nat.le_refl _⟩ hf dX15_keeps_16
theorem c_X17_keeps_c20 (l : Launch) (r : GR) (A : Nat → Prop) (σ : GS) (x0 : Nat) (x1 : Int32) (P : GS → Int32 → Prop) (hf : f_X17_keeps_c20 r σ x0 x1 P) : gMet dX l yX17_keeps cX17_keeps 2 (some .int) 3 63 0 0 r A σ [.ref x0, .int x1] (zI P) := by
  refine g_enter (lv := [(0, .ref x0), (1, .int x1)]) (by decide) (Nat.le_of_ble_eq_true rfl) rfl ?_
  intro p e s m below meth c ls K hr hM hl hi
  obtain ⟨hx, hb, hml, hown, hts, hlk, hKK, hA⟩ := id K
  unfold f_X17_keeps_c20 at hf
  refine lv_aload_n hx hb dX17_keeps_0 rfl (lv_at hl 0 rfl) ?_
  obtain ⟨h1, hf⟩ := hf
  refine p_get K kY20 hM 2 rfl q1004 rfl dX17_keeps_1 h1 ?_
  refine lv_bipush (v := 30) hx hb dX17_keeps_4 rfl ?_
  refine g_runv (rVN [.int (30 : Int32)] [] K kX hM hl (c_X0_ran l r A _ _ _ hf) q1163 q1101 qs39 q82 q1102 hdX0_ran.2 ⟨Nat.le_of_ble_eq_true rfl, Nat.le_of_ble_eq_true rfl⟩ ⟨Nat.le_refl _, Nat.le_refl _⟩ rfl (Nat.le_of_ble_eq_true rfl) dX17_keeps_6) hM (fun σ2 H locs hf hM => ?_)
  refine lv_aload_n hx hb dX17_keeps_9 rfl (lv_at hl 0 rfl) ?_
  refine lv_iload_n hx hb dX17_keeps_10 rfl (lv_at hl 1 rfl) ?_
  obtain ⟨f6, h7, hf⟩ := hf
  refine g_runi (rSup (x := ⟨"PointsForAll$Purse", "keeps", "(I)I"⟩) [.int x1] [] K kY20 hM hl h7 (c_X15_keeps_c20 l r A _ _ _ _ hf) q1164 q1159 q1009 q1157 q111 q1193 under_self rfl hds_keeps ⟨Nat.le_of_ble_eq_true rfl, Nat.le_of_ble_eq_true rfl⟩ ⟨Nat.le_refl _, Nat.le_refl _⟩ rfl (Nat.le_of_ble_eq_true rfl) dX17_keeps_11) hM (fun σ4 v5 H locs hf hM => ?_)
  refine lv_ineg hx hb dX17_keeps_14 ?_
  exact g_reti K hr hM ⟨Nat.le_refl _, Nat.le_refl _⟩ hf dX17_keeps_15
theorem c_X15_lends_c20 (l : Launch) (r : GR) (A : Nat → Prop) (σ : GS) (x0 : Nat) (x1 : Int32) (P : GS → Int32 → Prop) (hf : f_X15_lends_c20 r σ x0 x1 P) : gMet dX l yX15_lends cX15_lends 2 (some .int) 1 21 0 0 r A σ [.ref x0, .int x1] (zI P) := by
  refine g_enter (lv := [(0, .ref x0), (1, .int x1)]) (by decide) (Nat.le_of_ble_eq_true rfl) rfl ?_
  intro p e s m below meth c ls K hr hM hl hi
  obtain ⟨hx, hb, hml, hown, hts, hlk, hKK, hA⟩ := id K
  unfold f_X15_lends_c20 at hf
  refine lv_aload_n hx hb dX15_lends_0 rfl (lv_at hl 0 rfl) ?_
  obtain ⟨h1, hf⟩ := hf
  refine p_get K kY20 hM 1 rfl q990 rfl dX15_lends_1 h1 ?_
  refine lv_bipush (v := 11) hx hb dX15_lends_4 rfl ?_
  refine g_runv (rVN [.int (11 : Int32)] [] K kX hM hl (c_X0_ran l r A _ _ _ hf) q1108 q1101 qs39 q82 q1102 hdX0_ran.2 ⟨Nat.le_of_ble_eq_true rfl, Nat.le_of_ble_eq_true rfl⟩ ⟨Nat.le_refl _, Nat.le_refl _⟩ rfl (Nat.le_of_ble_eq_true rfl) dX15_lends_6) hM (fun σ2 H locs hf hM => ?_)
  refine lv_iload_n hx hb dX15_lends_9 rfl (lv_at hl 1 rfl) ?_
  refine lv_aload_n hx hb dX15_lends_10 rfl (lv_at hl 0 rfl) ?_
  obtain ⟨v5, h4, hf⟩ := hf
  refine p_get K kY20 hM 0 rfl q989 rfl dX15_lends_11 h4 ?_
  refine lv_ixor hx hb dX15_lends_14 ?_
  exact g_reti K hr hM ⟨Nat.le_refl _, Nat.le_refl _⟩ hf dX15_lends_15
theorem c_X19_lends_c20 (l : Launch) (r : GR) (A : Nat → Prop) (σ : GS) (x0 : Nat) (x1 : Int32) (P : GS → Int32 → Prop) (hf : f_X19_lends_c20 r σ x0 x1 P) : gMet dX l yX19_lends cX19_lends 3 (some .int) 2 42 0 0 r A σ [.ref x0, .int x1] (zI P) := by
  refine g_enter (lv := [(0, .ref x0), (1, .int x1)]) (by decide) (Nat.le_of_ble_eq_true rfl) rfl ?_
  intro p e s m below meth c ls K hr hM hl hi
  obtain ⟨hx, hb, hml, hown, hts, hlk, hKK, hA⟩ := id K
  unfold f_X19_lends_c20 at hf
  refine lv_aload_n hx hb dX19_lends_0 rfl (lv_at hl 0 rfl) ?_
  obtain ⟨h1, hf⟩ := hf
  refine p_get K kY20 hM 3 rfl q1029 rfl dX19_lends_1 h1 ?_
  refine lv_bipush (v := 50) hx hb dX19_lends_4 rfl ?_
  refine g_runv (rVN [.int (50 : Int32)] [] K kX hM hl (c_X0_ran l r A _ _ _ hf) q1178 q1101 qs39 q82 q1102 hdX0_ran.2 ⟨Nat.le_of_ble_eq_true rfl, Nat.le_of_ble_eq_true rfl⟩ ⟨Nat.le_refl _, Nat.le_refl _⟩ rfl (Nat.le_of_ble_eq_true rfl) dX19_lends_6) hM (fun σ2 H locs hf hM => ?_)
  refine lv_aload_n hx hb dX19_lends_9 rfl (lv_at hl 0 rfl) ?_
  refine lv_iload_n hx hb dX19_lends_10 rfl (lv_at hl 1 rfl) ?_
  obtain ⟨f6, h7, hf⟩ := hf
  refine g_runi (rSup (x := ⟨"PointsForAll$Points", "lends", "(I)I"⟩) [.int x1] [] K kY20 hM hl h7 (c_X15_lends_c20 l r A _ _ _ _ hf) q1179 q1180 q1035 q1182 q111 q1183 (under_1 hts q1009) rfl hds_lends ⟨Nat.le_of_ble_eq_true rfl, Nat.le_of_ble_eq_true rfl⟩ ⟨Nat.le_refl _, Nat.le_refl _⟩ rfl (Nat.le_of_ble_eq_true rfl) dX19_lends_11) hM (fun σ4 v5 H locs hf hM => ?_)
  refine lv_istore_n (lv' := [(2, .int v5), (0, .ref x0), (1, .int x1)]) hx hb dX19_lends_14 rfl hl (by decide) rfl (fun ls hl => ?_)
  refine lv_iload_n hx hb dX19_lends_15 rfl (lv_at hl 0 rfl) ?_
  refine lv_aload_n hx hb dX19_lends_16 rfl (lv_at hl 1 rfl) ?_
  refine lv_iconst (v := 2) hx hb dX19_lends_17 rfl ?_
  obtain ⟨f10, h11, hf⟩ := hf
  refine g_runi (rOv (x := ⟨"PointsForAll$Changed", "buys", "(I)I"⟩) (owner := "PointsForAll$Purse") [.int (2 : Int32)] [.int v5] K kY20 hM hl h11 (c_X15_buys_c20 l r A _ _ _ _ hf) q1184 q1185 q1106 q1107 q1186 q1106 q111 q1107 hdo_Purse_buys ⟨Nat.le_of_ble_eq_true rfl, Nat.le_of_ble_eq_true rfl⟩ ⟨Nat.le_refl _, Nat.le_refl _⟩ rfl (Nat.le_of_ble_eq_true rfl) dX19_lends_18) hM (fun σ8 v9 H locs hf hM => ?_)
  refine lv_isub hx hb dX19_lends_21 ?_
  exact g_reti K hr hM ⟨Nat.le_refl _, Nat.le_refl _⟩ hf dX19_lends_22
theorem c_X22_keeps_c20 (l : Launch) (r : GR) (A : Nat → Prop) (σ : GS) (x0 : Nat) (x1 : Int32) (P : GS → Int32 → Prop) (hf : f_X22_keeps_c20 r σ x0 x1 P) : gMet dX l yX22_keeps cX22_keeps 3 (some .int) 4 84 0 0 r A σ [.ref x0, .int x1] (zI P) := by
  refine g_enter (lv := [(0, .ref x0), (1, .int x1)]) (by decide) (Nat.le_of_ble_eq_true rfl) rfl ?_
  intro p e s m below meth c ls K hr hM hl hi
  obtain ⟨hx, hb, hml, hown, hts, hlk, hKK, hA⟩ := id K
  unfold f_X22_keeps_c20 at hf
  refine lv_aload_n hx hb dX22_keeps_0 rfl (lv_at hl 0 rfl) ?_
  obtain ⟨h1, hf⟩ := hf
  refine p_get K kY20 hM 4 rfl q1068 rfl dX22_keeps_1 h1 ?_
  refine lv_bipush (v := 80) hx hb dX22_keeps_4 rfl ?_
  refine g_runv (rVN [.int (80 : Int32)] [] K kX hM hl (c_X0_ran l r A _ _ _ hf) q1168 q1101 qs39 q82 q1102 hdX0_ran.2 ⟨Nat.le_of_ble_eq_true rfl, Nat.le_of_ble_eq_true rfl⟩ ⟨Nat.le_refl _, Nat.le_refl _⟩ rfl (Nat.le_of_ble_eq_true rfl) dX22_keeps_6) hM (fun σ2 H locs hf hM => ?_)
  refine lv_aload_n hx hb dX22_keeps_9 rfl (lv_at hl 0 rfl) ?_
  refine lv_iload_n hx hb dX22_keeps_10 rfl (lv_at hl 1 rfl) ?_
  obtain ⟨f6, h7, hf⟩ := hf
  refine g_runi (rSup (x := ⟨"PointsForAll$Changed", "keeps", "(I)I"⟩) [.int x1] [] K kY20 hM hl h7 (c_X17_keeps_c20 l r A _ _ _ _ hf) q1169 q1170 q1075 q1161 q113 q1162 (under_1 hts q1035) rfl hds_keeps ⟨Nat.le_of_ble_eq_true rfl, Nat.le_of_ble_eq_true rfl⟩ ⟨Nat.le_refl _, Nat.le_refl _⟩ rfl (Nat.le_of_ble_eq_true rfl) dX22_keeps_11) hM (fun σ4 v5 H locs hf hM => ?_)
  refine lv_istore_n (lv' := [(2, .int v5), (0, .ref x0), (1, .int x1)]) hx hb dX22_keeps_14 rfl hl (by decide) rfl (fun ls hl => ?_)
  refine lv_iload_n hx hb dX22_keeps_15 rfl (lv_at hl 0 rfl) ?_
  refine lv_aload_n hx hb dX22_keeps_16 rfl (lv_at hl 1 rfl) ?_
  refine lv_iconst (v := 2) hx hb dX22_keeps_17 rfl ?_
  obtain ⟨f10, h11, hf⟩ := hf
  refine g_runi (rOv (x := ⟨"PointsForAll$Black", "lends", "(I)I"⟩) (owner := "PointsForAll$Changed") [.int (2 : Int32)] [.int v5] K kY20 hM hl h11 (c_X19_lends_c20 l r A _ _ _ _ hf) q1172 q1173 q1176 q1177 q1175 q1176 q115 q1177 hdo_Changed_lends ⟨Nat.le_of_ble_eq_true rfl, Nat.le_of_ble_eq_true rfl⟩ ⟨Nat.le_refl _, Nat.le_refl _⟩ rfl (Nat.le_of_ble_eq_true rfl) dX22_keeps_18) hM (fun σ8 v9 H locs hf hM => ?_)
  refine lv_iadd hx hb dX22_keeps_21 ?_
  exact g_reti K hr hM ⟨Nat.le_refl _, Nat.le_refl _⟩ hf dX22_keeps_22
def gPB_keeps (l : Launch) (r : GR) (A : Nat → Prop) (σ : GS) (x0 : Nat) (x1 : Int32) (P : GS → Int32 → Prop) : Prop :=
    ((∃ fs : List Value, gO σ x0 = some (.inr (13, fs))) ∧ gMet dX l yX15_keeps cX15_keeps 2 (some .int) 2 42 0 0 r A σ (.ref x0 :: [.int x1]) (zI P)) ∨
    ((∃ fs : List Value, gO σ x0 = some (.inr (14, fs))) ∧ gMet dX l yX15_keeps cX15_keeps 2 (some .int) 3 63 0 0 r A σ (.ref x0 :: [.int x1]) (zI P)) ∨
    ((∃ fs : List Value, gO σ x0 = some (.inr (15, fs))) ∧ gMet dX l yX17_keeps cX17_keeps 2 (some .int) 3 63 0 0 r A σ (.ref x0 :: [.int x1]) (zI P)) ∨
    ((∃ fs : List Value, gO σ x0 = some (.inr (16, fs))) ∧ gMet dX l yX17_keeps cX17_keeps 2 (some .int) 3 63 0 0 r A σ (.ref x0 :: [.int x1]) (zI P)) ∨
    ((∃ fs : List Value, gO σ x0 = some (.inr (17, fs))) ∧ gMet dX l yX17_keeps cX17_keeps 2 (some .int) 3 63 0 0 r A σ (.ref x0 :: [.int x1]) (zI P)) ∨
    ((∃ fs : List Value, gO σ x0 = some (.inr (18, fs))) ∧ gMet dX l yX17_keeps cX17_keeps 2 (some .int) 4 84 0 0 r A σ (.ref x0 :: [.int x1]) (zI P)) ∨
    ((∃ fs : List Value, gO σ x0 = some (.inr (19, fs))) ∧ gMet dX l yX15_keeps cX15_keeps 2 (some .int) 3 63 0 0 r A σ (.ref x0 :: [.int x1]) (zI P)) ∨
    ((∃ fs : List Value, gO σ x0 = some (.inr (20, fs))) ∧ gMet dX l yX22_keeps cX22_keeps 3 (some .int) 4 84 0 0 r A σ (.ref x0 :: [.int x1]) (zI P))
theorem c_PB_keeps (l : Launch) (r : GR) (A : Nat → Prop) (σ : GS) (x0 : Nat) (x1 : Int32) (P : GS → Int32 → Prop) (hf : f_PB_keeps r σ x0 x1 P) : gPB_keeps l r A σ x0 x1 P := by
  rcases hf with ⟨fs, hb, hf⟩ | ⟨fs, hb, hf⟩ | ⟨fs, hb, hf⟩ | ⟨fs, hb, hf⟩ | ⟨fs, hb, hf⟩ | ⟨fs, hb, hf⟩ | ⟨fs, hb, hf⟩ | ⟨fs, hb, hf⟩
  · exact Or.inl ⟨⟨fs, hb⟩, c_X15_keeps_c13 l r A σ x0 x1 P hf⟩
  · exact Or.inr (Or.inl ⟨⟨fs, hb⟩, c_X15_keeps_c14 l r A σ x0 x1 P hf⟩)
  · exact Or.inr (Or.inr (Or.inl ⟨⟨fs, hb⟩, c_X17_keeps_c15 l r A σ x0 x1 P hf⟩))
  · exact Or.inr (Or.inr (Or.inr (Or.inl ⟨⟨fs, hb⟩, c_X17_keeps_c16 l r A σ x0 x1 P hf⟩)))
  · exact Or.inr (Or.inr (Or.inr (Or.inr (Or.inl ⟨⟨fs, hb⟩, c_X17_keeps_c17 l r A σ x0 x1 P hf⟩))))
  · exact Or.inr (Or.inr (Or.inr (Or.inr (Or.inr (Or.inl ⟨⟨fs, hb⟩, c_X17_keeps_c18 l r A σ x0 x1 P hf⟩)))))
  · exact Or.inr (Or.inr (Or.inr (Or.inr (Or.inr (Or.inr (Or.inl ⟨⟨fs, hb⟩, c_X15_keeps_c19 l r A σ x0 x1 P hf⟩))))))
  · exact Or.inr (Or.inr (Or.inr (Or.inr (Or.inr (Or.inr (Or.inr (⟨⟨fs, hb⟩, c_X22_keeps_c20 l r A σ x0 x1 P hf⟩)))))))
theorem rPB_keeps {p : Program} {l : Launch} {e : Env} {R : Room} {s : State} {m : MethodId} {args : Array Value} {below : List Frame} {meth : Method} {c : Code} {H : Heap} {locs : List Loc} {cells slots : Nat} {cc : ByteArray} {nL pc index : Nat} {ls : Array Slot} {own : String} {r : GR} {A : Nat → Prop} {σ : GS} {x0 : Nat} {x1 : Int32} {P : GS → Int32 → Prop} {lv : List (Nat × Value)} {st0 : List Value} (rest : List Value) (K : gC p s m args meth c cc nL own r A) (hM : gM dX r A σ s.heap H locs) (hl : lv_has ls nL lv) (Y : gPB_keeps l r A σ x0 x1 P) (h1 : Cond.methodLink own index ({ cls := "PointsForAll$Purse", name := "keeps", desc := "(I)I" } : MethodName) ∈ lw_all) (hR : 4 + 1 ≤ R.frames ∧ 8 + (3 + 11) + 84 ≤ R.locals) (hf : cells + 0 ≤ R.cells ∧ slots + 0 ≤ R.slots) (hst : st0 = [.int x1] ++ .ref x0 :: rest) (hw : (rest.map fun v => v.category).sum ≤ 8) (hdg : decode cc pc = .ok (.invokevirtual index, 3)) :
    va_Run p l e R s m args below meth c H locs cells slots 0 0 (F0 m pc ls st0) rest (gEnd dX r A (zI P) (Value.ref x0 :: [.int x1]).toArray) A := by
  rcases Y with ⟨⟨fs, hb⟩, Y⟩ | ⟨⟨fs, hb⟩, Y⟩ | ⟨⟨fs, hb⟩, Y⟩ | ⟨⟨fs, hb⟩, Y⟩ | ⟨⟨fs, hb⟩, Y⟩ | ⟨⟨fs, hb⟩, Y⟩ | ⟨⟨fs, hb⟩, Y⟩ | ⟨⟨fs, hb⟩, Y⟩
  · exact rOv (x := ({ cls := "PointsForAll$Purse", name := "keeps", desc := "(I)I" } : MethodName)) (owner := "PointsForAll$Purse") [.int x1] rest K kY13 hM hl hb Y h1 q1159 q1157 q1193 q1158 q1157 q111 q1193 hdo_Purse_keeps ⟨Nat.le_trans (by omega) hR.1, Nat.le_trans (by omega) hR.2⟩ hf hst hw hdg
  · exact rOv (x := ({ cls := "PointsForAll$Purse", name := "keeps", desc := "(I)I" } : MethodName)) (owner := "PointsForAll$Purse") [.int x1] rest K kY14 hM hl hb Y h1 q1159 q1157 q1193 q1189 q1157 q111 q1193 hdo_Purse_keeps ⟨Nat.le_trans (by omega) hR.1, Nat.le_trans (by omega) hR.2⟩ hf hst hw hdg
  · exact rOv (x := ({ cls := "PointsForAll$Purse", name := "keeps", desc := "(I)I" } : MethodName)) (owner := "PointsForAll$Purse") [.int x1] rest K kY15 hM hl hb Y h1 q1159 q1157 q1193 q1191 q1161 q113 q1162 hdo_Purse_keeps ⟨Nat.le_trans (by omega) hR.1, Nat.le_trans (by omega) hR.2⟩ hf hst hw hdg
  · exact rOv (x := ({ cls := "PointsForAll$Purse", name := "keeps", desc := "(I)I" } : MethodName)) (owner := "PointsForAll$Purse") [.int x1] rest K kY16 hM hl hb Y h1 q1159 q1157 q1193 q1190 q1161 q113 q1162 hdo_Purse_keeps ⟨Nat.le_trans (by omega) hR.1, Nat.le_trans (by omega) hR.2⟩ hf hst hw hdg
  · exact rOv (x := ({ cls := "PointsForAll$Purse", name := "keeps", desc := "(I)I" } : MethodName)) (owner := "PointsForAll$Purse") [.int x1] rest K kY17 hM hl hb Y h1 q1159 q1157 q1193 q1188 q1161 q113 q1162 hdo_Purse_keeps ⟨Nat.le_trans (by omega) hR.1, Nat.le_trans (by omega) hR.2⟩ hf hst hw hdg
  · exact rOv (x := ({ cls := "PointsForAll$Purse", name := "keeps", desc := "(I)I" } : MethodName)) (owner := "PointsForAll$Purse") [.int x1] rest K kY18 hM hl hb Y h1 q1159 q1157 q1193 q1160 q1161 q113 q1162 hdo_Purse_keeps ⟨Nat.le_trans (by omega) hR.1, Nat.le_trans (by omega) hR.2⟩ hf hst hw hdg
  · exact rOv (x := ({ cls := "PointsForAll$Purse", name := "keeps", desc := "(I)I" } : MethodName)) (owner := "PointsForAll$Purse") [.int x1] rest K kY19 hM hl hb Y h1 q1159 q1157 q1193 q1192 q1157 q111 q1193 hdo_Purse_keeps ⟨Nat.le_trans (by omega) hR.1, Nat.le_trans (by omega) hR.2⟩ hf hst hw hdg
  · exact rOv (x := ({ cls := "PointsForAll$Purse", name := "keeps", desc := "(I)I" } : MethodName)) (owner := "PointsForAll$Purse") [.int x1] rest K kY20 hM hl hb Y h1 q1159 q1157 q1193 q1165 q1166 q118 q1167 hdo_Purse_keeps ⟨Nat.le_trans (by omega) hR.1, Nat.le_trans (by omega) hR.2⟩ hf hst hw hdg
theorem c_X15_lends_c13 (l : Launch) (r : GR) (A : Nat → Prop) (σ : GS) (x0 : Nat) (x1 : Int32) (P : GS → Int32 → Prop) (hf : f_X15_lends_c13 r σ x0 x1 P) : gMet dX l yX15_lends cX15_lends 2 (some .int) 1 21 0 0 r A σ [.ref x0, .int x1] (zI P) := by
  refine g_enter (lv := [(0, .ref x0), (1, .int x1)]) (by decide) (Nat.le_of_ble_eq_true rfl) rfl ?_
  intro p e s m below meth c ls K hr hM hl hi
  obtain ⟨hx, hb, hml, hown, hts, hlk, hKK, hA⟩ := id K
  unfold f_X15_lends_c13 at hf
  refine lv_aload_n hx hb dX15_lends_0 rfl (lv_at hl 0 rfl) ?_
  obtain ⟨h1, hf⟩ := hf
  refine p_get K kY13 hM 1 rfl q990 rfl dX15_lends_1 h1 ?_
  refine lv_bipush (v := 11) hx hb dX15_lends_4 rfl ?_
  refine g_runv (rVN [.int (11 : Int32)] [] K kX hM hl (c_X0_ran l r A _ _ _ hf) q1108 q1101 qs39 q82 q1102 hdX0_ran.2 ⟨Nat.le_of_ble_eq_true rfl, Nat.le_of_ble_eq_true rfl⟩ ⟨Nat.le_refl _, Nat.le_refl _⟩ rfl (Nat.le_of_ble_eq_true rfl) dX15_lends_6) hM (fun σ2 H locs hf hM => ?_)
  refine lv_iload_n hx hb dX15_lends_9 rfl (lv_at hl 1 rfl) ?_
  refine lv_aload_n hx hb dX15_lends_10 rfl (lv_at hl 0 rfl) ?_
  obtain ⟨v5, h4, hf⟩ := hf
  refine p_get K kY13 hM 0 rfl q989 rfl dX15_lends_11 h4 ?_
  refine lv_ixor hx hb dX15_lends_14 ?_
  exact g_reti K hr hM ⟨Nat.le_refl _, Nat.le_refl _⟩ hf dX15_lends_15
theorem c_X15_lends_c14 (l : Launch) (r : GR) (A : Nat → Prop) (σ : GS) (x0 : Nat) (x1 : Int32) (P : GS → Int32 → Prop) (hf : f_X15_lends_c14 r σ x0 x1 P) : gMet dX l yX15_lends cX15_lends 2 (some .int) 1 21 0 0 r A σ [.ref x0, .int x1] (zI P) := by
  refine g_enter (lv := [(0, .ref x0), (1, .int x1)]) (by decide) (Nat.le_of_ble_eq_true rfl) rfl ?_
  intro p e s m below meth c ls K hr hM hl hi
  obtain ⟨hx, hb, hml, hown, hts, hlk, hKK, hA⟩ := id K
  unfold f_X15_lends_c14 at hf
  refine lv_aload_n hx hb dX15_lends_0 rfl (lv_at hl 0 rfl) ?_
  obtain ⟨h1, hf⟩ := hf
  refine p_get K kY14 hM 1 rfl q990 rfl dX15_lends_1 h1 ?_
  refine lv_bipush (v := 11) hx hb dX15_lends_4 rfl ?_
  refine g_runv (rVN [.int (11 : Int32)] [] K kX hM hl (c_X0_ran l r A _ _ _ hf) q1108 q1101 qs39 q82 q1102 hdX0_ran.2 ⟨Nat.le_of_ble_eq_true rfl, Nat.le_of_ble_eq_true rfl⟩ ⟨Nat.le_refl _, Nat.le_refl _⟩ rfl (Nat.le_of_ble_eq_true rfl) dX15_lends_6) hM (fun σ2 H locs hf hM => ?_)
  refine lv_iload_n hx hb dX15_lends_9 rfl (lv_at hl 1 rfl) ?_
  refine lv_aload_n hx hb dX15_lends_10 rfl (lv_at hl 0 rfl) ?_
  obtain ⟨v5, h4, hf⟩ := hf
  refine p_get K kY14 hM 0 rfl q989 rfl dX15_lends_11 h4 ?_
  refine lv_ixor hx hb dX15_lends_14 ?_
  exact g_reti K hr hM ⟨Nat.le_refl _, Nat.le_refl _⟩ hf dX15_lends_15
theorem c_X15_lends_c15 (l : Launch) (r : GR) (A : Nat → Prop) (σ : GS) (x0 : Nat) (x1 : Int32) (P : GS → Int32 → Prop) (hf : f_X15_lends_c15 r σ x0 x1 P) : gMet dX l yX15_lends cX15_lends 2 (some .int) 1 21 0 0 r A σ [.ref x0, .int x1] (zI P) := by
  refine g_enter (lv := [(0, .ref x0), (1, .int x1)]) (by decide) (Nat.le_of_ble_eq_true rfl) rfl ?_
  intro p e s m below meth c ls K hr hM hl hi
  obtain ⟨hx, hb, hml, hown, hts, hlk, hKK, hA⟩ := id K
  unfold f_X15_lends_c15 at hf
  refine lv_aload_n hx hb dX15_lends_0 rfl (lv_at hl 0 rfl) ?_
  obtain ⟨h1, hf⟩ := hf
  refine p_get K kY15 hM 1 rfl q990 rfl dX15_lends_1 h1 ?_
  refine lv_bipush (v := 11) hx hb dX15_lends_4 rfl ?_
  refine g_runv (rVN [.int (11 : Int32)] [] K kX hM hl (c_X0_ran l r A _ _ _ hf) q1108 q1101 qs39 q82 q1102 hdX0_ran.2 ⟨Nat.le_of_ble_eq_true rfl, Nat.le_of_ble_eq_true rfl⟩ ⟨Nat.le_refl _, Nat.le_refl _⟩ rfl (Nat.le_of_ble_eq_true rfl) dX15_lends_6) hM (fun σ2 H locs hf hM => ?_)
  refine lv_iload_n hx hb dX15_lends_9 rfl (lv_at hl 1 rfl) ?_
  refine lv_aload_n hx hb dX15_lends_10 rfl (lv_at hl 0 rfl) ?_
  obtain ⟨v5, h4, hf⟩ := hf
  refine p_get K kY15 hM 0 rfl q989 rfl dX15_lends_11 h4 ?_
  refine lv_ixor hx hb dX15_lends_14 ?_
  exact g_reti K hr hM ⟨Nat.le_refl _, Nat.le_refl _⟩ hf dX15_lends_15
theorem c_X15_lends_c19 (l : Launch) (r : GR) (A : Nat → Prop) (σ : GS) (x0 : Nat) (x1 : Int32) (P : GS → Int32 → Prop) (hf : f_X15_lends_c19 r σ x0 x1 P) : gMet dX l yX15_lends cX15_lends 2 (some .int) 1 21 0 0 r A σ [.ref x0, .int x1] (zI P) := by
  refine g_enter (lv := [(0, .ref x0), (1, .int x1)]) (by decide) (Nat.le_of_ble_eq_true rfl) rfl ?_
  intro p e s m below meth c ls K hr hM hl hi
  obtain ⟨hx, hb, hml, hown, hts, hlk, hKK, hA⟩ := id K
  unfold f_X15_lends_c19 at hf
  refine lv_aload_n hx hb dX15_lends_0 rfl (lv_at hl 0 rfl) ?_
  obtain ⟨h1, hf⟩ := hf
  refine p_get K kY19 hM 1 rfl q990 rfl dX15_lends_1 h1 ?_
  refine lv_bipush (v := 11) hx hb dX15_lends_4 rfl ?_
  refine g_runv (rVN [.int (11 : Int32)] [] K kX hM hl (c_X0_ran l r A _ _ _ hf) q1108 q1101 qs39 q82 q1102 hdX0_ran.2 ⟨Nat.le_of_ble_eq_true rfl, Nat.le_of_ble_eq_true rfl⟩ ⟨Nat.le_refl _, Nat.le_refl _⟩ rfl (Nat.le_of_ble_eq_true rfl) dX15_lends_6) hM (fun σ2 H locs hf hM => ?_)
  refine lv_iload_n hx hb dX15_lends_9 rfl (lv_at hl 1 rfl) ?_
  refine lv_aload_n hx hb dX15_lends_10 rfl (lv_at hl 0 rfl) ?_
  obtain ⟨v5, h4, hf⟩ := hf
  refine p_get K kY19 hM 0 rfl q989 rfl dX15_lends_11 h4 ?_
  refine lv_ixor hx hb dX15_lends_14 ?_
  exact g_reti K hr hM ⟨Nat.le_refl _, Nat.le_refl _⟩ hf dX15_lends_15
theorem c_X15_lends_c16 (l : Launch) (r : GR) (A : Nat → Prop) (σ : GS) (x0 : Nat) (x1 : Int32) (P : GS → Int32 → Prop) (hf : f_X15_lends_c16 r σ x0 x1 P) : gMet dX l yX15_lends cX15_lends 2 (some .int) 1 21 0 0 r A σ [.ref x0, .int x1] (zI P) := by
  refine g_enter (lv := [(0, .ref x0), (1, .int x1)]) (by decide) (Nat.le_of_ble_eq_true rfl) rfl ?_
  intro p e s m below meth c ls K hr hM hl hi
  obtain ⟨hx, hb, hml, hown, hts, hlk, hKK, hA⟩ := id K
  unfold f_X15_lends_c16 at hf
  refine lv_aload_n hx hb dX15_lends_0 rfl (lv_at hl 0 rfl) ?_
  obtain ⟨h1, hf⟩ := hf
  refine p_get K kY16 hM 1 rfl q990 rfl dX15_lends_1 h1 ?_
  refine lv_bipush (v := 11) hx hb dX15_lends_4 rfl ?_
  refine g_runv (rVN [.int (11 : Int32)] [] K kX hM hl (c_X0_ran l r A _ _ _ hf) q1108 q1101 qs39 q82 q1102 hdX0_ran.2 ⟨Nat.le_of_ble_eq_true rfl, Nat.le_of_ble_eq_true rfl⟩ ⟨Nat.le_refl _, Nat.le_refl _⟩ rfl (Nat.le_of_ble_eq_true rfl) dX15_lends_6) hM (fun σ2 H locs hf hM => ?_)
  refine lv_iload_n hx hb dX15_lends_9 rfl (lv_at hl 1 rfl) ?_
  refine lv_aload_n hx hb dX15_lends_10 rfl (lv_at hl 0 rfl) ?_
  obtain ⟨v5, h4, hf⟩ := hf
  refine p_get K kY16 hM 0 rfl q989 rfl dX15_lends_11 h4 ?_
  refine lv_ixor hx hb dX15_lends_14 ?_
  exact g_reti K hr hM ⟨Nat.le_refl _, Nat.le_refl _⟩ hf dX15_lends_15
theorem c_X18_lends_c16 (l : Launch) (r : GR) (A : Nat → Prop) (σ : GS) (x0 : Nat) (x1 : Int32) (P : GS → Int32 → Prop) (hf : f_X18_lends_c16 r σ x0 x1 P) : gMet dX l yX18_lends cX18_lends 2 (some .int) 2 42 0 0 r A σ [.ref x0, .int x1] (zI P) := by
  refine g_enter (lv := [(0, .ref x0), (1, .int x1)]) (by decide) (Nat.le_of_ble_eq_true rfl) rfl ?_
  intro p e s m below meth c ls K hr hM hl hi
  obtain ⟨hx, hb, hml, hown, hts, hlk, hKK, hA⟩ := id K
  unfold f_X18_lends_c16 at hf
  refine lv_aload_n hx hb dX18_lends_0 rfl (lv_at hl 0 rfl) ?_
  obtain ⟨h1, hf⟩ := hf
  refine p_get K kY16 hM 3 rfl q1016 rfl dX18_lends_1 h1 ?_
  refine lv_bipush (v := 40) hx hb dX18_lends_4 rfl ?_
  refine g_runv (rVN [.int (40 : Int32)] [] K kX hM hl (c_X0_ran l r A _ _ _ hf) q1198 q1101 qs39 q82 q1102 hdX0_ran.2 ⟨Nat.le_of_ble_eq_true rfl, Nat.le_of_ble_eq_true rfl⟩ ⟨Nat.le_refl _, Nat.le_refl _⟩ rfl (Nat.le_of_ble_eq_true rfl) dX18_lends_6) hM (fun σ2 H locs hf hM => ?_)
  refine lv_aload_n hx hb dX18_lends_9 rfl (lv_at hl 0 rfl) ?_
  refine lv_iload_n hx hb dX18_lends_10 rfl (lv_at hl 1 rfl) ?_
  obtain ⟨f6, h7, hf⟩ := hf
  refine g_runi (rSup (x := ⟨"PointsForAll$Points", "lends", "(I)I"⟩) [.int x1] [] K kY16 hM hl h7 (c_X15_lends_c16 l r A _ _ _ _ hf) q1199 q1180 q1022 q1182 q111 q1183 (under_1 hts q1009) rfl hds_lends ⟨Nat.le_of_ble_eq_true rfl, Nat.le_of_ble_eq_true rfl⟩ ⟨Nat.le_refl _, Nat.le_refl _⟩ rfl (Nat.le_of_ble_eq_true rfl) dX18_lends_11) hM (fun σ4 v5 H locs hf hM => ?_)
  refine lv_iconst (v := 3) hx hb dX18_lends_14 rfl ?_
  refine lv_imul hx hb dX18_lends_15 ?_
  exact g_reti K hr hM ⟨Nat.le_refl _, Nat.le_refl _⟩ hf dX18_lends_16
theorem c_X15_lends_c18 (l : Launch) (r : GR) (A : Nat → Prop) (σ : GS) (x0 : Nat) (x1 : Int32) (P : GS → Int32 → Prop) (hf : f_X15_lends_c18 r σ x0 x1 P) : gMet dX l yX15_lends cX15_lends 2 (some .int) 1 21 0 0 r A σ [.ref x0, .int x1] (zI P) := by
  refine g_enter (lv := [(0, .ref x0), (1, .int x1)]) (by decide) (Nat.le_of_ble_eq_true rfl) rfl ?_
  intro p e s m below meth c ls K hr hM hl hi
  obtain ⟨hx, hb, hml, hown, hts, hlk, hKK, hA⟩ := id K
  unfold f_X15_lends_c18 at hf
  refine lv_aload_n hx hb dX15_lends_0 rfl (lv_at hl 0 rfl) ?_
  obtain ⟨h1, hf⟩ := hf
  refine p_get K kY18 hM 1 rfl q990 rfl dX15_lends_1 h1 ?_
  refine lv_bipush (v := 11) hx hb dX15_lends_4 rfl ?_
  refine g_runv (rVN [.int (11 : Int32)] [] K kX hM hl (c_X0_ran l r A _ _ _ hf) q1108 q1101 qs39 q82 q1102 hdX0_ran.2 ⟨Nat.le_of_ble_eq_true rfl, Nat.le_of_ble_eq_true rfl⟩ ⟨Nat.le_refl _, Nat.le_refl _⟩ rfl (Nat.le_of_ble_eq_true rfl) dX15_lends_6) hM (fun σ2 H locs hf hM => ?_)
  refine lv_iload_n hx hb dX15_lends_9 rfl (lv_at hl 1 rfl) ?_
  refine lv_aload_n hx hb dX15_lends_10 rfl (lv_at hl 0 rfl) ?_
  obtain ⟨v5, h4, hf⟩ := hf
  refine p_get K kY18 hM 0 rfl q989 rfl dX15_lends_11 h4 ?_
  refine lv_ixor hx hb dX15_lends_14 ?_
  exact g_reti K hr hM ⟨Nat.le_refl _, Nat.le_refl _⟩ hf dX15_lends_15
theorem c_X18_lends_c18 (l : Launch) (r : GR) (A : Nat → Prop) (σ : GS) (x0 : Nat) (x1 : Int32) (P : GS → Int32 → Prop) (hf : f_X18_lends_c18 r σ x0 x1 P) : gMet dX l yX18_lends cX18_lends 2 (some .int) 2 42 0 0 r A σ [.ref x0, .int x1] (zI P) := by
  refine g_enter (lv := [(0, .ref x0), (1, .int x1)]) (by decide) (Nat.le_of_ble_eq_true rfl) rfl ?_
  intro p e s m below meth c ls K hr hM hl hi
  obtain ⟨hx, hb, hml, hown, hts, hlk, hKK, hA⟩ := id K
  unfold f_X18_lends_c18 at hf
  refine lv_aload_n hx hb dX18_lends_0 rfl (lv_at hl 0 rfl) ?_
  obtain ⟨h1, hf⟩ := hf
  refine p_get K kY18 hM 3 rfl q1016 rfl dX18_lends_1 h1 ?_
  refine lv_bipush (v := 40) hx hb dX18_lends_4 rfl ?_
  refine g_runv (rVN [.int (40 : Int32)] [] K kX hM hl (c_X0_ran l r A _ _ _ hf) q1198 q1101 qs39 q82 q1102 hdX0_ran.2 ⟨Nat.le_of_ble_eq_true rfl, Nat.le_of_ble_eq_true rfl⟩ ⟨Nat.le_refl _, Nat.le_refl _⟩ rfl (Nat.le_of_ble_eq_true rfl) dX18_lends_6) hM (fun σ2 H locs hf hM => ?_)
  refine lv_aload_n hx hb dX18_lends_9 rfl (lv_at hl 0 rfl) ?_
  refine lv_iload_n hx hb dX18_lends_10 rfl (lv_at hl 1 rfl) ?_
  obtain ⟨f6, h7, hf⟩ := hf
  refine g_runi (rSup (x := ⟨"PointsForAll$Points", "lends", "(I)I"⟩) [.int x1] [] K kY18 hM hl h7 (c_X15_lends_c18 l r A _ _ _ _ hf) q1199 q1180 q1022 q1182 q111 q1183 (under_1 hts q1009) rfl hds_lends ⟨Nat.le_of_ble_eq_true rfl, Nat.le_of_ble_eq_true rfl⟩ ⟨Nat.le_refl _, Nat.le_refl _⟩ rfl (Nat.le_of_ble_eq_true rfl) dX18_lends_11) hM (fun σ4 v5 H locs hf hM => ?_)
  refine lv_iconst (v := 3) hx hb dX18_lends_14 rfl ?_
  refine lv_imul hx hb dX18_lends_15 ?_
  exact g_reti K hr hM ⟨Nat.le_refl _, Nat.le_refl _⟩ hf dX18_lends_16
theorem c_X15_lends_c17 (l : Launch) (r : GR) (A : Nat → Prop) (σ : GS) (x0 : Nat) (x1 : Int32) (P : GS → Int32 → Prop) (hf : f_X15_lends_c17 r σ x0 x1 P) : gMet dX l yX15_lends cX15_lends 2 (some .int) 1 21 0 0 r A σ [.ref x0, .int x1] (zI P) := by
  refine g_enter (lv := [(0, .ref x0), (1, .int x1)]) (by decide) (Nat.le_of_ble_eq_true rfl) rfl ?_
  intro p e s m below meth c ls K hr hM hl hi
  obtain ⟨hx, hb, hml, hown, hts, hlk, hKK, hA⟩ := id K
  unfold f_X15_lends_c17 at hf
  refine lv_aload_n hx hb dX15_lends_0 rfl (lv_at hl 0 rfl) ?_
  obtain ⟨h1, hf⟩ := hf
  refine p_get K kY17 hM 1 rfl q990 rfl dX15_lends_1 h1 ?_
  refine lv_bipush (v := 11) hx hb dX15_lends_4 rfl ?_
  refine g_runv (rVN [.int (11 : Int32)] [] K kX hM hl (c_X0_ran l r A _ _ _ hf) q1108 q1101 qs39 q82 q1102 hdX0_ran.2 ⟨Nat.le_of_ble_eq_true rfl, Nat.le_of_ble_eq_true rfl⟩ ⟨Nat.le_refl _, Nat.le_refl _⟩ rfl (Nat.le_of_ble_eq_true rfl) dX15_lends_6) hM (fun σ2 H locs hf hM => ?_)
  refine lv_iload_n hx hb dX15_lends_9 rfl (lv_at hl 1 rfl) ?_
  refine lv_aload_n hx hb dX15_lends_10 rfl (lv_at hl 0 rfl) ?_
  obtain ⟨v5, h4, hf⟩ := hf
  refine p_get K kY17 hM 0 rfl q989 rfl dX15_lends_11 h4 ?_
  refine lv_ixor hx hb dX15_lends_14 ?_
  exact g_reti K hr hM ⟨Nat.le_refl _, Nat.le_refl _⟩ hf dX15_lends_15
theorem c_X19_lends_c17 (l : Launch) (r : GR) (A : Nat → Prop) (σ : GS) (x0 : Nat) (x1 : Int32) (P : GS → Int32 → Prop) (hf : f_X19_lends_c17 r σ x0 x1 P) : gMet dX l yX19_lends cX19_lends 3 (some .int) 2 42 0 0 r A σ [.ref x0, .int x1] (zI P) := by
  refine g_enter (lv := [(0, .ref x0), (1, .int x1)]) (by decide) (Nat.le_of_ble_eq_true rfl) rfl ?_
  intro p e s m below meth c ls K hr hM hl hi
  obtain ⟨hx, hb, hml, hown, hts, hlk, hKK, hA⟩ := id K
  unfold f_X19_lends_c17 at hf
  refine lv_aload_n hx hb dX19_lends_0 rfl (lv_at hl 0 rfl) ?_
  obtain ⟨h1, hf⟩ := hf
  refine p_get K kY17 hM 3 rfl q1029 rfl dX19_lends_1 h1 ?_
  refine lv_bipush (v := 50) hx hb dX19_lends_4 rfl ?_
  refine g_runv (rVN [.int (50 : Int32)] [] K kX hM hl (c_X0_ran l r A _ _ _ hf) q1178 q1101 qs39 q82 q1102 hdX0_ran.2 ⟨Nat.le_of_ble_eq_true rfl, Nat.le_of_ble_eq_true rfl⟩ ⟨Nat.le_refl _, Nat.le_refl _⟩ rfl (Nat.le_of_ble_eq_true rfl) dX19_lends_6) hM (fun σ2 H locs hf hM => ?_)
  refine lv_aload_n hx hb dX19_lends_9 rfl (lv_at hl 0 rfl) ?_
  refine lv_iload_n hx hb dX19_lends_10 rfl (lv_at hl 1 rfl) ?_
  obtain ⟨f6, h7, hf⟩ := hf
  refine g_runi (rSup (x := ⟨"PointsForAll$Points", "lends", "(I)I"⟩) [.int x1] [] K kY17 hM hl h7 (c_X15_lends_c17 l r A _ _ _ _ hf) q1179 q1180 q1035 q1182 q111 q1183 (under_1 hts q1009) rfl hds_lends ⟨Nat.le_of_ble_eq_true rfl, Nat.le_of_ble_eq_true rfl⟩ ⟨Nat.le_refl _, Nat.le_refl _⟩ rfl (Nat.le_of_ble_eq_true rfl) dX19_lends_11) hM (fun σ4 v5 H locs hf hM => ?_)
  refine lv_istore_n (lv' := [(2, .int v5), (0, .ref x0), (1, .int x1)]) hx hb dX19_lends_14 rfl hl (by decide) rfl (fun ls hl => ?_)
  refine lv_iload_n hx hb dX19_lends_15 rfl (lv_at hl 0 rfl) ?_
  refine lv_aload_n hx hb dX19_lends_16 rfl (lv_at hl 1 rfl) ?_
  refine lv_iconst (v := 2) hx hb dX19_lends_17 rfl ?_
  obtain ⟨f10, h11, hf⟩ := hf
  refine g_runi (rOv (x := ⟨"PointsForAll$Changed", "buys", "(I)I"⟩) (owner := "PointsForAll$Purse") [.int (2 : Int32)] [.int v5] K kY17 hM hl h11 (c_X15_buys_c17 l r A _ _ _ _ hf) q1184 q1185 q1106 q1107 q1187 q1106 q111 q1107 hdo_Purse_buys ⟨Nat.le_of_ble_eq_true rfl, Nat.le_of_ble_eq_true rfl⟩ ⟨Nat.le_refl _, Nat.le_refl _⟩ rfl (Nat.le_of_ble_eq_true rfl) dX19_lends_18) hM (fun σ8 v9 H locs hf hM => ?_)
  refine lv_isub hx hb dX19_lends_21 ?_
  exact g_reti K hr hM ⟨Nat.le_refl _, Nat.le_refl _⟩ hf dX19_lends_22
def gPB_lends (l : Launch) (r : GR) (A : Nat → Prop) (σ : GS) (x0 : Nat) (x1 : Int32) (P : GS → Int32 → Prop) : Prop :=
    ((∃ fs : List Value, gO σ x0 = some (.inr (13, fs))) ∧ gMet dX l yX15_lends cX15_lends 2 (some .int) 1 21 0 0 r A σ (.ref x0 :: [.int x1]) (zI P)) ∨
    ((∃ fs : List Value, gO σ x0 = some (.inr (14, fs))) ∧ gMet dX l yX15_lends cX15_lends 2 (some .int) 1 21 0 0 r A σ (.ref x0 :: [.int x1]) (zI P)) ∨
    ((∃ fs : List Value, gO σ x0 = some (.inr (15, fs))) ∧ gMet dX l yX15_lends cX15_lends 2 (some .int) 1 21 0 0 r A σ (.ref x0 :: [.int x1]) (zI P)) ∨
    ((∃ fs : List Value, gO σ x0 = some (.inr (16, fs))) ∧ gMet dX l yX18_lends cX18_lends 2 (some .int) 2 42 0 0 r A σ (.ref x0 :: [.int x1]) (zI P)) ∨
    ((∃ fs : List Value, gO σ x0 = some (.inr (17, fs))) ∧ gMet dX l yX19_lends cX19_lends 3 (some .int) 2 42 0 0 r A σ (.ref x0 :: [.int x1]) (zI P)) ∨
    ((∃ fs : List Value, gO σ x0 = some (.inr (18, fs))) ∧ gMet dX l yX18_lends cX18_lends 2 (some .int) 2 42 0 0 r A σ (.ref x0 :: [.int x1]) (zI P)) ∨
    ((∃ fs : List Value, gO σ x0 = some (.inr (19, fs))) ∧ gMet dX l yX15_lends cX15_lends 2 (some .int) 1 21 0 0 r A σ (.ref x0 :: [.int x1]) (zI P)) ∨
    ((∃ fs : List Value, gO σ x0 = some (.inr (20, fs))) ∧ gMet dX l yX19_lends cX19_lends 3 (some .int) 2 42 0 0 r A σ (.ref x0 :: [.int x1]) (zI P))
theorem c_PB_lends (l : Launch) (r : GR) (A : Nat → Prop) (σ : GS) (x0 : Nat) (x1 : Int32) (P : GS → Int32 → Prop) (hf : f_PB_lends r σ x0 x1 P) : gPB_lends l r A σ x0 x1 P := by
  rcases hf with ⟨fs, hb, hf⟩ | ⟨fs, hb, hf⟩ | ⟨fs, hb, hf⟩ | ⟨fs, hb, hf⟩ | ⟨fs, hb, hf⟩ | ⟨fs, hb, hf⟩ | ⟨fs, hb, hf⟩ | ⟨fs, hb, hf⟩
  · exact Or.inl ⟨⟨fs, hb⟩, c_X15_lends_c13 l r A σ x0 x1 P hf⟩
  · exact Or.inr (Or.inl ⟨⟨fs, hb⟩, c_X15_lends_c14 l r A σ x0 x1 P hf⟩)
  · exact Or.inr (Or.inr (Or.inl ⟨⟨fs, hb⟩, c_X15_lends_c15 l r A σ x0 x1 P hf⟩))
  · exact Or.inr (Or.inr (Or.inr (Or.inl ⟨⟨fs, hb⟩, c_X18_lends_c16 l r A σ x0 x1 P hf⟩)))
  · exact Or.inr (Or.inr (Or.inr (Or.inr (Or.inl ⟨⟨fs, hb⟩, c_X19_lends_c17 l r A σ x0 x1 P hf⟩))))
  · exact Or.inr (Or.inr (Or.inr (Or.inr (Or.inr (Or.inl ⟨⟨fs, hb⟩, c_X18_lends_c18 l r A σ x0 x1 P hf⟩)))))
  · exact Or.inr (Or.inr (Or.inr (Or.inr (Or.inr (Or.inr (Or.inl ⟨⟨fs, hb⟩, c_X15_lends_c19 l r A σ x0 x1 P hf⟩))))))
  · exact Or.inr (Or.inr (Or.inr (Or.inr (Or.inr (Or.inr (Or.inr (⟨⟨fs, hb⟩, c_X19_lends_c20 l r A σ x0 x1 P hf⟩)))))))
theorem rPB_lends {p : Program} {l : Launch} {e : Env} {R : Room} {s : State} {m : MethodId} {args : Array Value} {below : List Frame} {meth : Method} {c : Code} {H : Heap} {locs : List Loc} {cells slots : Nat} {cc : ByteArray} {nL pc index : Nat} {ls : Array Slot} {own : String} {r : GR} {A : Nat → Prop} {σ : GS} {x0 : Nat} {x1 : Int32} {P : GS → Int32 → Prop} {lv : List (Nat × Value)} {st0 : List Value} (rest : List Value) (K : gC p s m args meth c cc nL own r A) (hM : gM dX r A σ s.heap H locs) (hl : lv_has ls nL lv) (Y : gPB_lends l r A σ x0 x1 P) (h1 : Cond.methodLink own index ({ cls := "PointsForAll$Purse", name := "lends", desc := "(I)I" } : MethodName) ∈ lw_all) (hR : 2 + 1 ≤ R.frames ∧ 8 + (3 + 11) + 42 ≤ R.locals) (hf : cells + 0 ≤ R.cells ∧ slots + 0 ≤ R.slots) (hst : st0 = [.int x1] ++ .ref x0 :: rest) (hw : (rest.map fun v => v.category).sum ≤ 8) (hdg : decode cc pc = .ok (.invokevirtual index, 3)) :
    va_Run p l e R s m args below meth c H locs cells slots 0 0 (F0 m pc ls st0) rest (gEnd dX r A (zI P) (Value.ref x0 :: [.int x1]).toArray) A := by
  rcases Y with ⟨⟨fs, hb⟩, Y⟩ | ⟨⟨fs, hb⟩, Y⟩ | ⟨⟨fs, hb⟩, Y⟩ | ⟨⟨fs, hb⟩, Y⟩ | ⟨⟨fs, hb⟩, Y⟩ | ⟨⟨fs, hb⟩, Y⟩ | ⟨⟨fs, hb⟩, Y⟩ | ⟨⟨fs, hb⟩, Y⟩
  · exact rOv (x := ({ cls := "PointsForAll$Purse", name := "lends", desc := "(I)I" } : MethodName)) (owner := "PointsForAll$Purse") [.int x1] rest K kY13 hM hl hb Y h1 q2000 q1182 q1183 q2007 q1182 q111 q1183 hdo_Purse_lends ⟨Nat.le_trans (by omega) hR.1, Nat.le_trans (by omega) hR.2⟩ hf hst hw hdg
  · exact rOv (x := ({ cls := "PointsForAll$Purse", name := "lends", desc := "(I)I" } : MethodName)) (owner := "PointsForAll$Purse") [.int x1] rest K kY14 hM hl hb Y h1 q2000 q1182 q1183 q2004 q1182 q111 q1183 hdo_Purse_lends ⟨Nat.le_trans (by omega) hR.1, Nat.le_trans (by omega) hR.2⟩ hf hst hw hdg
  · exact rOv (x := ({ cls := "PointsForAll$Purse", name := "lends", desc := "(I)I" } : MethodName)) (owner := "PointsForAll$Purse") [.int x1] rest K kY15 hM hl hb Y h1 q2000 q1182 q1183 q2006 q1182 q111 q1183 hdo_Purse_lends ⟨Nat.le_trans (by omega) hR.1, Nat.le_trans (by omega) hR.2⟩ hf hst hw hdg
  · exact rOv (x := ({ cls := "PointsForAll$Purse", name := "lends", desc := "(I)I" } : MethodName)) (owner := "PointsForAll$Purse") [.int x1] rest K kY16 hM hl hb Y h1 q2000 q1182 q1183 q2005 q1196 q114 q1197 hdo_Purse_lends ⟨Nat.le_trans (by omega) hR.1, Nat.le_trans (by omega) hR.2⟩ hf hst hw hdg
  · exact rOv (x := ({ cls := "PointsForAll$Purse", name := "lends", desc := "(I)I" } : MethodName)) (owner := "PointsForAll$Purse") [.int x1] rest K kY17 hM hl hb Y h1 q2000 q1182 q1183 q2003 q1176 q115 q1177 hdo_Purse_lends ⟨Nat.le_trans (by omega) hR.1, Nat.le_trans (by omega) hR.2⟩ hf hst hw hdg
  · exact rOv (x := ({ cls := "PointsForAll$Purse", name := "lends", desc := "(I)I" } : MethodName)) (owner := "PointsForAll$Purse") [.int x1] rest K kY18 hM hl hb Y h1 q2000 q1182 q1183 q2001 q1196 q114 q1197 hdo_Purse_lends ⟨Nat.le_trans (by omega) hR.1, Nat.le_trans (by omega) hR.2⟩ hf hst hw hdg
  · exact rOv (x := ({ cls := "PointsForAll$Purse", name := "lends", desc := "(I)I" } : MethodName)) (owner := "PointsForAll$Purse") [.int x1] rest K kY19 hM hl hb Y h1 q2000 q1182 q1183 q2008 q1182 q111 q1183 hdo_Purse_lends ⟨Nat.le_trans (by omega) hR.1, Nat.le_trans (by omega) hR.2⟩ hf hst hw hdg
  · exact rOv (x := ({ cls := "PointsForAll$Purse", name := "lends", desc := "(I)I" } : MethodName)) (owner := "PointsForAll$Purse") [.int x1] rest K kY20 hM hl hb Y h1 q2000 q1182 q1183 q2002 q1176 q115 q1177 hdo_Purse_lends ⟨Nat.le_trans (by omega) hR.1, Nat.le_trans (by omega) hR.2⟩ hf hst hw hdg
theorem c_X15_tells_c13 (l : Launch) (r : GR) (A : Nat → Prop) (σ : GS) (x0 : Nat) (x1 : Int32) (P : GS → Int32 → Prop) (hf : f_X15_tells_c13 r σ x0 x1 P) : gMet dX l yX15_tells cX15_tells 3 (some .int) 3 63 0 0 r A σ [.ref x0, .int x1] (zI P) := by
  refine g_enter (lv := [(0, .ref x0), (1, .int x1)]) (by decide) (Nat.le_of_ble_eq_true rfl) rfl ?_
  intro p e s m below meth c ls K hr hM hl hi
  obtain ⟨hx, hb, hml, hown, hts, hlk, hKK, hA⟩ := id K
  unfold f_X15_tells_c13 at hf
  refine lv_aload_n hx hb dX15_tells_0 rfl (lv_at hl 0 rfl) ?_
  obtain ⟨h1, hf⟩ := hf
  refine p_get K kY13 hM 1 rfl q990 rfl dX15_tells_1 h1 ?_
  refine lv_iconst (v := 2) hx hb dX15_tells_4 rfl ?_
  refine g_runv (rVN [.int (2 : Int32)] [] K kX hM hl (c_X0_ran l r A _ _ _ hf) q1108 q1101 qs39 q82 q1102 hdX0_ran.2 ⟨Nat.le_of_ble_eq_true rfl, Nat.le_of_ble_eq_true rfl⟩ ⟨Nat.le_refl _, Nat.le_refl _⟩ rfl (Nat.le_of_ble_eq_true rfl) dX15_tells_5) hM (fun σ2 H locs hf hM => ?_)
  refine lv_aload_n hx hb dX15_tells_8 rfl (lv_at hl 0 rfl) ?_
  refine lv_iload_n hx hb dX15_tells_9 rfl (lv_at hl 1 rfl) ?_
  obtain ⟨f6, h7, hf⟩ := hf
  refine g_runi (rOv (x := ⟨"PointsForAll$Purse", "keeps", "(I)I"⟩) (owner := "PointsForAll$Purse") [.int x1] [] K kY13 hM hl h7 (c_X15_keeps_c13 l r A _ _ _ _ hf) q1156 q1159 q1157 q1193 q1158 q1157 q111 q1193 hdo_Purse_keeps ⟨Nat.le_of_ble_eq_true rfl, Nat.le_of_ble_eq_true rfl⟩ ⟨Nat.le_refl _, Nat.le_refl _⟩ rfl (Nat.le_of_ble_eq_true rfl) dX15_tells_10) hM (fun σ4 v5 H locs hf hM => ?_)
  refine lv_istore_n (lv' := [(2, .int v5), (0, .ref x0), (1, .int x1)]) hx hb dX15_tells_13 rfl hl (by decide) rfl (fun ls hl => ?_)
  refine lv_iload_n hx hb dX15_tells_14 rfl (lv_at hl 0 rfl) ?_
  refine lv_aload_n hx hb dX15_tells_15 rfl (lv_at hl 1 rfl) ?_
  refine lv_iconst (v := 1) hx hb dX15_tells_16 rfl ?_
  obtain ⟨f10, h11, hf⟩ := hf
  refine g_runi (rOv (x := ⟨"PointsForAll$Purse", "lends", "(I)I"⟩) (owner := "PointsForAll$Purse") [.int (1 : Int32)] [.int v5] K kY13 hM hl h11 (c_X15_lends_c13 l r A _ _ _ _ hf) q1195 q2000 q1182 q1183 q2007 q1182 q111 q1183 hdo_Purse_lends ⟨Nat.le_of_ble_eq_true rfl, Nat.le_of_ble_eq_true rfl⟩ ⟨Nat.le_refl _, Nat.le_refl _⟩ rfl (Nat.le_of_ble_eq_true rfl) dX15_tells_17) hM (fun σ8 v9 H locs hf hM => ?_)
  refine lv_isub hx hb dX15_tells_20 ?_
  exact g_reti K hr hM ⟨Nat.le_refl _, Nat.le_refl _⟩ hf dX15_tells_21
theorem c_X15_tells_c14 (l : Launch) (r : GR) (A : Nat → Prop) (σ : GS) (x0 : Nat) (x1 : Int32) (P : GS → Int32 → Prop) (hf : f_X15_tells_c14 r σ x0 x1 P) : gMet dX l yX15_tells cX15_tells 3 (some .int) 4 84 0 0 r A σ [.ref x0, .int x1] (zI P) := by
  refine g_enter (lv := [(0, .ref x0), (1, .int x1)]) (by decide) (Nat.le_of_ble_eq_true rfl) rfl ?_
  intro p e s m below meth c ls K hr hM hl hi
  obtain ⟨hx, hb, hml, hown, hts, hlk, hKK, hA⟩ := id K
  unfold f_X15_tells_c14 at hf
  refine lv_aload_n hx hb dX15_tells_0 rfl (lv_at hl 0 rfl) ?_
  obtain ⟨h1, hf⟩ := hf
  refine p_get K kY14 hM 1 rfl q990 rfl dX15_tells_1 h1 ?_
  refine lv_iconst (v := 2) hx hb dX15_tells_4 rfl ?_
  refine g_runv (rVN [.int (2 : Int32)] [] K kX hM hl (c_X0_ran l r A _ _ _ hf) q1108 q1101 qs39 q82 q1102 hdX0_ran.2 ⟨Nat.le_of_ble_eq_true rfl, Nat.le_of_ble_eq_true rfl⟩ ⟨Nat.le_refl _, Nat.le_refl _⟩ rfl (Nat.le_of_ble_eq_true rfl) dX15_tells_5) hM (fun σ2 H locs hf hM => ?_)
  refine lv_aload_n hx hb dX15_tells_8 rfl (lv_at hl 0 rfl) ?_
  refine lv_iload_n hx hb dX15_tells_9 rfl (lv_at hl 1 rfl) ?_
  obtain ⟨f6, h7, hf⟩ := hf
  refine g_runi (rOv (x := ⟨"PointsForAll$Purse", "keeps", "(I)I"⟩) (owner := "PointsForAll$Purse") [.int x1] [] K kY14 hM hl h7 (c_X15_keeps_c14 l r A _ _ _ _ hf) q1156 q1159 q1157 q1193 q1189 q1157 q111 q1193 hdo_Purse_keeps ⟨Nat.le_of_ble_eq_true rfl, Nat.le_of_ble_eq_true rfl⟩ ⟨Nat.le_refl _, Nat.le_refl _⟩ rfl (Nat.le_of_ble_eq_true rfl) dX15_tells_10) hM (fun σ4 v5 H locs hf hM => ?_)
  refine lv_istore_n (lv' := [(2, .int v5), (0, .ref x0), (1, .int x1)]) hx hb dX15_tells_13 rfl hl (by decide) rfl (fun ls hl => ?_)
  refine lv_iload_n hx hb dX15_tells_14 rfl (lv_at hl 0 rfl) ?_
  refine lv_aload_n hx hb dX15_tells_15 rfl (lv_at hl 1 rfl) ?_
  refine lv_iconst (v := 1) hx hb dX15_tells_16 rfl ?_
  obtain ⟨f10, h11, hf⟩ := hf
  refine g_runi (rOv (x := ⟨"PointsForAll$Purse", "lends", "(I)I"⟩) (owner := "PointsForAll$Purse") [.int (1 : Int32)] [.int v5] K kY14 hM hl h11 (c_X15_lends_c14 l r A _ _ _ _ hf) q1195 q2000 q1182 q1183 q2004 q1182 q111 q1183 hdo_Purse_lends ⟨Nat.le_of_ble_eq_true rfl, Nat.le_of_ble_eq_true rfl⟩ ⟨Nat.le_refl _, Nat.le_refl _⟩ rfl (Nat.le_of_ble_eq_true rfl) dX15_tells_17) hM (fun σ8 v9 H locs hf hM => ?_)
  refine lv_isub hx hb dX15_tells_20 ?_
  exact g_reti K hr hM ⟨Nat.le_refl _, Nat.le_refl _⟩ hf dX15_tells_21
theorem c_X15_tells_c15 (l : Launch) (r : GR) (A : Nat → Prop) (σ : GS) (x0 : Nat) (x1 : Int32) (P : GS → Int32 → Prop) (hf : f_X15_tells_c15 r σ x0 x1 P) : gMet dX l yX15_tells cX15_tells 3 (some .int) 4 84 0 0 r A σ [.ref x0, .int x1] (zI P) := by
  refine g_enter (lv := [(0, .ref x0), (1, .int x1)]) (by decide) (Nat.le_of_ble_eq_true rfl) rfl ?_
  intro p e s m below meth c ls K hr hM hl hi
  obtain ⟨hx, hb, hml, hown, hts, hlk, hKK, hA⟩ := id K
  unfold f_X15_tells_c15 at hf
  refine lv_aload_n hx hb dX15_tells_0 rfl (lv_at hl 0 rfl) ?_
  obtain ⟨h1, hf⟩ := hf
  refine p_get K kY15 hM 1 rfl q990 rfl dX15_tells_1 h1 ?_
  refine lv_iconst (v := 2) hx hb dX15_tells_4 rfl ?_
  refine g_runv (rVN [.int (2 : Int32)] [] K kX hM hl (c_X0_ran l r A _ _ _ hf) q1108 q1101 qs39 q82 q1102 hdX0_ran.2 ⟨Nat.le_of_ble_eq_true rfl, Nat.le_of_ble_eq_true rfl⟩ ⟨Nat.le_refl _, Nat.le_refl _⟩ rfl (Nat.le_of_ble_eq_true rfl) dX15_tells_5) hM (fun σ2 H locs hf hM => ?_)
  refine lv_aload_n hx hb dX15_tells_8 rfl (lv_at hl 0 rfl) ?_
  refine lv_iload_n hx hb dX15_tells_9 rfl (lv_at hl 1 rfl) ?_
  obtain ⟨f6, h7, hf⟩ := hf
  refine g_runi (rOv (x := ⟨"PointsForAll$Purse", "keeps", "(I)I"⟩) (owner := "PointsForAll$Purse") [.int x1] [] K kY15 hM hl h7 (c_X17_keeps_c15 l r A _ _ _ _ hf) q1156 q1159 q1157 q1193 q1191 q1161 q113 q1162 hdo_Purse_keeps ⟨Nat.le_of_ble_eq_true rfl, Nat.le_of_ble_eq_true rfl⟩ ⟨Nat.le_refl _, Nat.le_refl _⟩ rfl (Nat.le_of_ble_eq_true rfl) dX15_tells_10) hM (fun σ4 v5 H locs hf hM => ?_)
  refine lv_istore_n (lv' := [(2, .int v5), (0, .ref x0), (1, .int x1)]) hx hb dX15_tells_13 rfl hl (by decide) rfl (fun ls hl => ?_)
  refine lv_iload_n hx hb dX15_tells_14 rfl (lv_at hl 0 rfl) ?_
  refine lv_aload_n hx hb dX15_tells_15 rfl (lv_at hl 1 rfl) ?_
  refine lv_iconst (v := 1) hx hb dX15_tells_16 rfl ?_
  obtain ⟨f10, h11, hf⟩ := hf
  refine g_runi (rOv (x := ⟨"PointsForAll$Purse", "lends", "(I)I"⟩) (owner := "PointsForAll$Purse") [.int (1 : Int32)] [.int v5] K kY15 hM hl h11 (c_X15_lends_c15 l r A _ _ _ _ hf) q1195 q2000 q1182 q1183 q2006 q1182 q111 q1183 hdo_Purse_lends ⟨Nat.le_of_ble_eq_true rfl, Nat.le_of_ble_eq_true rfl⟩ ⟨Nat.le_refl _, Nat.le_refl _⟩ rfl (Nat.le_of_ble_eq_true rfl) dX15_tells_17) hM (fun σ8 v9 H locs hf hM => ?_)
  refine lv_isub hx hb dX15_tells_20 ?_
  exact g_reti K hr hM ⟨Nat.le_refl _, Nat.le_refl _⟩ hf dX15_tells_21
theorem c_X15_tells_c16 (l : Launch) (r : GR) (A : Nat → Prop) (σ : GS) (x0 : Nat) (x1 : Int32) (P : GS → Int32 → Prop) (hf : f_X15_tells_c16 r σ x0 x1 P) : gMet dX l yX15_tells cX15_tells 3 (some .int) 4 84 0 0 r A σ [.ref x0, .int x1] (zI P) := by
  refine g_enter (lv := [(0, .ref x0), (1, .int x1)]) (by decide) (Nat.le_of_ble_eq_true rfl) rfl ?_
  intro p e s m below meth c ls K hr hM hl hi
  obtain ⟨hx, hb, hml, hown, hts, hlk, hKK, hA⟩ := id K
  unfold f_X15_tells_c16 at hf
  refine lv_aload_n hx hb dX15_tells_0 rfl (lv_at hl 0 rfl) ?_
  obtain ⟨h1, hf⟩ := hf
  refine p_get K kY16 hM 1 rfl q990 rfl dX15_tells_1 h1 ?_
  refine lv_iconst (v := 2) hx hb dX15_tells_4 rfl ?_
  refine g_runv (rVN [.int (2 : Int32)] [] K kX hM hl (c_X0_ran l r A _ _ _ hf) q1108 q1101 qs39 q82 q1102 hdX0_ran.2 ⟨Nat.le_of_ble_eq_true rfl, Nat.le_of_ble_eq_true rfl⟩ ⟨Nat.le_refl _, Nat.le_refl _⟩ rfl (Nat.le_of_ble_eq_true rfl) dX15_tells_5) hM (fun σ2 H locs hf hM => ?_)
  refine lv_aload_n hx hb dX15_tells_8 rfl (lv_at hl 0 rfl) ?_
  refine lv_iload_n hx hb dX15_tells_9 rfl (lv_at hl 1 rfl) ?_
  obtain ⟨f6, h7, hf⟩ := hf
  refine g_runi (rOv (x := ⟨"PointsForAll$Purse", "keeps", "(I)I"⟩) (owner := "PointsForAll$Purse") [.int x1] [] K kY16 hM hl h7 (c_X17_keeps_c16 l r A _ _ _ _ hf) q1156 q1159 q1157 q1193 q1190 q1161 q113 q1162 hdo_Purse_keeps ⟨Nat.le_of_ble_eq_true rfl, Nat.le_of_ble_eq_true rfl⟩ ⟨Nat.le_refl _, Nat.le_refl _⟩ rfl (Nat.le_of_ble_eq_true rfl) dX15_tells_10) hM (fun σ4 v5 H locs hf hM => ?_)
  refine lv_istore_n (lv' := [(2, .int v5), (0, .ref x0), (1, .int x1)]) hx hb dX15_tells_13 rfl hl (by decide) rfl (fun ls hl => ?_)
  refine lv_iload_n hx hb dX15_tells_14 rfl (lv_at hl 0 rfl) ?_
  refine lv_aload_n hx hb dX15_tells_15 rfl (lv_at hl 1 rfl) ?_
  refine lv_iconst (v := 1) hx hb dX15_tells_16 rfl ?_
  obtain ⟨f10, h11, hf⟩ := hf
  refine g_runi (rOv (x := ⟨"PointsForAll$Purse", "lends", "(I)I"⟩) (owner := "PointsForAll$Purse") [.int (1 : Int32)] [.int v5] K kY16 hM hl h11 (c_X18_lends_c16 l r A _ _ _ _ hf) q1195 q2000 q1182 q1183 q2005 q1196 q114 q1197 hdo_Purse_lends ⟨Nat.le_of_ble_eq_true rfl, Nat.le_of_ble_eq_true rfl⟩ ⟨Nat.le_refl _, Nat.le_refl _⟩ rfl (Nat.le_of_ble_eq_true rfl) dX15_tells_17) hM (fun σ8 v9 H locs hf hM => ?_)
  refine lv_isub hx hb dX15_tells_20 ?_
  exact g_reti K hr hM ⟨Nat.le_refl _, Nat.le_refl _⟩ hf dX15_tells_21
theorem c_X15_tells_c17 (l : Launch) (r : GR) (A : Nat → Prop) (σ : GS) (x0 : Nat) (x1 : Int32) (P : GS → Int32 → Prop) (hf : f_X15_tells_c17 r σ x0 x1 P) : gMet dX l yX15_tells cX15_tells 3 (some .int) 4 84 0 0 r A σ [.ref x0, .int x1] (zI P) := by
  refine g_enter (lv := [(0, .ref x0), (1, .int x1)]) (by decide) (Nat.le_of_ble_eq_true rfl) rfl ?_
  intro p e s m below meth c ls K hr hM hl hi
  obtain ⟨hx, hb, hml, hown, hts, hlk, hKK, hA⟩ := id K
  unfold f_X15_tells_c17 at hf
  refine lv_aload_n hx hb dX15_tells_0 rfl (lv_at hl 0 rfl) ?_
  obtain ⟨h1, hf⟩ := hf
  refine p_get K kY17 hM 1 rfl q990 rfl dX15_tells_1 h1 ?_
  refine lv_iconst (v := 2) hx hb dX15_tells_4 rfl ?_
  refine g_runv (rVN [.int (2 : Int32)] [] K kX hM hl (c_X0_ran l r A _ _ _ hf) q1108 q1101 qs39 q82 q1102 hdX0_ran.2 ⟨Nat.le_of_ble_eq_true rfl, Nat.le_of_ble_eq_true rfl⟩ ⟨Nat.le_refl _, Nat.le_refl _⟩ rfl (Nat.le_of_ble_eq_true rfl) dX15_tells_5) hM (fun σ2 H locs hf hM => ?_)
  refine lv_aload_n hx hb dX15_tells_8 rfl (lv_at hl 0 rfl) ?_
  refine lv_iload_n hx hb dX15_tells_9 rfl (lv_at hl 1 rfl) ?_
  obtain ⟨f6, h7, hf⟩ := hf
  refine g_runi (rOv (x := ⟨"PointsForAll$Purse", "keeps", "(I)I"⟩) (owner := "PointsForAll$Purse") [.int x1] [] K kY17 hM hl h7 (c_X17_keeps_c17 l r A _ _ _ _ hf) q1156 q1159 q1157 q1193 q1188 q1161 q113 q1162 hdo_Purse_keeps ⟨Nat.le_of_ble_eq_true rfl, Nat.le_of_ble_eq_true rfl⟩ ⟨Nat.le_refl _, Nat.le_refl _⟩ rfl (Nat.le_of_ble_eq_true rfl) dX15_tells_10) hM (fun σ4 v5 H locs hf hM => ?_)
  refine lv_istore_n (lv' := [(2, .int v5), (0, .ref x0), (1, .int x1)]) hx hb dX15_tells_13 rfl hl (by decide) rfl (fun ls hl => ?_)
  refine lv_iload_n hx hb dX15_tells_14 rfl (lv_at hl 0 rfl) ?_
  refine lv_aload_n hx hb dX15_tells_15 rfl (lv_at hl 1 rfl) ?_
  refine lv_iconst (v := 1) hx hb dX15_tells_16 rfl ?_
  obtain ⟨f10, h11, hf⟩ := hf
  refine g_runi (rOv (x := ⟨"PointsForAll$Purse", "lends", "(I)I"⟩) (owner := "PointsForAll$Purse") [.int (1 : Int32)] [.int v5] K kY17 hM hl h11 (c_X19_lends_c17 l r A _ _ _ _ hf) q1195 q2000 q1182 q1183 q2003 q1176 q115 q1177 hdo_Purse_lends ⟨Nat.le_of_ble_eq_true rfl, Nat.le_of_ble_eq_true rfl⟩ ⟨Nat.le_refl _, Nat.le_refl _⟩ rfl (Nat.le_of_ble_eq_true rfl) dX15_tells_17) hM (fun σ8 v9 H locs hf hM => ?_)
  refine lv_isub hx hb dX15_tells_20 ?_
  exact g_reti K hr hM ⟨Nat.le_refl _, Nat.le_refl _⟩ hf dX15_tells_21
theorem c_X15_tells_c19 (l : Launch) (r : GR) (A : Nat → Prop) (σ : GS) (x0 : Nat) (x1 : Int32) (P : GS → Int32 → Prop) (hf : f_X15_tells_c19 r σ x0 x1 P) : gMet dX l yX15_tells cX15_tells 3 (some .int) 4 84 0 0 r A σ [.ref x0, .int x1] (zI P) := by
  refine g_enter (lv := [(0, .ref x0), (1, .int x1)]) (by decide) (Nat.le_of_ble_eq_true rfl) rfl ?_
  intro p e s m below meth c ls K hr hM hl hi
  obtain ⟨hx, hb, hml, hown, hts, hlk, hKK, hA⟩ := id K
  unfold f_X15_tells_c19 at hf
  refine lv_aload_n hx hb dX15_tells_0 rfl (lv_at hl 0 rfl) ?_
  obtain ⟨h1, hf⟩ := hf
  refine p_get K kY19 hM 1 rfl q990 rfl dX15_tells_1 h1 ?_
  refine lv_iconst (v := 2) hx hb dX15_tells_4 rfl ?_
  refine g_runv (rVN [.int (2 : Int32)] [] K kX hM hl (c_X0_ran l r A _ _ _ hf) q1108 q1101 qs39 q82 q1102 hdX0_ran.2 ⟨Nat.le_of_ble_eq_true rfl, Nat.le_of_ble_eq_true rfl⟩ ⟨Nat.le_refl _, Nat.le_refl _⟩ rfl (Nat.le_of_ble_eq_true rfl) dX15_tells_5) hM (fun σ2 H locs hf hM => ?_)
  refine lv_aload_n hx hb dX15_tells_8 rfl (lv_at hl 0 rfl) ?_
  refine lv_iload_n hx hb dX15_tells_9 rfl (lv_at hl 1 rfl) ?_
  obtain ⟨f6, h7, hf⟩ := hf
  refine g_runi (rOv (x := ⟨"PointsForAll$Purse", "keeps", "(I)I"⟩) (owner := "PointsForAll$Purse") [.int x1] [] K kY19 hM hl h7 (c_X15_keeps_c19 l r A _ _ _ _ hf) q1156 q1159 q1157 q1193 q1192 q1157 q111 q1193 hdo_Purse_keeps ⟨Nat.le_of_ble_eq_true rfl, Nat.le_of_ble_eq_true rfl⟩ ⟨Nat.le_refl _, Nat.le_refl _⟩ rfl (Nat.le_of_ble_eq_true rfl) dX15_tells_10) hM (fun σ4 v5 H locs hf hM => ?_)
  refine lv_istore_n (lv' := [(2, .int v5), (0, .ref x0), (1, .int x1)]) hx hb dX15_tells_13 rfl hl (by decide) rfl (fun ls hl => ?_)
  refine lv_iload_n hx hb dX15_tells_14 rfl (lv_at hl 0 rfl) ?_
  refine lv_aload_n hx hb dX15_tells_15 rfl (lv_at hl 1 rfl) ?_
  refine lv_iconst (v := 1) hx hb dX15_tells_16 rfl ?_
  obtain ⟨f10, h11, hf⟩ := hf
  refine g_runi (rOv (x := ⟨"PointsForAll$Purse", "lends", "(I)I"⟩) (owner := "PointsForAll$Purse") [.int (1 : Int32)] [.int v5] K kY19 hM hl h11 (c_X15_lends_c19 l r A _ _ _ _ hf) q1195 q2000 q1182 q1183 q2008 q1182 q111 q1183 hdo_Purse_lends ⟨Nat.le_of_ble_eq_true rfl, Nat.le_of_ble_eq_true rfl⟩ ⟨Nat.le_refl _, Nat.le_refl _⟩ rfl (Nat.le_of_ble_eq_true rfl) dX15_tells_17) hM (fun σ8 v9 H locs hf hM => ?_)
  refine lv_isub hx hb dX15_tells_20 ?_
  exact g_reti K hr hM ⟨Nat.le_refl _, Nat.le_refl _⟩ hf dX15_tells_21
theorem c_X15_tells_c18 (l : Launch) (r : GR) (A : Nat → Prop) (σ : GS) (x0 : Nat) (x1 : Int32) (P : GS → Int32 → Prop) (hf : f_X15_tells_c18 r σ x0 x1 P) : gMet dX l yX15_tells cX15_tells 3 (some .int) 5 105 0 0 r A σ [.ref x0, .int x1] (zI P) := by
  refine g_enter (lv := [(0, .ref x0), (1, .int x1)]) (by decide) (Nat.le_of_ble_eq_true rfl) rfl ?_
  intro p e s m below meth c ls K hr hM hl hi
  obtain ⟨hx, hb, hml, hown, hts, hlk, hKK, hA⟩ := id K
  unfold f_X15_tells_c18 at hf
  refine lv_aload_n hx hb dX15_tells_0 rfl (lv_at hl 0 rfl) ?_
  obtain ⟨h1, hf⟩ := hf
  refine p_get K kY18 hM 1 rfl q990 rfl dX15_tells_1 h1 ?_
  refine lv_iconst (v := 2) hx hb dX15_tells_4 rfl ?_
  refine g_runv (rVN [.int (2 : Int32)] [] K kX hM hl (c_X0_ran l r A _ _ _ hf) q1108 q1101 qs39 q82 q1102 hdX0_ran.2 ⟨Nat.le_of_ble_eq_true rfl, Nat.le_of_ble_eq_true rfl⟩ ⟨Nat.le_refl _, Nat.le_refl _⟩ rfl (Nat.le_of_ble_eq_true rfl) dX15_tells_5) hM (fun σ2 H locs hf hM => ?_)
  refine lv_aload_n hx hb dX15_tells_8 rfl (lv_at hl 0 rfl) ?_
  refine lv_iload_n hx hb dX15_tells_9 rfl (lv_at hl 1 rfl) ?_
  obtain ⟨f6, h7, hf⟩ := hf
  refine g_runi (rOv (x := ⟨"PointsForAll$Purse", "keeps", "(I)I"⟩) (owner := "PointsForAll$Purse") [.int x1] [] K kY18 hM hl h7 (c_X17_keeps_c18 l r A _ _ _ _ hf) q1156 q1159 q1157 q1193 q1160 q1161 q113 q1162 hdo_Purse_keeps ⟨Nat.le_of_ble_eq_true rfl, Nat.le_of_ble_eq_true rfl⟩ ⟨Nat.le_refl _, Nat.le_refl _⟩ rfl (Nat.le_of_ble_eq_true rfl) dX15_tells_10) hM (fun σ4 v5 H locs hf hM => ?_)
  refine lv_istore_n (lv' := [(2, .int v5), (0, .ref x0), (1, .int x1)]) hx hb dX15_tells_13 rfl hl (by decide) rfl (fun ls hl => ?_)
  refine lv_iload_n hx hb dX15_tells_14 rfl (lv_at hl 0 rfl) ?_
  refine lv_aload_n hx hb dX15_tells_15 rfl (lv_at hl 1 rfl) ?_
  refine lv_iconst (v := 1) hx hb dX15_tells_16 rfl ?_
  obtain ⟨f10, h11, hf⟩ := hf
  refine g_runi (rOv (x := ⟨"PointsForAll$Purse", "lends", "(I)I"⟩) (owner := "PointsForAll$Purse") [.int (1 : Int32)] [.int v5] K kY18 hM hl h11 (c_X18_lends_c18 l r A _ _ _ _ hf) q1195 q2000 q1182 q1183 q2001 q1196 q114 q1197 hdo_Purse_lends ⟨Nat.le_of_ble_eq_true rfl, Nat.le_of_ble_eq_true rfl⟩ ⟨Nat.le_refl _, Nat.le_refl _⟩ rfl (Nat.le_of_ble_eq_true rfl) dX15_tells_17) hM (fun σ8 v9 H locs hf hM => ?_)
  refine lv_isub hx hb dX15_tells_20 ?_
  exact g_reti K hr hM ⟨Nat.le_refl _, Nat.le_refl _⟩ hf dX15_tells_21
theorem c_X20_tells_c18 (l : Launch) (r : GR) (A : Nat → Prop) (σ : GS) (x0 : Nat) (x1 : Int32) (P : GS → Int32 → Prop) (hf : f_X20_tells_c18 r σ x0 x1 P) : gMet dX l yX20_tells cX20_tells 2 (some .int) 6 127 0 0 r A σ [.ref x0, .int x1] (zI P) := by
  refine g_enter (lv := [(0, .ref x0), (1, .int x1)]) (by decide) (Nat.le_of_ble_eq_true rfl) rfl ?_
  intro p e s m below meth c ls K hr hM hl hi
  obtain ⟨hx, hb, hml, hown, hts, hlk, hKK, hA⟩ := id K
  unfold f_X20_tells_c18 at hf
  refine lv_aload_n hx hb dX20_tells_0 rfl (lv_at hl 0 rfl) ?_
  obtain ⟨h1, hf⟩ := hf
  refine p_get K kY18 hM 4 rfl q1042 rfl dX20_tells_1 h1 ?_
  refine lv_bipush (v := 61) hx hb dX20_tells_4 rfl ?_
  refine g_runv (rVN [.int (61 : Int32)] [] K kX hM hl (c_X0_ran l r A _ _ _ hf) q1099 q1101 qs39 q82 q1102 hdX0_ran.2 ⟨Nat.le_of_ble_eq_true rfl, Nat.le_of_ble_eq_true rfl⟩ ⟨Nat.le_refl _, Nat.le_refl _⟩ rfl (Nat.le_of_ble_eq_true rfl) dX20_tells_6) hM (fun σ2 H locs hf hM => ?_)
  refine lv_aload_n hx hb dX20_tells_9 rfl (lv_at hl 0 rfl) ?_
  refine lv_iload_n hx hb dX20_tells_10 rfl (lv_at hl 1 rfl) ?_
  obtain ⟨f6, h7, hf⟩ := hf
  refine g_runi (rSup (x := ⟨"PointsForAll$Lent", "tells", "(I)I"⟩) [.int x1] [] K kY18 hM hl h7 (c_X15_tells_c18 l r A _ _ _ _ hf) q1151 q1152 q1049 q1154 q111 q1155 (under_c hts (hA.2.1.1 _ q2020 rfl) q1022 q1080) rfl hds_tells ⟨Nat.le_of_ble_eq_true rfl, Nat.le_of_ble_eq_true rfl⟩ ⟨Nat.le_refl _, Nat.le_refl _⟩ rfl (Nat.le_of_ble_eq_true rfl) dX20_tells_11) hM (fun σ4 v5 H locs hf hM => ?_)
  refine lv_iconst (v := 5) hx hb dX20_tells_14 rfl ?_
  refine lv_ixor hx hb dX20_tells_15 ?_
  exact g_reti K hr hM ⟨Nat.le_refl _, Nat.le_refl _⟩ hf dX20_tells_16
theorem c_X15_tells_c20 (l : Launch) (r : GR) (A : Nat → Prop) (σ : GS) (x0 : Nat) (x1 : Int32) (P : GS → Int32 → Prop) (hf : f_X15_tells_c20 r σ x0 x1 P) : gMet dX l yX15_tells cX15_tells 3 (some .int) 5 106 0 0 r A σ [.ref x0, .int x1] (zI P) := by
  refine g_enter (lv := [(0, .ref x0), (1, .int x1)]) (by decide) (Nat.le_of_ble_eq_true rfl) rfl ?_
  intro p e s m below meth c ls K hr hM hl hi
  obtain ⟨hx, hb, hml, hown, hts, hlk, hKK, hA⟩ := id K
  unfold f_X15_tells_c20 at hf
  refine lv_aload_n hx hb dX15_tells_0 rfl (lv_at hl 0 rfl) ?_
  obtain ⟨h1, hf⟩ := hf
  refine p_get K kY20 hM 1 rfl q990 rfl dX15_tells_1 h1 ?_
  refine lv_iconst (v := 2) hx hb dX15_tells_4 rfl ?_
  refine g_runv (rVN [.int (2 : Int32)] [] K kX hM hl (c_X0_ran l r A _ _ _ hf) q1108 q1101 qs39 q82 q1102 hdX0_ran.2 ⟨Nat.le_of_ble_eq_true rfl, Nat.le_of_ble_eq_true rfl⟩ ⟨Nat.le_refl _, Nat.le_refl _⟩ rfl (Nat.le_of_ble_eq_true rfl) dX15_tells_5) hM (fun σ2 H locs hf hM => ?_)
  refine lv_aload_n hx hb dX15_tells_8 rfl (lv_at hl 0 rfl) ?_
  refine lv_iload_n hx hb dX15_tells_9 rfl (lv_at hl 1 rfl) ?_
  obtain ⟨f6, h7, hf⟩ := hf
  refine g_runi (rOv (x := ⟨"PointsForAll$Purse", "keeps", "(I)I"⟩) (owner := "PointsForAll$Purse") [.int x1] [] K kY20 hM hl h7 (c_X22_keeps_c20 l r A _ _ _ _ hf) q1156 q1159 q1157 q1193 q1165 q1166 q118 q1167 hdo_Purse_keeps ⟨Nat.le_of_ble_eq_true rfl, Nat.le_of_ble_eq_true rfl⟩ ⟨Nat.le_refl _, Nat.le_refl _⟩ rfl (Nat.le_of_ble_eq_true rfl) dX15_tells_10) hM (fun σ4 v5 H locs hf hM => ?_)
  refine lv_istore_n (lv' := [(2, .int v5), (0, .ref x0), (1, .int x1)]) hx hb dX15_tells_13 rfl hl (by decide) rfl (fun ls hl => ?_)
  refine lv_iload_n hx hb dX15_tells_14 rfl (lv_at hl 0 rfl) ?_
  refine lv_aload_n hx hb dX15_tells_15 rfl (lv_at hl 1 rfl) ?_
  refine lv_iconst (v := 1) hx hb dX15_tells_16 rfl ?_
  obtain ⟨f10, h11, hf⟩ := hf
  refine g_runi (rOv (x := ⟨"PointsForAll$Purse", "lends", "(I)I"⟩) (owner := "PointsForAll$Purse") [.int (1 : Int32)] [.int v5] K kY20 hM hl h11 (c_X19_lends_c20 l r A _ _ _ _ hf) q1195 q2000 q1182 q1183 q2002 q1176 q115 q1177 hdo_Purse_lends ⟨Nat.le_of_ble_eq_true rfl, Nat.le_of_ble_eq_true rfl⟩ ⟨Nat.le_refl _, Nat.le_refl _⟩ rfl (Nat.le_of_ble_eq_true rfl) dX15_tells_17) hM (fun σ8 v9 H locs hf hM => ?_)
  refine lv_isub hx hb dX15_tells_20 ?_
  exact g_reti K hr hM ⟨Nat.le_refl _, Nat.le_refl _⟩ hf dX15_tells_21
theorem c_X22_tells_c20 (l : Launch) (r : GR) (A : Nat → Prop) (σ : GS) (x0 : Nat) (x1 : Int32) (P : GS → Int32 → Prop) (hf : f_X22_tells_c20 r σ x0 x1 P) : gMet dX l yX22_tells cX22_tells 2 (some .int) 6 128 0 0 r A σ [.ref x0, .int x1] (zI P) := by
  refine g_enter (lv := [(0, .ref x0), (1, .int x1)]) (by decide) (Nat.le_of_ble_eq_true rfl) rfl ?_
  intro p e s m below meth c ls K hr hM hl hi
  obtain ⟨hx, hb, hml, hown, hts, hlk, hKK, hA⟩ := id K
  unfold f_X22_tells_c20 at hf
  refine lv_aload_n hx hb dX22_tells_0 rfl (lv_at hl 0 rfl) ?_
  obtain ⟨h1, hf⟩ := hf
  refine p_get K kY20 hM 4 rfl q1068 rfl dX22_tells_1 h1 ?_
  refine lv_bipush (v := 81) hx hb dX22_tells_4 rfl ?_
  refine g_runv (rVN [.int (81 : Int32)] [] K kX hM hl (c_X0_ran l r A _ _ _ hf) q1168 q1101 qs39 q82 q1102 hdX0_ran.2 ⟨Nat.le_of_ble_eq_true rfl, Nat.le_of_ble_eq_true rfl⟩ ⟨Nat.le_refl _, Nat.le_refl _⟩ rfl (Nat.le_of_ble_eq_true rfl) dX22_tells_6) hM (fun σ2 H locs hf hM => ?_)
  refine lv_aload_n hx hb dX22_tells_9 rfl (lv_at hl 0 rfl) ?_
  refine lv_iload_n hx hb dX22_tells_10 rfl (lv_at hl 1 rfl) ?_
  obtain ⟨f6, h7, hf⟩ := hf
  refine g_runi (rSup (x := ⟨"PointsForAll$Changed", "tells", "(I)I"⟩) [.int x1] [] K kY20 hM hl h7 (c_X15_tells_c20 l r A _ _ _ _ hf) q1206 q1207 q1075 q1154 q111 q1155 (under_c hts (hA.2.1.1 _ q2018 rfl) q1035 q1080) rfl hds_tells ⟨Nat.le_of_ble_eq_true rfl, Nat.le_of_ble_eq_true rfl⟩ ⟨Nat.le_refl _, Nat.le_refl _⟩ rfl (Nat.le_of_ble_eq_true rfl) dX22_tells_11) hM (fun σ4 v5 H locs hf hM => ?_)
  refine lv_iconst (v := 1) hx hb dX22_tells_14 rfl ?_
  refine lv_isub hx hb dX22_tells_15 ?_
  exact g_reti K hr hM ⟨Nat.le_refl _, Nat.le_refl _⟩ hf dX22_tells_16
def gPB_tells (l : Launch) (r : GR) (A : Nat → Prop) (σ : GS) (x0 : Nat) (x1 : Int32) (P : GS → Int32 → Prop) : Prop :=
    ((∃ fs : List Value, gO σ x0 = some (.inr (13, fs))) ∧ gMet dX l yX15_tells cX15_tells 3 (some .int) 3 63 0 0 r A σ (.ref x0 :: [.int x1]) (zI P)) ∨
    ((∃ fs : List Value, gO σ x0 = some (.inr (14, fs))) ∧ gMet dX l yX15_tells cX15_tells 3 (some .int) 4 84 0 0 r A σ (.ref x0 :: [.int x1]) (zI P)) ∨
    ((∃ fs : List Value, gO σ x0 = some (.inr (15, fs))) ∧ gMet dX l yX15_tells cX15_tells 3 (some .int) 4 84 0 0 r A σ (.ref x0 :: [.int x1]) (zI P)) ∨
    ((∃ fs : List Value, gO σ x0 = some (.inr (16, fs))) ∧ gMet dX l yX15_tells cX15_tells 3 (some .int) 4 84 0 0 r A σ (.ref x0 :: [.int x1]) (zI P)) ∨
    ((∃ fs : List Value, gO σ x0 = some (.inr (17, fs))) ∧ gMet dX l yX15_tells cX15_tells 3 (some .int) 4 84 0 0 r A σ (.ref x0 :: [.int x1]) (zI P)) ∨
    ((∃ fs : List Value, gO σ x0 = some (.inr (18, fs))) ∧ gMet dX l yX20_tells cX20_tells 2 (some .int) 6 127 0 0 r A σ (.ref x0 :: [.int x1]) (zI P)) ∨
    ((∃ fs : List Value, gO σ x0 = some (.inr (19, fs))) ∧ gMet dX l yX15_tells cX15_tells 3 (some .int) 4 84 0 0 r A σ (.ref x0 :: [.int x1]) (zI P)) ∨
    ((∃ fs : List Value, gO σ x0 = some (.inr (20, fs))) ∧ gMet dX l yX22_tells cX22_tells 2 (some .int) 6 128 0 0 r A σ (.ref x0 :: [.int x1]) (zI P))
theorem c_PB_tells (l : Launch) (r : GR) (A : Nat → Prop) (σ : GS) (x0 : Nat) (x1 : Int32) (P : GS → Int32 → Prop) (hf : f_PB_tells r σ x0 x1 P) : gPB_tells l r A σ x0 x1 P := by
  rcases hf with ⟨fs, hb, hf⟩ | ⟨fs, hb, hf⟩ | ⟨fs, hb, hf⟩ | ⟨fs, hb, hf⟩ | ⟨fs, hb, hf⟩ | ⟨fs, hb, hf⟩ | ⟨fs, hb, hf⟩ | ⟨fs, hb, hf⟩
  · exact Or.inl ⟨⟨fs, hb⟩, c_X15_tells_c13 l r A σ x0 x1 P hf⟩
  · exact Or.inr (Or.inl ⟨⟨fs, hb⟩, c_X15_tells_c14 l r A σ x0 x1 P hf⟩)
  · exact Or.inr (Or.inr (Or.inl ⟨⟨fs, hb⟩, c_X15_tells_c15 l r A σ x0 x1 P hf⟩))
  · exact Or.inr (Or.inr (Or.inr (Or.inl ⟨⟨fs, hb⟩, c_X15_tells_c16 l r A σ x0 x1 P hf⟩)))
  · exact Or.inr (Or.inr (Or.inr (Or.inr (Or.inl ⟨⟨fs, hb⟩, c_X15_tells_c17 l r A σ x0 x1 P hf⟩))))
  · exact Or.inr (Or.inr (Or.inr (Or.inr (Or.inr (Or.inl ⟨⟨fs, hb⟩, c_X20_tells_c18 l r A σ x0 x1 P hf⟩)))))
  · exact Or.inr (Or.inr (Or.inr (Or.inr (Or.inr (Or.inr (Or.inl ⟨⟨fs, hb⟩, c_X15_tells_c19 l r A σ x0 x1 P hf⟩))))))
  · exact Or.inr (Or.inr (Or.inr (Or.inr (Or.inr (Or.inr (Or.inr (⟨⟨fs, hb⟩, c_X22_tells_c20 l r A σ x0 x1 P hf⟩)))))))
theorem hdf_tells : "PointsForAll$Tells" ≠ "java/lang/invoke/MethodHandle" ∧ "PointsForAll$Tells" ≠ "java/lang/invoke/VarHandle" ∧ (parseMethodDescriptor "(I)I").map (fun d => d.parameters.length) = some 1 := by decide +kernel
theorem rFPB_tells {p : Program} {l : Launch} {e : Env} {R : Room} {s : State} {m : MethodId} {args : Array Value} {below : List Frame} {meth : Method} {c : Code} {H : Heap} {locs : List Loc} {cells slots : Nat} {cc : ByteArray} {nL pc index : Nat} {ls : Array Slot} {own : String} {r : GR} {A : Nat → Prop} {σ : GS} {x0 : Nat} {x1 : Int32} {P : GS → Int32 → Prop} {lv : List (Nat × Value)} {st0 : List Value} {count : Nat} (rest : List Value) (K : gC p s m args meth c cc nL own r A) (hM : gM dX r A σ s.heap H locs) (hl : lv_has ls nL lv) (Y : gPB_tells l r A σ x0 x1 P) (h1 : Cond.methodLink own index ({ cls := "PointsForAll$Tells", name := "tells", desc := "(I)I" } : MethodName) ∈ lw_all) (hR : 6 + 1 ≤ R.frames ∧ 8 + (3 + 11) + 128 ≤ R.locals) (hf : cells + 0 ≤ R.cells ∧ slots + 0 ≤ R.slots) (hst : st0 = [.int x1] ++ .ref x0 :: rest) (hw : (rest.map fun v => v.category).sum ≤ 8) (hdg : decode cc pc = .ok (.invokeinterface index count, 5)) :
    va_Run5 p l e R s m args below meth c H locs cells slots 0 0 (F0 m pc ls st0) rest (gEnd dX r A (zI P) (Value.ref x0 :: [.int x1]).toArray) A := by
  rcases Y with ⟨⟨fs, hb⟩, Y⟩ | ⟨⟨fs, hb⟩, Y⟩ | ⟨⟨fs, hb⟩, Y⟩ | ⟨⟨fs, hb⟩, Y⟩ | ⟨⟨fs, hb⟩, Y⟩ | ⟨⟨fs, hb⟩, Y⟩ | ⟨⟨fs, hb⟩, Y⟩ | ⟨⟨fs, hb⟩, Y⟩
  · exact rF (x := ({ cls := "PointsForAll$Tells", name := "tells", desc := "(I)I" } : MethodName)) [.int x1] rest K kY13 hM hl hb Y h1 (by decide +kernel) q1222 q1154 q111 q1155 hdf_tells ⟨Nat.le_trans (by omega) hR.1, Nat.le_trans (by omega) hR.2⟩ hf hst hw hdg
  · exact rF (x := ({ cls := "PointsForAll$Tells", name := "tells", desc := "(I)I" } : MethodName)) [.int x1] rest K kY14 hM hl hb Y h1 (by decide +kernel) q1213 q1154 q111 q1155 hdf_tells ⟨Nat.le_trans (by omega) hR.1, Nat.le_trans (by omega) hR.2⟩ hf hst hw hdg
  · exact rF (x := ({ cls := "PointsForAll$Tells", name := "tells", desc := "(I)I" } : MethodName)) [.int x1] rest K kY15 hM hl hb Y h1 (by decide +kernel) q1219 q1154 q111 q1155 hdf_tells ⟨Nat.le_trans (by omega) hR.1, Nat.le_trans (by omega) hR.2⟩ hf hst hw hdg
  · exact rF (x := ({ cls := "PointsForAll$Tells", name := "tells", desc := "(I)I" } : MethodName)) [.int x1] rest K kY16 hM hl hb Y h1 (by decide +kernel) q1216 q1154 q111 q1155 hdf_tells ⟨Nat.le_trans (by omega) hR.1, Nat.le_trans (by omega) hR.2⟩ hf hst hw hdg
  · exact rF (x := ({ cls := "PointsForAll$Tells", name := "tells", desc := "(I)I" } : MethodName)) [.int x1] rest K kY17 hM hl hb Y h1 (by decide +kernel) q1209 q1154 q111 q1155 hdf_tells ⟨Nat.le_trans (by omega) hR.1, Nat.le_trans (by omega) hR.2⟩ hf hst hw hdg
  · exact rF (x := ({ cls := "PointsForAll$Tells", name := "tells", desc := "(I)I" } : MethodName)) [.int x1] rest K kY18 hM hl hb Y h1 (by decide +kernel) q1146 q1148 q116 q1150 hdf_tells ⟨Nat.le_trans (by omega) hR.1, Nat.le_trans (by omega) hR.2⟩ hf hst hw hdg
  · exact rF (x := ({ cls := "PointsForAll$Tells", name := "tells", desc := "(I)I" } : MethodName)) [.int x1] rest K kY19 hM hl hb Y h1 (by decide +kernel) q1225 q1154 q111 q1155 hdf_tells ⟨Nat.le_trans (by omega) hR.1, Nat.le_trans (by omega) hR.2⟩ hf hst hw hdg
  · exact rF (x := ({ cls := "PointsForAll$Tells", name := "tells", desc := "(I)I" } : MethodName)) [.int x1] rest K kY20 hM hl hb Y h1 (by decide +kernel) q1201 q1203 q118 q1205 hdf_tells ⟨Nat.le_trans (by omega) hR.1, Nat.le_trans (by omega) hR.2⟩ hf hst hw hdg
theorem c_X0_isBody (l : Launch) (r : GR) (A : Nat → Prop) (σ : GS) (x1 : Int32) (P : GS → Int32 → Prop) (hf : f_X0_isBody r σ x1 P) : gMet dX l yX0_isBody cX0_isBody 2 (some .boolean) 1 22 0 0 r A σ [.ref r.2.1, .int x1] (zI P) := by
  refine g_enter (lv := [(0, .ref r.2.1), (1, .int x1)]) (by decide) (Nat.le_of_ble_eq_true rfl) rfl ?_
  intro p e s m below meth c ls K hr hM hl hi
  obtain ⟨hx, hb, hml, hown, hts, hlk, hKK, hA⟩ := id K
  unfold f_X0_isBody at hf
  refine lv_iload_n hx hb dX0_isBody_0 rfl (lv_at hl 1 rfl) ?_
  refine lv_iconst (v := 0) hx hb dX0_isBody_1 rfl ?_
  refine lv_aload_n hx hb dX0_isBody_2 rfl (lv_at hl 0 rfl) ?_
  refine g_geti K kX hM 28 rfl q191 rfl dX0_isBody_3 rfl ?_
  refine lv_iconst (v := 1) hx hb dX0_isBody_6 rfl ?_
  refine lv_isub hx hb dX0_isBody_7 ?_
  refine g_runi (rS [.int x1, .int (0 : Int32), .int ((gI σ 28) - (1 : Int32))] [] K hM hl (c_X0_in l r A _ _ _ _ _ hf) q261 q262 q82 q263 hdX0_in ⟨Nat.le_of_ble_eq_true rfl, Nat.le_of_ble_eq_true rfl⟩ ⟨Nat.le_refl _, Nat.le_refl _⟩ rfl (Nat.le_of_ble_eq_true rfl) dX0_isBody_8) hM (fun σ1 v2 H locs hf hM => ?_)
  obtain ⟨g3, hf⟩ := hf
  exact g_retz K hr hM ⟨Nat.le_refl _, Nat.le_refl _⟩ g3 hf dX0_isBody_11
theorem c_X0_act (l : Launch) (r : GR) (A : Nat → Prop) (σ : GS) (x1 : Int32) (x2 : Int32) (x3 : Int32) (P : GS → Int32 → Prop) (hf : f_X0_act r σ x1 x2 x3 P) : gMet dX l yX0_act cX0_act 6 (some .int) 7 150 0 0 r A σ [.ref r.2.1, .int x1, .int x2, .int x3] (zI P) := by
  refine g_enter (lv := [(0, .ref r.2.1), (1, .int x1), (2, .int x2), (3, .int x3)]) (by decide) (Nat.le_of_ble_eq_true rfl) rfl ?_
  intro p e s m below meth c ls K hr hM hl hi
  obtain ⟨hx, hb, hml, hown, hts, hlk, hKK, hA⟩ := id K
  unfold f_X0_act at hf
  refine lv_aload_n hx hb dX0_act_0 rfl (lv_at hl 0 rfl) ?_
  refine lv_iconst (v := 0) hx hb dX0_act_1 rfl ?_
  refine g_putiN K kX hM 25 rfl q188 rfl dX0_act_2 rfl rfl rfl (fun H locs σ1 hσ1 hM => ?_)
  have hf := hf σ1 hσ1
  refine lv_aload_n hx hb dX0_act_5 rfl (lv_at hl 0 rfl) ?_
  refine lv_iload_n hx hb dX0_act_6 rfl (lv_at hl 1 rfl) ?_
  refine g_runi (rV [.int x1] [] K kX hM hl (c_X0_isBody l r A _ _ _ hf) q1085 q1087 qs38 q82 q1088 hdX0_isBody ⟨Nat.le_of_ble_eq_true rfl, Nat.le_of_ble_eq_true rfl⟩ ⟨Nat.le_refl _, Nat.le_refl _⟩ rfl (Nat.le_of_ble_eq_true rfl) dX0_act_7) hM (fun σ2 v3 H locs hf hM => ?_)
  refine lv_if_eq (tgt := 22) hx hb dX0_act_10 (by decide) (fun b4 => ?_) (fun b4 => ?_)
  · replace hf := hf.1 b4
    refine lv_iconst (v := 0) hx hb dX0_act_22 rfl ?_
    exact g_reti K hr hM ⟨Nat.le_refl _, Nat.le_refl _⟩ hf dX0_act_23
  · replace hf := hf.2 b4
    refine lv_iload_n hx hb dX0_act_13 rfl (lv_at hl 2 rfl) ?_
    refine lv_iconst (v := 0) hx hb dX0_act_14 rfl ?_
    refine lv_iconst (v := 3) hx hb dX0_act_15 rfl ?_
    refine g_runi (rS [.int x2, .int (0 : Int32), .int (3 : Int32)] [] K hM hl (c_X0_in l r A _ _ _ _ _ hf) q261 q262 q82 q263 hdX0_in ⟨Nat.le_of_ble_eq_true rfl, Nat.le_of_ble_eq_true rfl⟩ ⟨Nat.le_refl _, Nat.le_refl _⟩ rfl (Nat.le_of_ble_eq_true rfl) dX0_act_16) hM (fun σ5 v6 H locs hf hM => ?_)
    refine lv_if_ne (tgt := 24) hx hb dX0_act_19 (by decide) (fun b7 => ?_) (fun b7 => ?_)
    · replace hf := hf.2 b7
      refine lv_aload_n hx hb dX0_act_24 rfl (lv_at hl 0 rfl) ?_
      refine g_geta K kX hM 27 rfl q190 rfl dX0_act_25 rfl ?_
      refine lv_iload_n hx hb dX0_act_28 rfl (lv_at hl 1 rfl) ?_
      obtain ⟨g8, hf⟩ := hf
      obtain ⟨a9, h10, hf⟩ := hf
      refine g_aaldS K hM 27 rfl rfl rfl rfl g8 h10 dX0_act_29 ?_
      refine lv_astore (lv' := [(4, .ref a9), (0, .ref r.2.1), (1, .int x1), (2, .int x2), (3, .int x3)]) hx hb dX0_act_30 hl (by decide) rfl (fun ls hl => ?_)
      refine lv_iload_n hx hb dX0_act_32 rfl (lv_at hl 3 rfl) ?_
      refine lv_if_ne (tgt := 49) hx hb dX0_act_33 (by decide) (fun b11 => ?_) (fun b11 => ?_)
      · replace hf := hf.2 b11
        refine lv_iload_n hx hb dX0_act_49 rfl (lv_at hl 3 rfl) ?_
        refine lv_iconst (v := 3) hx hb dX0_act_50 rfl ?_
        refine lv_icmp_ne (tgt := 67) hx hb dX0_act_51 (by decide) (fun b12 => ?_) (fun b12 => ?_)
        · replace hf := hf.2 b12
          refine lv_iload_n hx hb dX0_act_67 rfl (lv_at hl 3 rfl) ?_
          refine lv_iconst (v := 1) hx hb dX0_act_68 rfl ?_
          refine lv_icmp_ne (tgt := 81) hx hb dX0_act_69 (by decide) (fun b13 => ?_) (fun b13 => ?_)
          · replace hf := hf.2 b13
            refine lv_aload hx hb dX0_act_81 (lv_at hl 0 rfl) ?_
            refine lv_iload_n hx hb dX0_act_83 rfl (lv_at hl 4 rfl) ?_
            refine g_runi (rPB_lends [] K hM hl (c_PB_lends l r A _ _ _ _ hf) q1228 ⟨Nat.le_of_ble_eq_true rfl, Nat.le_of_ble_eq_true rfl⟩ ⟨Nat.le_refl _, Nat.le_refl _⟩ rfl (Nat.le_of_ble_eq_true rfl) dX0_act_84) hM (fun σ14 v15 H locs hf hM => ?_)
            exact g_reti K hr hM ⟨Nat.le_refl _, Nat.le_refl _⟩ hf dX0_act_87
          · replace hf := hf.1 b13
            refine lv_aload hx hb dX0_act_72 (lv_at hl 0 rfl) ?_
            refine lv_iload_n hx hb dX0_act_74 rfl (lv_at hl 4 rfl) ?_
            refine g_runi (rPB_keeps [] K hM hl (c_PB_keeps l r A _ _ _ _ hf) q1227 ⟨Nat.le_of_ble_eq_true rfl, Nat.le_of_ble_eq_true rfl⟩ ⟨Nat.le_refl _, Nat.le_refl _⟩ rfl (Nat.le_of_ble_eq_true rfl) dX0_act_75) hM (fun σ16 v17 H locs hf hM => ?_)
            refine lv_goto (tgt := 87) hx hb dX0_act_78 (by decide) ?_
            exact g_reti K hr hM ⟨Nat.le_refl _, Nat.le_refl _⟩ hf dX0_act_87
        · replace hf := hf.1 b12
          refine lv_aload hx hb dX0_act_54 (lv_at hl 0 rfl) ?_
          refine lv_astore (lv' := [(5, .ref a9), (4, .ref a9), (0, .ref r.2.1), (1, .int x1), (2, .int x2), (3, .int x3)]) hx hb dX0_act_56 hl (by decide) rfl (fun ls hl => ?_)
          refine lv_aload hx hb dX0_act_58 (lv_at hl 0 rfl) ?_
          refine lv_iload_n hx hb dX0_act_60 rfl (lv_at hl 5 rfl) ?_
          refine g_run5i (rFPB_tells [] K hM hl (c_PB_tells l r A _ _ _ _ hf) q1142 ⟨Nat.le_of_ble_eq_true rfl, Nat.le_of_ble_eq_true rfl⟩ ⟨Nat.le_refl _, Nat.le_refl _⟩ rfl (Nat.le_of_ble_eq_true rfl) dX0_act_61) hM (fun σ18 v19 H locs hf hM => ?_)
          exact g_reti K hr hM ⟨Nat.le_refl _, Nat.le_refl _⟩ hf dX0_act_66
      · replace hf := hf.1 b11
        refine lv_aload hx hb dX0_act_36 (lv_at hl 0 rfl) ?_
        refine lv_astore (lv' := [(5, .ref a9), (4, .ref a9), (0, .ref r.2.1), (1, .int x1), (2, .int x2), (3, .int x3)]) hx hb dX0_act_38 hl (by decide) rfl (fun ls hl => ?_)
        refine lv_aload hx hb dX0_act_40 (lv_at hl 0 rfl) ?_
        refine lv_iload_n hx hb dX0_act_42 rfl (lv_at hl 5 rfl) ?_
        refine g_run5i (rFPB_buys [] K hM hl (c_PB_buys l r A _ _ _ _ hf) q1090 ⟨Nat.le_of_ble_eq_true rfl, Nat.le_of_ble_eq_true rfl⟩ ⟨Nat.le_refl _, Nat.le_refl _⟩ rfl (Nat.le_of_ble_eq_true rfl) dX0_act_43) hM (fun σ20 v21 H locs hf hM => ?_)
        exact g_reti K hr hM ⟨Nat.le_refl _, Nat.le_refl _⟩ hf dX0_act_48
    · replace hf := hf.1 b7
      refine lv_iconst (v := 0) hx hb dX0_act_22 rfl ?_
      exact g_reti K hr hM ⟨Nat.le_refl _, Nat.le_refl _⟩ hf dX0_act_23
theorem c_X0_trace (l : Launch) (r : GR) (A : Nat → Prop) (σ : GS) (x1 : Int32) (P : GS → Int32 → Prop) (hf : f_X0_trace r σ x1 P) : gMet dX l yX0_trace cX0_trace 2 (some .int) 0 0 0 0 r A σ [.ref r.2.1, .int x1] (zI P) := by
  refine g_enter (lv := [(0, .ref r.2.1), (1, .int x1)]) (by decide) (Nat.le_of_ble_eq_true rfl) rfl ?_
  intro p e s m below meth c ls K hr hM hl hi
  obtain ⟨hx, hb, hml, hown, hts, hlk, hKK, hA⟩ := id K
  unfold f_X0_trace at hf
  refine lv_iload_n hx hb dX0_trace_0 rfl (lv_at hl 1 rfl) ?_
  refine lv_if_lt (tgt := 27) hx hb dX0_trace_1 (by decide) (fun b1 => ?_) (fun b1 => ?_)
  · replace hf := hf.1 b1
    refine lv_iconst (v := -1) hx hb dX0_trace_27 rfl ?_
    exact g_reti K hr hM ⟨Nat.le_refl _, Nat.le_refl _⟩ hf dX0_trace_28
  · replace hf := hf.2 b1
    refine lv_iload_n hx hb dX0_trace_4 rfl (lv_at hl 1 rfl) ?_
    refine lv_aload_n hx hb dX0_trace_5 rfl (lv_at hl 0 rfl) ?_
    refine g_geti K kX hM 25 rfl q188 rfl dX0_trace_6 rfl ?_
    refine lv_icmp_ge (tgt := 27) hx hb dX0_trace_9 (by decide) (fun b2 => ?_) (fun b2 => ?_)
    · replace hf := hf.1 b2
      refine lv_iconst (v := -1) hx hb dX0_trace_27 rfl ?_
      exact g_reti K hr hM ⟨Nat.le_refl _, Nat.le_refl _⟩ hf dX0_trace_28
    · replace hf := hf.2 b2
      refine lv_iload_n hx hb dX0_trace_12 rfl (lv_at hl 1 rfl) ?_
      refine lv_bipush (v := 24) hx hb dX0_trace_13 rfl ?_
      refine lv_icmp_ge (tgt := 27) hx hb dX0_trace_15 (by decide) (fun b3 => ?_) (fun b3 => ?_)
      · replace hf := hf.1 b3
        refine lv_iconst (v := -1) hx hb dX0_trace_27 rfl ?_
        exact g_reti K hr hM ⟨Nat.le_refl _, Nat.le_refl _⟩ hf dX0_trace_28
      · replace hf := hf.2 b3
        refine lv_aload_n hx hb dX0_trace_18 rfl (lv_at hl 0 rfl) ?_
        refine g_geta K kX hM 26 rfl q189 rfl dX0_trace_19 rfl ?_
        refine lv_iload_n hx hb dX0_trace_22 rfl (lv_at hl 1 rfl) ?_
        obtain ⟨g4, hf⟩ := hf
        refine g_bald K hM 26 rfl rfl rfl g4 dX0_trace_23 ?_
        refine lv_goto (tgt := 28) hx hb dX0_trace_24 (by decide) ?_
        exact g_reti K hr hM ⟨Nat.le_refl _, Nat.le_refl _⟩ hf dX0_trace_28
theorem w_X0_keep_41 {p : Program} {l : Launch} {e : Env} {s : State} {m : MethodId} {args : Array Value} {below : List Frame} {meth : Method} {c : Code} {r : GR} {A : Nat → Prop} {P : GS → Int32 → Prop} (K : gC p s m args meth c cX0_keep 3 RX0 r A) (hr : meth.sig.returnType = (some .int)) : ∀ (σ : GS) (t2 : Option Nat) (t1 : Int32), f_X0_keep_41 r P σ t2 t1 → gW dX p l e (gRm 2 43 0 0) s m args below meth c r A (zI P) 0 0 3 41 [] [va_rf t2, .int t1, .ref (r.2.2.1 29)] 0 0 σ := by
  obtain ⟨hx, hb, hml, hown, hts, hlk, hKK, hA⟩ := id K
  intro σ t2 t1 hf H locs ls hM hl
  unfold f_X0_keep_41 at hf
  refine g_caseq (fun b1 => ?_) (fun b1 => ?_)
  · replace hf := hf.1 b1
    obtain ⟨g4, hf⟩ := hf
    refine g_aastN K hM 29 rfl rfl rfl rfl g4 dX0_keep_41 (fun H locs σ5 hσ5 hM => ?_)
    have hf := hf σ5 hσ5
    refine lv_iconst (v := 1) hx hb dX0_keep_42 rfl ?_
    exact g_reti K hr hM ⟨Nat.le_refl _, Nat.le_refl _⟩ hf dX0_keep_43
  · replace hf := hf.2 b1
    obtain ⟨a2, h3, hf⟩ := hf
    rw [h3]
    obtain ⟨g6, hf⟩ := hf
    obtain ⟨h7, hf⟩ := hf
    refine g_aastH K hM h7 g6 dX0_keep_41 (fun H locs σ8 hσ8 hM => ?_)
    have hf := hf σ8 hσ8
    refine lv_iconst (v := 1) hx hb dX0_keep_42 rfl ?_
    exact g_reti K hr hM ⟨Nat.le_refl _, Nat.le_refl _⟩ hf dX0_keep_43
theorem w_X0_keep_22 {p : Program} {l : Launch} {e : Env} {s : State} {m : MethodId} {args : Array Value} {below : List Frame} {meth : Method} {c : Code} {r : GR} {A : Nat → Prop} {P : GS → Int32 → Prop} (K : gC p s m args meth c cX0_keep 3 RX0 r A) (hr : meth.sig.returnType = (some .int)) : ∀ (σ : GS) (x1 : Int32) (x2 : Int32), f_X0_keep_22 r P σ x1 x2 → gW dX p l e (gRm 2 43 0 0) s m args below meth c r A (zI P) 0 0 3 22 [(0, .ref r.2.1), (1, .int x1), (2, .int x2)] [] 0 0 σ := by
  obtain ⟨hx, hb, hml, hown, hts, hlk, hKK, hA⟩ := id K
  intro σ x1 x2 hf H locs ls hM hl
  unfold f_X0_keep_22 at hf
  refine lv_aload_n hx hb dX0_keep_22 rfl (lv_at hl 0 rfl) ?_
  refine g_geta K kX hM 29 rfl q192 rfl dX0_keep_23 rfl ?_
  refine lv_iload_n hx hb dX0_keep_26 rfl (lv_at hl 1 rfl) ?_
  refine lv_iload_n hx hb dX0_keep_27 rfl (lv_at hl 2 rfl) ?_
  refine lv_if_ge (tgt := 35) hx hb dX0_keep_28 (by decide) (fun b1 => ?_) (fun b1 => ?_)
  · replace hf := hf.1 b1
    refine lv_aload_n hx hb dX0_keep_35 rfl (lv_at hl 0 rfl) ?_
    refine g_geta K kX hM 27 rfl q190 rfl dX0_keep_36 rfl ?_
    refine lv_iload_n hx hb dX0_keep_39 rfl (lv_at hl 2 rfl) ?_
    obtain ⟨g2, hf⟩ := hf
    obtain ⟨a3, h4, hf⟩ := hf
    refine g_aaldS K hM 27 rfl rfl rfl rfl g2 h4 dX0_keep_40 ?_
    exact w_X0_keep_41 K hr _ _ _ hf _ _ _ hM (lv_sub hl [] rfl)
  · replace hf := hf.2 b1
    refine lv_null hx hb dX0_keep_31 ?_
    refine lv_goto (tgt := 41) hx hb dX0_keep_32 (by decide) ?_
    exact w_X0_keep_41 K hr _ _ _ hf _ _ _ hM (lv_sub hl [] rfl)
theorem c_X0_keep (l : Launch) (r : GR) (A : Nat → Prop) (σ : GS) (x1 : Int32) (x2 : Int32) (P : GS → Int32 → Prop) (hf : f_X0_keep r σ x1 x2 P) : gMet dX l yX0_keep cX0_keep 3 (some .int) 2 43 0 0 r A σ [.ref r.2.1, .int x1, .int x2] (zI P) := by
  refine g_enter (lv := [(0, .ref r.2.1), (1, .int x1), (2, .int x2)]) (by decide) (Nat.le_of_ble_eq_true rfl) rfl ?_
  intro p e s m below meth c ls K hr hM hl hi
  obtain ⟨hx, hb, hml, hown, hts, hlk, hKK, hA⟩ := id K
  unfold f_X0_keep at hf
  refine lv_iload_n hx hb dX0_keep_0 rfl (lv_at hl 1 rfl) ?_
  refine g_runi (rS [.int x1] [] K hM hl (c_X0_isShelf l r A _ _ _ hf) q418 q419 q82 q420 hdX0_isShelf ⟨Nat.le_of_ble_eq_true rfl, Nat.le_of_ble_eq_true rfl⟩ ⟨Nat.le_refl _, Nat.le_refl _⟩ rfl (Nat.le_of_ble_eq_true rfl) dX0_keep_1) hM (fun σ1 v2 H locs hf hM => ?_)
  refine lv_if_eq (tgt := 20) hx hb dX0_keep_4 (by decide) (fun b3 => ?_) (fun b3 => ?_)
  · replace hf := hf.1 b3
    refine lv_iconst (v := -1) hx hb dX0_keep_20 rfl ?_
    exact g_reti K hr hM ⟨Nat.le_refl _, Nat.le_refl _⟩ hf dX0_keep_21
  · replace hf := hf.2 b3
    refine lv_iload_n hx hb dX0_keep_7 rfl (lv_at hl 2 rfl) ?_
    refine lv_iconst (v := -1) hx hb dX0_keep_8 rfl ?_
    refine lv_icmp_eq (tgt := 22) hx hb dX0_keep_9 (by decide) (fun b4 => ?_) (fun b4 => ?_)
    · replace hf := hf.1 b4
      exact w_X0_keep_22 K hr _ _ _ hf _ _ _ hM (lv_sub hl [0, 1, 2] rfl)
    · replace hf := hf.2 b4
      refine lv_aload_n hx hb dX0_keep_12 rfl (lv_at hl 0 rfl) ?_
      refine lv_iload_n hx hb dX0_keep_13 rfl (lv_at hl 2 rfl) ?_
      refine g_runi (rV [.int x2] [] K kX hM hl (c_X0_isBody l r A _ _ _ hf) q1085 q1087 qs38 q82 q1088 hdX0_isBody ⟨Nat.le_of_ble_eq_true rfl, Nat.le_of_ble_eq_true rfl⟩ ⟨Nat.le_refl _, Nat.le_refl _⟩ rfl (Nat.le_of_ble_eq_true rfl) dX0_keep_14) hM (fun σ5 v6 H locs hf hM => ?_)
      refine lv_if_ne (tgt := 22) hx hb dX0_keep_17 (by decide) (fun b7 => ?_) (fun b7 => ?_)
      · replace hf := hf.2 b7
        exact w_X0_keep_22 K hr _ _ _ hf _ _ _ hM (lv_sub hl [0, 1, 2] rfl)
      · replace hf := hf.1 b7
        refine lv_iconst (v := -1) hx hb dX0_keep_20 rfl ?_
        exact g_reti K hr hM ⟨Nat.le_refl _, Nat.le_refl _⟩ hf dX0_keep_21
theorem c_X0_count (l : Launch) (r : GR) (A : Nat → Prop) (σ : GS) (x1 : Int32) (P : GS → Int32 → Prop) (hf : f_X0_count r σ x1 P) : gMet dX l yX0_count cX0_count 2 (some .int) 0 0 0 0 r A σ [.ref r.2.1, .int x1] (zI P) := by
  refine g_enter (lv := [(0, .ref r.2.1), (1, .int x1)]) (by decide) (Nat.le_of_ble_eq_true rfl) rfl ?_
  intro p e s m below meth c ls K hr hM hl hi
  obtain ⟨hx, hb, hml, hown, hts, hlk, hKK, hA⟩ := id K
  unfold f_X0_count at hf
  refine lv_iload_n hx hb dX0_count_0 rfl (lv_at hl 1 rfl) ?_
  by_cases b1_0 : x1 = (0 : Int32)
  · replace hf := hf.1 b1_0
    refine lv_tableIn (off := 43) (tgt := 44) hx hb dX0_count_1 (by rw [b1_0]; decide) (by rw [b1_0]; decide) (by rw [b1_0]; rfl) (by decide) ?_
    refine lv_aload_n hx hb dX0_count_44 rfl (lv_at hl 0 rfl) ?_
    refine g_geti K kX hM 2 rfl q163 rfl dX0_count_45 rfl ?_
    exact g_reti K hr hM ⟨Nat.le_refl _, Nat.le_refl _⟩ hf dX0_count_48
  replace hf := hf.2 b1_0
  by_cases b1_1 : x1 = (1 : Int32)
  · replace hf := hf.1 b1_1
    refine lv_tableIn (off := 48) (tgt := 49) hx hb dX0_count_1 (by rw [b1_1]; decide) (by rw [b1_1]; decide) (by rw [b1_1]; rfl) (by decide) ?_
    refine lv_aload_n hx hb dX0_count_49 rfl (lv_at hl 0 rfl) ?_
    refine g_geti K kX hM 3 rfl q164 rfl dX0_count_50 rfl ?_
    exact g_reti K hr hM ⟨Nat.le_refl _, Nat.le_refl _⟩ hf dX0_count_53
  replace hf := hf.2 b1_1
  by_cases b1_2 : x1 = (2 : Int32)
  · replace hf := hf.1 b1_2
    refine lv_tableIn (off := 53) (tgt := 54) hx hb dX0_count_1 (by rw [b1_2]; decide) (by rw [b1_2]; decide) (by rw [b1_2]; rfl) (by decide) ?_
    refine lv_aload_n hx hb dX0_count_54 rfl (lv_at hl 0 rfl) ?_
    refine g_geti K kX hM 10 rfl q173 rfl dX0_count_55 rfl ?_
    exact g_reti K hr hM ⟨Nat.le_refl _, Nat.le_refl _⟩ hf dX0_count_58
  replace hf := hf.2 b1_2
  by_cases b1_3 : x1 = (3 : Int32)
  · replace hf := hf.1 b1_3
    refine lv_tableIn (off := 58) (tgt := 59) hx hb dX0_count_1 (by rw [b1_3]; decide) (by rw [b1_3]; decide) (by rw [b1_3]; rfl) (by decide) ?_
    refine lv_aload_n hx hb dX0_count_59 rfl (lv_at hl 0 rfl) ?_
    refine g_geti K kX hM 8 rfl q171 rfl dX0_count_60 rfl ?_
    exact g_reti K hr hM ⟨Nat.le_refl _, Nat.le_refl _⟩ hf dX0_count_63
  replace hf := hf.2 b1_3
  by_cases b1_4 : x1 = (4 : Int32)
  · replace hf := hf.1 b1_4
    refine lv_tableIn (off := 63) (tgt := 64) hx hb dX0_count_1 (by rw [b1_4]; decide) (by rw [b1_4]; decide) (by rw [b1_4]; rfl) (by decide) ?_
    refine lv_aload_n hx hb dX0_count_64 rfl (lv_at hl 0 rfl) ?_
    refine g_geti K kX hM 5 rfl q166 rfl dX0_count_65 rfl ?_
    exact g_reti K hr hM ⟨Nat.le_refl _, Nat.le_refl _⟩ hf dX0_count_68
  replace hf := hf.2 b1_4
  by_cases b1_5 : x1 = (5 : Int32)
  · replace hf := hf.1 b1_5
    refine lv_tableIn (off := 68) (tgt := 69) hx hb dX0_count_1 (by rw [b1_5]; decide) (by rw [b1_5]; decide) (by rw [b1_5]; rfl) (by decide) ?_
    refine lv_aload_n hx hb dX0_count_69 rfl (lv_at hl 0 rfl) ?_
    refine g_geti K kX hM 28 rfl q191 rfl dX0_count_70 rfl ?_
    exact g_reti K hr hM ⟨Nat.le_refl _, Nat.le_refl _⟩ hf dX0_count_73
  replace hf := hf.2 b1_5
  by_cases b1_6 : x1 = (6 : Int32)
  · replace hf := hf.1 b1_6
    refine lv_tableIn (off := 73) (tgt := 74) hx hb dX0_count_1 (by rw [b1_6]; decide) (by rw [b1_6]; decide) (by rw [b1_6]; rfl) (by decide) ?_
    refine lv_aload_n hx hb dX0_count_74 rfl (lv_at hl 0 rfl) ?_
    refine g_geti K kX hM 25 rfl q188 rfl dX0_count_75 rfl ?_
    exact g_reti K hr hM ⟨Nat.le_refl _, Nat.le_refl _⟩ hf dX0_count_78
  replace hf := hf.2 b1_6
  refine lv_tableOut (tgt := 79) hx hb dX0_count_1 (by have := lv_neT (a := 0) b1_0 rfl; have := lv_neT (a := 1) b1_1 rfl; have := lv_neT (a := 2) b1_2 rfl; have := lv_neT (a := 3) b1_3 rfl; have := lv_neT (a := 4) b1_4 rfl; have := lv_neT (a := 5) b1_5 rfl; have := lv_neT (a := 6) b1_6 rfl; omega) (by decide) ?_
  refine lv_iconst (v := -1) hx hb dX0_count_79 rfl ?_
  exact g_reti K hr hM ⟨Nat.le_refl _, Nat.le_refl _⟩ hf dX0_count_80
theorem c_X23_init (l : Launch) (r : GR) (A : Nat → Prop) (σ : GS) (x0 : Nat) (P : GS → Prop) (hf : f_X23_init r σ x0 P) : gMet dX l yX23_init cX23_init 1 none 2 44 0 0 r A σ [.ref x0] (zV P) := by
  refine g_enter (lv := [(0, .ref x0)]) (by decide) (Nat.le_of_ble_eq_true rfl) rfl ?_
  intro p e s m below meth c ls K hr hM hl hi
  obtain ⟨hx, hb, hml, hown, hts, hlk, hKK, hA⟩ := id K
  unfold f_X23_init at hf
  refine lv_aload_n hx hb dX23_init_0 rfl (lv_at hl 0 rfl) ?_
  refine g_runv (rIN [] [] K hM hl (c_X14_init l r A _ _ _ hf) q1266 q985 q110 q986 hdX14_init ⟨Nat.le_of_ble_eq_true rfl, Nat.le_of_ble_eq_true rfl⟩ ⟨Nat.le_refl _, Nat.le_refl _⟩ rfl (Nat.le_of_ble_eq_true rfl) dX23_init_1) hM (fun σ1 H locs hf hM => ?_)
  exact g_retv K hr hM ⟨Nat.le_refl _, Nat.le_refl _⟩ hf dX23_init_4
theorem c_X15_kind_c13 (l : Launch) (r : GR) (A : Nat → Prop) (σ : GS) (x0 : Nat) (P : GS → Int32 → Prop) (hf : f_X15_kind_c13 r σ x0 P) : gMet dX l yX15_kind cX15_kind 1 (some .int) 0 0 0 0 r A σ [.ref x0] (zI P) := by
  refine g_enter (lv := [(0, .ref x0)]) (by decide) (Nat.le_of_ble_eq_true rfl) rfl ?_
  intro p e s m below meth c ls K hr hM hl hi
  obtain ⟨hx, hb, hml, hown, hts, hlk, hKK, hA⟩ := id K
  unfold f_X15_kind_c13 at hf
  refine lv_iconst (v := 0) hx hb dX15_kind_0 rfl ?_
  exact g_reti K hr hM ⟨Nat.le_refl _, Nat.le_refl _⟩ hf dX15_kind_1
theorem w_X15_isUnder_c13_12 {p : Program} {l : Launch} {e : Env} {s : State} {m : MethodId} {args : Array Value} {below : List Frame} {meth : Method} {c : Code} {r : GR} {A : Nat → Prop} {P : GS → Int32 → Prop} (K : gC p s m args meth c cX15_isUnder 2 RX15 r A) (hr : meth.sig.returnType = (some .boolean)) : ∀ (σ : GS), f_X15_isUnder_c13_12 r P σ → gW dX p l e (gRm 1 20 0 0) s m args below meth c r A (zI P) 0 0 2 12 [] [] 0 0 σ := by
  obtain ⟨hx, hb, hml, hown, hts, hlk, hKK, hA⟩ := id K
  intro σ hf H locs ls hM hl
  unfold f_X15_isUnder_c13_12 at hf
  refine lv_iconst (v := 1) hx hb dX15_isUnder_12 rfl ?_
  refine lv_goto (tgt := 17) hx hb dX15_isUnder_13 (by decide) ?_
  exact g_retz K hr hM ⟨Nat.le_refl _, Nat.le_refl _⟩ gZ_1 hf dX15_isUnder_17
theorem c_X15_isUnder_c13 (l : Launch) (r : GR) (A : Nat → Prop) (σ : GS) (x0 : Nat) (x1 : Int32) (P : GS → Int32 → Prop) (hf : f_X15_isUnder_c13 r σ x0 x1 P) : gMet dX l yX15_isUnder cX15_isUnder 2 (some .boolean) 1 20 0 0 r A σ [.ref x0, .int x1] (zI P) := by
  refine g_enter (lv := [(0, .ref x0), (1, .int x1)]) (by decide) (Nat.le_of_ble_eq_true rfl) rfl ?_
  intro p e s m below meth c ls K hr hM hl hi
  obtain ⟨hx, hb, hml, hown, hts, hlk, hKK, hA⟩ := id K
  unfold f_X15_isUnder_c13 at hf
  refine lv_iload_n hx hb dX15_isUnder_0 rfl (lv_at hl 1 rfl) ?_
  refine lv_if_eq (tgt := 12) hx hb dX15_isUnder_1 (by decide) (fun b1 => ?_) (fun b1 => ?_)
  · replace hf := hf.1 b1
    exact w_X15_isUnder_c13_12 K hr _ hf _ _ _ hM (lv_sub hl [] rfl)
  · replace hf := hf.2 b1
    refine lv_iload_n hx hb dX15_isUnder_4 rfl (lv_at hl 1 rfl) ?_
    refine lv_aload_n hx hb dX15_isUnder_5 rfl (lv_at hl 0 rfl) ?_
    obtain ⟨f4, h5, hf⟩ := hf
    refine g_runi (rOv (x := ⟨"PointsForAll$Purse", "kind", "()I"⟩) (owner := "PointsForAll$Purse") [] [.int x1] K kY13 hM hl h5 (c_X15_kind_c13 l r A _ _ _ hf) q1416 q1419 q1417 q1441 q1418 q1417 q111 q1441 hdo_Purse_kind ⟨Nat.le_of_ble_eq_true rfl, Nat.le_of_ble_eq_true rfl⟩ ⟨Nat.le_refl _, Nat.le_refl _⟩ rfl (Nat.le_of_ble_eq_true rfl) dX15_isUnder_6) hM (fun σ2 v3 H locs hf hM => ?_)
    refine lv_icmp_ne (tgt := 16) hx hb dX15_isUnder_9 (by decide) (fun b6 => ?_) (fun b6 => ?_)
    · replace hf := hf.2 b6
      refine lv_iconst (v := 0) hx hb dX15_isUnder_16 rfl ?_
      exact g_retz K hr hM ⟨Nat.le_refl _, Nat.le_refl _⟩ gZ_0 hf dX15_isUnder_17
    · replace hf := hf.1 b6
      exact w_X15_isUnder_c13_12 K hr _ hf _ _ _ hM (lv_sub hl [] rfl)
theorem c_X16_kind_c14 (l : Launch) (r : GR) (A : Nat → Prop) (σ : GS) (x0 : Nat) (P : GS → Int32 → Prop) (hf : f_X16_kind_c14 r σ x0 P) : gMet dX l yX16_kind cX16_kind 1 (some .int) 0 0 0 0 r A σ [.ref x0] (zI P) := by
  refine g_enter (lv := [(0, .ref x0)]) (by decide) (Nat.le_of_ble_eq_true rfl) rfl ?_
  intro p e s m below meth c ls K hr hM hl hi
  obtain ⟨hx, hb, hml, hown, hts, hlk, hKK, hA⟩ := id K
  unfold f_X16_kind_c14 at hf
  refine lv_iconst (v := 1) hx hb dX16_kind_0 rfl ?_
  exact g_reti K hr hM ⟨Nat.le_refl _, Nat.le_refl _⟩ hf dX16_kind_1
theorem w_X15_isUnder_c14_12 {p : Program} {l : Launch} {e : Env} {s : State} {m : MethodId} {args : Array Value} {below : List Frame} {meth : Method} {c : Code} {r : GR} {A : Nat → Prop} {P : GS → Int32 → Prop} (K : gC p s m args meth c cX15_isUnder 2 RX15 r A) (hr : meth.sig.returnType = (some .boolean)) : ∀ (σ : GS), f_X15_isUnder_c14_12 r P σ → gW dX p l e (gRm 1 20 0 0) s m args below meth c r A (zI P) 0 0 2 12 [] [] 0 0 σ := by
  obtain ⟨hx, hb, hml, hown, hts, hlk, hKK, hA⟩ := id K
  intro σ hf H locs ls hM hl
  unfold f_X15_isUnder_c14_12 at hf
  refine lv_iconst (v := 1) hx hb dX15_isUnder_12 rfl ?_
  refine lv_goto (tgt := 17) hx hb dX15_isUnder_13 (by decide) ?_
  exact g_retz K hr hM ⟨Nat.le_refl _, Nat.le_refl _⟩ gZ_1 hf dX15_isUnder_17
theorem c_X15_isUnder_c14 (l : Launch) (r : GR) (A : Nat → Prop) (σ : GS) (x0 : Nat) (x1 : Int32) (P : GS → Int32 → Prop) (hf : f_X15_isUnder_c14 r σ x0 x1 P) : gMet dX l yX15_isUnder cX15_isUnder 2 (some .boolean) 1 20 0 0 r A σ [.ref x0, .int x1] (zI P) := by
  refine g_enter (lv := [(0, .ref x0), (1, .int x1)]) (by decide) (Nat.le_of_ble_eq_true rfl) rfl ?_
  intro p e s m below meth c ls K hr hM hl hi
  obtain ⟨hx, hb, hml, hown, hts, hlk, hKK, hA⟩ := id K
  unfold f_X15_isUnder_c14 at hf
  refine lv_iload_n hx hb dX15_isUnder_0 rfl (lv_at hl 1 rfl) ?_
  refine lv_if_eq (tgt := 12) hx hb dX15_isUnder_1 (by decide) (fun b1 => ?_) (fun b1 => ?_)
  · replace hf := hf.1 b1
    exact w_X15_isUnder_c14_12 K hr _ hf _ _ _ hM (lv_sub hl [] rfl)
  · replace hf := hf.2 b1
    refine lv_iload_n hx hb dX15_isUnder_4 rfl (lv_at hl 1 rfl) ?_
    refine lv_aload_n hx hb dX15_isUnder_5 rfl (lv_at hl 0 rfl) ?_
    obtain ⟨f4, h5, hf⟩ := hf
    refine g_runi (rOv (x := ⟨"PointsForAll$Purse", "kind", "()I"⟩) (owner := "PointsForAll$Purse") [] [.int x1] K kY14 hM hl h5 (c_X16_kind_c14 l r A _ _ _ hf) q1416 q1419 q1417 q1441 q1429 q1430 q112 q1431 hdo_Purse_kind ⟨Nat.le_of_ble_eq_true rfl, Nat.le_of_ble_eq_true rfl⟩ ⟨Nat.le_refl _, Nat.le_refl _⟩ rfl (Nat.le_of_ble_eq_true rfl) dX15_isUnder_6) hM (fun σ2 v3 H locs hf hM => ?_)
    refine lv_icmp_ne (tgt := 16) hx hb dX15_isUnder_9 (by decide) (fun b6 => ?_) (fun b6 => ?_)
    · replace hf := hf.2 b6
      refine lv_iconst (v := 0) hx hb dX15_isUnder_16 rfl ?_
      exact g_retz K hr hM ⟨Nat.le_refl _, Nat.le_refl _⟩ gZ_0 hf dX15_isUnder_17
    · replace hf := hf.1 b6
      exact w_X15_isUnder_c14_12 K hr _ hf _ _ _ hM (lv_sub hl [] rfl)
theorem c_X17_kind_c15 (l : Launch) (r : GR) (A : Nat → Prop) (σ : GS) (x0 : Nat) (P : GS → Int32 → Prop) (hf : f_X17_kind_c15 r σ x0 P) : gMet dX l yX17_kind cX17_kind 1 (some .int) 0 0 0 0 r A σ [.ref x0] (zI P) := by
  refine g_enter (lv := [(0, .ref x0)]) (by decide) (Nat.le_of_ble_eq_true rfl) rfl ?_
  intro p e s m below meth c ls K hr hM hl hi
  obtain ⟨hx, hb, hml, hown, hts, hlk, hKK, hA⟩ := id K
  unfold f_X17_kind_c15 at hf
  refine lv_iconst (v := 2) hx hb dX17_kind_0 rfl ?_
  exact g_reti K hr hM ⟨Nat.le_refl _, Nat.le_refl _⟩ hf dX17_kind_1
theorem w_X15_isUnder_c15_12 {p : Program} {l : Launch} {e : Env} {s : State} {m : MethodId} {args : Array Value} {below : List Frame} {meth : Method} {c : Code} {r : GR} {A : Nat → Prop} {P : GS → Int32 → Prop} (K : gC p s m args meth c cX15_isUnder 2 RX15 r A) (hr : meth.sig.returnType = (some .boolean)) : ∀ (σ : GS), f_X15_isUnder_c15_12 r P σ → gW dX p l e (gRm 1 20 0 0) s m args below meth c r A (zI P) 0 0 2 12 [] [] 0 0 σ := by
  obtain ⟨hx, hb, hml, hown, hts, hlk, hKK, hA⟩ := id K
  intro σ hf H locs ls hM hl
  unfold f_X15_isUnder_c15_12 at hf
  refine lv_iconst (v := 1) hx hb dX15_isUnder_12 rfl ?_
  refine lv_goto (tgt := 17) hx hb dX15_isUnder_13 (by decide) ?_
  exact g_retz K hr hM ⟨Nat.le_refl _, Nat.le_refl _⟩ gZ_1 hf dX15_isUnder_17
theorem c_X15_isUnder_c15 (l : Launch) (r : GR) (A : Nat → Prop) (σ : GS) (x0 : Nat) (x1 : Int32) (P : GS → Int32 → Prop) (hf : f_X15_isUnder_c15 r σ x0 x1 P) : gMet dX l yX15_isUnder cX15_isUnder 2 (some .boolean) 1 20 0 0 r A σ [.ref x0, .int x1] (zI P) := by
  refine g_enter (lv := [(0, .ref x0), (1, .int x1)]) (by decide) (Nat.le_of_ble_eq_true rfl) rfl ?_
  intro p e s m below meth c ls K hr hM hl hi
  obtain ⟨hx, hb, hml, hown, hts, hlk, hKK, hA⟩ := id K
  unfold f_X15_isUnder_c15 at hf
  refine lv_iload_n hx hb dX15_isUnder_0 rfl (lv_at hl 1 rfl) ?_
  refine lv_if_eq (tgt := 12) hx hb dX15_isUnder_1 (by decide) (fun b1 => ?_) (fun b1 => ?_)
  · replace hf := hf.1 b1
    exact w_X15_isUnder_c15_12 K hr _ hf _ _ _ hM (lv_sub hl [] rfl)
  · replace hf := hf.2 b1
    refine lv_iload_n hx hb dX15_isUnder_4 rfl (lv_at hl 1 rfl) ?_
    refine lv_aload_n hx hb dX15_isUnder_5 rfl (lv_at hl 0 rfl) ?_
    obtain ⟨f4, h5, hf⟩ := hf
    refine g_runi (rOv (x := ⟨"PointsForAll$Purse", "kind", "()I"⟩) (owner := "PointsForAll$Purse") [] [.int x1] K kY15 hM hl h5 (c_X17_kind_c15 l r A _ _ _ hf) q1416 q1419 q1417 q1441 q1435 q1436 q113 q1437 hdo_Purse_kind ⟨Nat.le_of_ble_eq_true rfl, Nat.le_of_ble_eq_true rfl⟩ ⟨Nat.le_refl _, Nat.le_refl _⟩ rfl (Nat.le_of_ble_eq_true rfl) dX15_isUnder_6) hM (fun σ2 v3 H locs hf hM => ?_)
    refine lv_icmp_ne (tgt := 16) hx hb dX15_isUnder_9 (by decide) (fun b6 => ?_) (fun b6 => ?_)
    · replace hf := hf.2 b6
      refine lv_iconst (v := 0) hx hb dX15_isUnder_16 rfl ?_
      exact g_retz K hr hM ⟨Nat.le_refl _, Nat.le_refl _⟩ gZ_0 hf dX15_isUnder_17
    · replace hf := hf.1 b6
      exact w_X15_isUnder_c15_12 K hr _ hf _ _ _ hM (lv_sub hl [] rfl)
theorem c_X18_kind_c16 (l : Launch) (r : GR) (A : Nat → Prop) (σ : GS) (x0 : Nat) (P : GS → Int32 → Prop) (hf : f_X18_kind_c16 r σ x0 P) : gMet dX l yX18_kind cX18_kind 1 (some .int) 0 0 0 0 r A σ [.ref x0] (zI P) := by
  refine g_enter (lv := [(0, .ref x0)]) (by decide) (Nat.le_of_ble_eq_true rfl) rfl ?_
  intro p e s m below meth c ls K hr hM hl hi
  obtain ⟨hx, hb, hml, hown, hts, hlk, hKK, hA⟩ := id K
  unfold f_X18_kind_c16 at hf
  refine lv_iconst (v := 3) hx hb dX18_kind_0 rfl ?_
  exact g_reti K hr hM ⟨Nat.le_refl _, Nat.le_refl _⟩ hf dX18_kind_1
theorem w_X15_isUnder_c16_12 {p : Program} {l : Launch} {e : Env} {s : State} {m : MethodId} {args : Array Value} {below : List Frame} {meth : Method} {c : Code} {r : GR} {A : Nat → Prop} {P : GS → Int32 → Prop} (K : gC p s m args meth c cX15_isUnder 2 RX15 r A) (hr : meth.sig.returnType = (some .boolean)) : ∀ (σ : GS), f_X15_isUnder_c16_12 r P σ → gW dX p l e (gRm 1 20 0 0) s m args below meth c r A (zI P) 0 0 2 12 [] [] 0 0 σ := by
  obtain ⟨hx, hb, hml, hown, hts, hlk, hKK, hA⟩ := id K
  intro σ hf H locs ls hM hl
  unfold f_X15_isUnder_c16_12 at hf
  refine lv_iconst (v := 1) hx hb dX15_isUnder_12 rfl ?_
  refine lv_goto (tgt := 17) hx hb dX15_isUnder_13 (by decide) ?_
  exact g_retz K hr hM ⟨Nat.le_refl _, Nat.le_refl _⟩ gZ_1 hf dX15_isUnder_17
theorem c_X15_isUnder_c16 (l : Launch) (r : GR) (A : Nat → Prop) (σ : GS) (x0 : Nat) (x1 : Int32) (P : GS → Int32 → Prop) (hf : f_X15_isUnder_c16 r σ x0 x1 P) : gMet dX l yX15_isUnder cX15_isUnder 2 (some .boolean) 1 20 0 0 r A σ [.ref x0, .int x1] (zI P) := by
  refine g_enter (lv := [(0, .ref x0), (1, .int x1)]) (by decide) (Nat.le_of_ble_eq_true rfl) rfl ?_
  intro p e s m below meth c ls K hr hM hl hi
  obtain ⟨hx, hb, hml, hown, hts, hlk, hKK, hA⟩ := id K
  unfold f_X15_isUnder_c16 at hf
  refine lv_iload_n hx hb dX15_isUnder_0 rfl (lv_at hl 1 rfl) ?_
  refine lv_if_eq (tgt := 12) hx hb dX15_isUnder_1 (by decide) (fun b1 => ?_) (fun b1 => ?_)
  · replace hf := hf.1 b1
    exact w_X15_isUnder_c16_12 K hr _ hf _ _ _ hM (lv_sub hl [] rfl)
  · replace hf := hf.2 b1
    refine lv_iload_n hx hb dX15_isUnder_4 rfl (lv_at hl 1 rfl) ?_
    refine lv_aload_n hx hb dX15_isUnder_5 rfl (lv_at hl 0 rfl) ?_
    obtain ⟨f4, h5, hf⟩ := hf
    refine g_runi (rOv (x := ⟨"PointsForAll$Purse", "kind", "()I"⟩) (owner := "PointsForAll$Purse") [] [.int x1] K kY16 hM hl h5 (c_X18_kind_c16 l r A _ _ _ hf) q1416 q1419 q1417 q1441 q1432 q1433 q114 q1434 hdo_Purse_kind ⟨Nat.le_of_ble_eq_true rfl, Nat.le_of_ble_eq_true rfl⟩ ⟨Nat.le_refl _, Nat.le_refl _⟩ rfl (Nat.le_of_ble_eq_true rfl) dX15_isUnder_6) hM (fun σ2 v3 H locs hf hM => ?_)
    refine lv_icmp_ne (tgt := 16) hx hb dX15_isUnder_9 (by decide) (fun b6 => ?_) (fun b6 => ?_)
    · replace hf := hf.2 b6
      refine lv_iconst (v := 0) hx hb dX15_isUnder_16 rfl ?_
      exact g_retz K hr hM ⟨Nat.le_refl _, Nat.le_refl _⟩ gZ_0 hf dX15_isUnder_17
    · replace hf := hf.1 b6
      exact w_X15_isUnder_c16_12 K hr _ hf _ _ _ hM (lv_sub hl [] rfl)
theorem c_X19_kind_c17 (l : Launch) (r : GR) (A : Nat → Prop) (σ : GS) (x0 : Nat) (P : GS → Int32 → Prop) (hf : f_X19_kind_c17 r σ x0 P) : gMet dX l yX19_kind cX19_kind 1 (some .int) 0 0 0 0 r A σ [.ref x0] (zI P) := by
  refine g_enter (lv := [(0, .ref x0)]) (by decide) (Nat.le_of_ble_eq_true rfl) rfl ?_
  intro p e s m below meth c ls K hr hM hl hi
  obtain ⟨hx, hb, hml, hown, hts, hlk, hKK, hA⟩ := id K
  unfold f_X19_kind_c17 at hf
  refine lv_iconst (v := 4) hx hb dX19_kind_0 rfl ?_
  exact g_reti K hr hM ⟨Nat.le_refl _, Nat.le_refl _⟩ hf dX19_kind_1
theorem w_X15_isUnder_c17_12 {p : Program} {l : Launch} {e : Env} {s : State} {m : MethodId} {args : Array Value} {below : List Frame} {meth : Method} {c : Code} {r : GR} {A : Nat → Prop} {P : GS → Int32 → Prop} (K : gC p s m args meth c cX15_isUnder 2 RX15 r A) (hr : meth.sig.returnType = (some .boolean)) : ∀ (σ : GS), f_X15_isUnder_c17_12 r P σ → gW dX p l e (gRm 1 20 0 0) s m args below meth c r A (zI P) 0 0 2 12 [] [] 0 0 σ := by
  obtain ⟨hx, hb, hml, hown, hts, hlk, hKK, hA⟩ := id K
  intro σ hf H locs ls hM hl
  unfold f_X15_isUnder_c17_12 at hf
  refine lv_iconst (v := 1) hx hb dX15_isUnder_12 rfl ?_
  refine lv_goto (tgt := 17) hx hb dX15_isUnder_13 (by decide) ?_
  exact g_retz K hr hM ⟨Nat.le_refl _, Nat.le_refl _⟩ gZ_1 hf dX15_isUnder_17
theorem c_X15_isUnder_c17 (l : Launch) (r : GR) (A : Nat → Prop) (σ : GS) (x0 : Nat) (x1 : Int32) (P : GS → Int32 → Prop) (hf : f_X15_isUnder_c17 r σ x0 x1 P) : gMet dX l yX15_isUnder cX15_isUnder 2 (some .boolean) 1 20 0 0 r A σ [.ref x0, .int x1] (zI P) := by
  refine g_enter (lv := [(0, .ref x0), (1, .int x1)]) (by decide) (Nat.le_of_ble_eq_true rfl) rfl ?_
  intro p e s m below meth c ls K hr hM hl hi
  obtain ⟨hx, hb, hml, hown, hts, hlk, hKK, hA⟩ := id K
  unfold f_X15_isUnder_c17 at hf
  refine lv_iload_n hx hb dX15_isUnder_0 rfl (lv_at hl 1 rfl) ?_
  refine lv_if_eq (tgt := 12) hx hb dX15_isUnder_1 (by decide) (fun b1 => ?_) (fun b1 => ?_)
  · replace hf := hf.1 b1
    exact w_X15_isUnder_c17_12 K hr _ hf _ _ _ hM (lv_sub hl [] rfl)
  · replace hf := hf.2 b1
    refine lv_iload_n hx hb dX15_isUnder_4 rfl (lv_at hl 1 rfl) ?_
    refine lv_aload_n hx hb dX15_isUnder_5 rfl (lv_at hl 0 rfl) ?_
    obtain ⟨f4, h5, hf⟩ := hf
    refine g_runi (rOv (x := ⟨"PointsForAll$Purse", "kind", "()I"⟩) (owner := "PointsForAll$Purse") [] [.int x1] K kY17 hM hl h5 (c_X19_kind_c17 l r A _ _ _ hf) q1416 q1419 q1417 q1441 q1426 q1427 q115 q1428 hdo_Purse_kind ⟨Nat.le_of_ble_eq_true rfl, Nat.le_of_ble_eq_true rfl⟩ ⟨Nat.le_refl _, Nat.le_refl _⟩ rfl (Nat.le_of_ble_eq_true rfl) dX15_isUnder_6) hM (fun σ2 v3 H locs hf hM => ?_)
    refine lv_icmp_ne (tgt := 16) hx hb dX15_isUnder_9 (by decide) (fun b6 => ?_) (fun b6 => ?_)
    · replace hf := hf.2 b6
      refine lv_iconst (v := 0) hx hb dX15_isUnder_16 rfl ?_
      exact g_retz K hr hM ⟨Nat.le_refl _, Nat.le_refl _⟩ gZ_0 hf dX15_isUnder_17
    · replace hf := hf.1 b6
      exact w_X15_isUnder_c17_12 K hr _ hf _ _ _ hM (lv_sub hl [] rfl)
theorem c_X20_kind_c18 (l : Launch) (r : GR) (A : Nat → Prop) (σ : GS) (x0 : Nat) (P : GS → Int32 → Prop) (hf : f_X20_kind_c18 r σ x0 P) : gMet dX l yX20_kind cX20_kind 1 (some .int) 0 0 0 0 r A σ [.ref x0] (zI P) := by
  refine g_enter (lv := [(0, .ref x0)]) (by decide) (Nat.le_of_ble_eq_true rfl) rfl ?_
  intro p e s m below meth c ls K hr hM hl hi
  obtain ⟨hx, hb, hml, hown, hts, hlk, hKK, hA⟩ := id K
  unfold f_X20_kind_c18 at hf
  refine lv_iconst (v := 5) hx hb dX20_kind_0 rfl ?_
  exact g_reti K hr hM ⟨Nat.le_refl _, Nat.le_refl _⟩ hf dX20_kind_1
theorem w_X15_isUnder_c18_12 {p : Program} {l : Launch} {e : Env} {s : State} {m : MethodId} {args : Array Value} {below : List Frame} {meth : Method} {c : Code} {r : GR} {A : Nat → Prop} {P : GS → Int32 → Prop} (K : gC p s m args meth c cX15_isUnder 2 RX15 r A) (hr : meth.sig.returnType = (some .boolean)) : ∀ (σ : GS), f_X15_isUnder_c18_12 r P σ → gW dX p l e (gRm 1 20 0 0) s m args below meth c r A (zI P) 0 0 2 12 [] [] 0 0 σ := by
  obtain ⟨hx, hb, hml, hown, hts, hlk, hKK, hA⟩ := id K
  intro σ hf H locs ls hM hl
  unfold f_X15_isUnder_c18_12 at hf
  refine lv_iconst (v := 1) hx hb dX15_isUnder_12 rfl ?_
  refine lv_goto (tgt := 17) hx hb dX15_isUnder_13 (by decide) ?_
  exact g_retz K hr hM ⟨Nat.le_refl _, Nat.le_refl _⟩ gZ_1 hf dX15_isUnder_17
theorem c_X15_isUnder_c18 (l : Launch) (r : GR) (A : Nat → Prop) (σ : GS) (x0 : Nat) (x1 : Int32) (P : GS → Int32 → Prop) (hf : f_X15_isUnder_c18 r σ x0 x1 P) : gMet dX l yX15_isUnder cX15_isUnder 2 (some .boolean) 1 20 0 0 r A σ [.ref x0, .int x1] (zI P) := by
  refine g_enter (lv := [(0, .ref x0), (1, .int x1)]) (by decide) (Nat.le_of_ble_eq_true rfl) rfl ?_
  intro p e s m below meth c ls K hr hM hl hi
  obtain ⟨hx, hb, hml, hown, hts, hlk, hKK, hA⟩ := id K
  unfold f_X15_isUnder_c18 at hf
  refine lv_iload_n hx hb dX15_isUnder_0 rfl (lv_at hl 1 rfl) ?_
  refine lv_if_eq (tgt := 12) hx hb dX15_isUnder_1 (by decide) (fun b1 => ?_) (fun b1 => ?_)
  · replace hf := hf.1 b1
    exact w_X15_isUnder_c18_12 K hr _ hf _ _ _ hM (lv_sub hl [] rfl)
  · replace hf := hf.2 b1
    refine lv_iload_n hx hb dX15_isUnder_4 rfl (lv_at hl 1 rfl) ?_
    refine lv_aload_n hx hb dX15_isUnder_5 rfl (lv_at hl 0 rfl) ?_
    obtain ⟨f4, h5, hf⟩ := hf
    refine g_runi (rOv (x := ⟨"PointsForAll$Purse", "kind", "()I"⟩) (owner := "PointsForAll$Purse") [] [.int x1] K kY18 hM hl h5 (c_X20_kind_c18 l r A _ _ _ hf) q1416 q1419 q1417 q1441 q1420 q1421 q116 q1422 hdo_Purse_kind ⟨Nat.le_of_ble_eq_true rfl, Nat.le_of_ble_eq_true rfl⟩ ⟨Nat.le_refl _, Nat.le_refl _⟩ rfl (Nat.le_of_ble_eq_true rfl) dX15_isUnder_6) hM (fun σ2 v3 H locs hf hM => ?_)
    refine lv_icmp_ne (tgt := 16) hx hb dX15_isUnder_9 (by decide) (fun b6 => ?_) (fun b6 => ?_)
    · replace hf := hf.2 b6
      refine lv_iconst (v := 0) hx hb dX15_isUnder_16 rfl ?_
      exact g_retz K hr hM ⟨Nat.le_refl _, Nat.le_refl _⟩ gZ_0 hf dX15_isUnder_17
    · replace hf := hf.1 b6
      exact w_X15_isUnder_c18_12 K hr _ hf _ _ _ hM (lv_sub hl [] rfl)
theorem c_X21_kind_c19 (l : Launch) (r : GR) (A : Nat → Prop) (σ : GS) (x0 : Nat) (P : GS → Int32 → Prop) (hf : f_X21_kind_c19 r σ x0 P) : gMet dX l yX21_kind cX21_kind 1 (some .int) 0 0 0 0 r A σ [.ref x0] (zI P) := by
  refine g_enter (lv := [(0, .ref x0)]) (by decide) (Nat.le_of_ble_eq_true rfl) rfl ?_
  intro p e s m below meth c ls K hr hM hl hi
  obtain ⟨hx, hb, hml, hown, hts, hlk, hKK, hA⟩ := id K
  unfold f_X21_kind_c19 at hf
  refine lv_bipush (v := 6) hx hb dX21_kind_0 rfl ?_
  exact g_reti K hr hM ⟨Nat.le_refl _, Nat.le_refl _⟩ hf dX21_kind_2
theorem w_X15_isUnder_c19_12 {p : Program} {l : Launch} {e : Env} {s : State} {m : MethodId} {args : Array Value} {below : List Frame} {meth : Method} {c : Code} {r : GR} {A : Nat → Prop} {P : GS → Int32 → Prop} (K : gC p s m args meth c cX15_isUnder 2 RX15 r A) (hr : meth.sig.returnType = (some .boolean)) : ∀ (σ : GS), f_X15_isUnder_c19_12 r P σ → gW dX p l e (gRm 1 20 0 0) s m args below meth c r A (zI P) 0 0 2 12 [] [] 0 0 σ := by
  obtain ⟨hx, hb, hml, hown, hts, hlk, hKK, hA⟩ := id K
  intro σ hf H locs ls hM hl
  unfold f_X15_isUnder_c19_12 at hf
  refine lv_iconst (v := 1) hx hb dX15_isUnder_12 rfl ?_
  refine lv_goto (tgt := 17) hx hb dX15_isUnder_13 (by decide) ?_
  exact g_retz K hr hM ⟨Nat.le_refl _, Nat.le_refl _⟩ gZ_1 hf dX15_isUnder_17
theorem c_X15_isUnder_c19 (l : Launch) (r : GR) (A : Nat → Prop) (σ : GS) (x0 : Nat) (x1 : Int32) (P : GS → Int32 → Prop) (hf : f_X15_isUnder_c19 r σ x0 x1 P) : gMet dX l yX15_isUnder cX15_isUnder 2 (some .boolean) 1 20 0 0 r A σ [.ref x0, .int x1] (zI P) := by
  refine g_enter (lv := [(0, .ref x0), (1, .int x1)]) (by decide) (Nat.le_of_ble_eq_true rfl) rfl ?_
  intro p e s m below meth c ls K hr hM hl hi
  obtain ⟨hx, hb, hml, hown, hts, hlk, hKK, hA⟩ := id K
  unfold f_X15_isUnder_c19 at hf
  refine lv_iload_n hx hb dX15_isUnder_0 rfl (lv_at hl 1 rfl) ?_
  refine lv_if_eq (tgt := 12) hx hb dX15_isUnder_1 (by decide) (fun b1 => ?_) (fun b1 => ?_)
  · replace hf := hf.1 b1
    exact w_X15_isUnder_c19_12 K hr _ hf _ _ _ hM (lv_sub hl [] rfl)
  · replace hf := hf.2 b1
    refine lv_iload_n hx hb dX15_isUnder_4 rfl (lv_at hl 1 rfl) ?_
    refine lv_aload_n hx hb dX15_isUnder_5 rfl (lv_at hl 0 rfl) ?_
    obtain ⟨f4, h5, hf⟩ := hf
    refine g_runi (rOv (x := ⟨"PointsForAll$Purse", "kind", "()I"⟩) (owner := "PointsForAll$Purse") [] [.int x1] K kY19 hM hl h5 (c_X21_kind_c19 l r A _ _ _ hf) q1416 q1419 q1417 q1441 q1438 q1439 q117 q1440 hdo_Purse_kind ⟨Nat.le_of_ble_eq_true rfl, Nat.le_of_ble_eq_true rfl⟩ ⟨Nat.le_refl _, Nat.le_refl _⟩ rfl (Nat.le_of_ble_eq_true rfl) dX15_isUnder_6) hM (fun σ2 v3 H locs hf hM => ?_)
    refine lv_icmp_ne (tgt := 16) hx hb dX15_isUnder_9 (by decide) (fun b6 => ?_) (fun b6 => ?_)
    · replace hf := hf.2 b6
      refine lv_iconst (v := 0) hx hb dX15_isUnder_16 rfl ?_
      exact g_retz K hr hM ⟨Nat.le_refl _, Nat.le_refl _⟩ gZ_0 hf dX15_isUnder_17
    · replace hf := hf.1 b6
      exact w_X15_isUnder_c19_12 K hr _ hf _ _ _ hM (lv_sub hl [] rfl)
theorem c_X22_kind_c20 (l : Launch) (r : GR) (A : Nat → Prop) (σ : GS) (x0 : Nat) (P : GS → Int32 → Prop) (hf : f_X22_kind_c20 r σ x0 P) : gMet dX l yX22_kind cX22_kind 1 (some .int) 0 0 0 0 r A σ [.ref x0] (zI P) := by
  refine g_enter (lv := [(0, .ref x0)]) (by decide) (Nat.le_of_ble_eq_true rfl) rfl ?_
  intro p e s m below meth c ls K hr hM hl hi
  obtain ⟨hx, hb, hml, hown, hts, hlk, hKK, hA⟩ := id K
  unfold f_X22_kind_c20 at hf
  refine lv_bipush (v := 7) hx hb dX22_kind_0 rfl ?_
  exact g_reti K hr hM ⟨Nat.le_refl _, Nat.le_refl _⟩ hf dX22_kind_2
theorem w_X15_isUnder_c20_12 {p : Program} {l : Launch} {e : Env} {s : State} {m : MethodId} {args : Array Value} {below : List Frame} {meth : Method} {c : Code} {r : GR} {A : Nat → Prop} {P : GS → Int32 → Prop} (K : gC p s m args meth c cX15_isUnder 2 RX15 r A) (hr : meth.sig.returnType = (some .boolean)) : ∀ (σ : GS), f_X15_isUnder_c20_12 r P σ → gW dX p l e (gRm 1 20 0 0) s m args below meth c r A (zI P) 0 0 2 12 [] [] 0 0 σ := by
  obtain ⟨hx, hb, hml, hown, hts, hlk, hKK, hA⟩ := id K
  intro σ hf H locs ls hM hl
  unfold f_X15_isUnder_c20_12 at hf
  refine lv_iconst (v := 1) hx hb dX15_isUnder_12 rfl ?_
  refine lv_goto (tgt := 17) hx hb dX15_isUnder_13 (by decide) ?_
  exact g_retz K hr hM ⟨Nat.le_refl _, Nat.le_refl _⟩ gZ_1 hf dX15_isUnder_17
theorem c_X15_isUnder_c20 (l : Launch) (r : GR) (A : Nat → Prop) (σ : GS) (x0 : Nat) (x1 : Int32) (P : GS → Int32 → Prop) (hf : f_X15_isUnder_c20 r σ x0 x1 P) : gMet dX l yX15_isUnder cX15_isUnder 2 (some .boolean) 1 20 0 0 r A σ [.ref x0, .int x1] (zI P) := by
  refine g_enter (lv := [(0, .ref x0), (1, .int x1)]) (by decide) (Nat.le_of_ble_eq_true rfl) rfl ?_
  intro p e s m below meth c ls K hr hM hl hi
  obtain ⟨hx, hb, hml, hown, hts, hlk, hKK, hA⟩ := id K
  unfold f_X15_isUnder_c20 at hf
  refine lv_iload_n hx hb dX15_isUnder_0 rfl (lv_at hl 1 rfl) ?_
  refine lv_if_eq (tgt := 12) hx hb dX15_isUnder_1 (by decide) (fun b1 => ?_) (fun b1 => ?_)
  · replace hf := hf.1 b1
    exact w_X15_isUnder_c20_12 K hr _ hf _ _ _ hM (lv_sub hl [] rfl)
  · replace hf := hf.2 b1
    refine lv_iload_n hx hb dX15_isUnder_4 rfl (lv_at hl 1 rfl) ?_
    refine lv_aload_n hx hb dX15_isUnder_5 rfl (lv_at hl 0 rfl) ?_
    obtain ⟨f4, h5, hf⟩ := hf
    refine g_runi (rOv (x := ⟨"PointsForAll$Purse", "kind", "()I"⟩) (owner := "PointsForAll$Purse") [] [.int x1] K kY20 hM hl h5 (c_X22_kind_c20 l r A _ _ _ hf) q1416 q1419 q1417 q1441 q1423 q1424 q118 q1425 hdo_Purse_kind ⟨Nat.le_of_ble_eq_true rfl, Nat.le_of_ble_eq_true rfl⟩ ⟨Nat.le_refl _, Nat.le_refl _⟩ rfl (Nat.le_of_ble_eq_true rfl) dX15_isUnder_6) hM (fun σ2 v3 H locs hf hM => ?_)
    refine lv_icmp_ne (tgt := 16) hx hb dX15_isUnder_9 (by decide) (fun b6 => ?_) (fun b6 => ?_)
    · replace hf := hf.2 b6
      refine lv_iconst (v := 0) hx hb dX15_isUnder_16 rfl ?_
      exact g_retz K hr hM ⟨Nat.le_refl _, Nat.le_refl _⟩ gZ_0 hf dX15_isUnder_17
    · replace hf := hf.1 b6
      exact w_X15_isUnder_c20_12 K hr _ hf _ _ _ hM (lv_sub hl [] rfl)
theorem w_X17_isUnder_c15_13 {p : Program} {l : Launch} {e : Env} {s : State} {m : MethodId} {args : Array Value} {below : List Frame} {meth : Method} {c : Code} {r : GR} {A : Nat → Prop} {P : GS → Int32 → Prop} (K : gC p s m args meth c cX17_isUnder 2 RX17 r A) (hr : meth.sig.returnType = (some .boolean)) : ∀ (σ : GS), f_X17_isUnder_c15_13 r P σ → gW dX p l e (gRm 2 41 0 0) s m args below meth c r A (zI P) 0 0 2 13 [] [] 0 0 σ := by
  obtain ⟨hx, hb, hml, hown, hts, hlk, hKK, hA⟩ := id K
  intro σ hf H locs ls hM hl
  unfold f_X17_isUnder_c15_13 at hf
  refine lv_iconst (v := 1) hx hb dX17_isUnder_13 rfl ?_
  refine lv_goto (tgt := 18) hx hb dX17_isUnder_14 (by decide) ?_
  exact g_retz K hr hM ⟨Nat.le_refl _, Nat.le_refl _⟩ gZ_1 hf dX17_isUnder_18
theorem c_X17_isUnder_c15 (l : Launch) (r : GR) (A : Nat → Prop) (σ : GS) (x0 : Nat) (x1 : Int32) (P : GS → Int32 → Prop) (hf : f_X17_isUnder_c15 r σ x0 x1 P) : gMet dX l yX17_isUnder cX17_isUnder 2 (some .boolean) 2 41 0 0 r A σ [.ref x0, .int x1] (zI P) := by
  refine g_enter (lv := [(0, .ref x0), (1, .int x1)]) (by decide) (Nat.le_of_ble_eq_true rfl) rfl ?_
  intro p e s m below meth c ls K hr hM hl hi
  obtain ⟨hx, hb, hml, hown, hts, hlk, hKK, hA⟩ := id K
  unfold f_X17_isUnder_c15 at hf
  refine lv_iload_n hx hb dX17_isUnder_0 rfl (lv_at hl 1 rfl) ?_
  refine lv_iconst (v := 2) hx hb dX17_isUnder_1 rfl ?_
  refine lv_icmp_eq (tgt := 13) hx hb dX17_isUnder_2 (by decide) (fun b1 => ?_) (fun b1 => ?_)
  · replace hf := hf.1 b1
    exact w_X17_isUnder_c15_13 K hr _ hf _ _ _ hM (lv_sub hl [] rfl)
  · replace hf := hf.2 b1
    refine lv_aload_n hx hb dX17_isUnder_5 rfl (lv_at hl 0 rfl) ?_
    refine lv_iload_n hx hb dX17_isUnder_6 rfl (lv_at hl 1 rfl) ?_
    obtain ⟨f4, h5, hf⟩ := hf
    refine g_runi (rSup (x := ⟨"PointsForAll$Purse", "isUnder", "(I)Z"⟩) [.int x1] [] K kY15 hM hl h5 (c_X15_isUnder_c15 l r A _ _ _ _ hf) q1405 q1398 q1009 q1396 q111 q1415 under_self rfl hds_isUnder ⟨Nat.le_of_ble_eq_true rfl, Nat.le_of_ble_eq_true rfl⟩ ⟨Nat.le_refl _, Nat.le_refl _⟩ rfl (Nat.le_of_ble_eq_true rfl) dX17_isUnder_7) hM (fun σ2 v3 H locs hf hM => ?_)
    refine lv_if_eq (tgt := 17) hx hb dX17_isUnder_10 (by decide) (fun b6 => ?_) (fun b6 => ?_)
    · replace hf := hf.1 b6
      refine lv_iconst (v := 0) hx hb dX17_isUnder_17 rfl ?_
      exact g_retz K hr hM ⟨Nat.le_refl _, Nat.le_refl _⟩ gZ_0 hf dX17_isUnder_18
    · replace hf := hf.2 b6
      exact w_X17_isUnder_c15_13 K hr _ hf _ _ _ hM (lv_sub hl [] rfl)
theorem w_X17_isUnder_c16_13 {p : Program} {l : Launch} {e : Env} {s : State} {m : MethodId} {args : Array Value} {below : List Frame} {meth : Method} {c : Code} {r : GR} {A : Nat → Prop} {P : GS → Int32 → Prop} (K : gC p s m args meth c cX17_isUnder 2 RX17 r A) (hr : meth.sig.returnType = (some .boolean)) : ∀ (σ : GS), f_X17_isUnder_c16_13 r P σ → gW dX p l e (gRm 2 41 0 0) s m args below meth c r A (zI P) 0 0 2 13 [] [] 0 0 σ := by
  obtain ⟨hx, hb, hml, hown, hts, hlk, hKK, hA⟩ := id K
  intro σ hf H locs ls hM hl
  unfold f_X17_isUnder_c16_13 at hf
  refine lv_iconst (v := 1) hx hb dX17_isUnder_13 rfl ?_
  refine lv_goto (tgt := 18) hx hb dX17_isUnder_14 (by decide) ?_
  exact g_retz K hr hM ⟨Nat.le_refl _, Nat.le_refl _⟩ gZ_1 hf dX17_isUnder_18
theorem c_X17_isUnder_c16 (l : Launch) (r : GR) (A : Nat → Prop) (σ : GS) (x0 : Nat) (x1 : Int32) (P : GS → Int32 → Prop) (hf : f_X17_isUnder_c16 r σ x0 x1 P) : gMet dX l yX17_isUnder cX17_isUnder 2 (some .boolean) 2 41 0 0 r A σ [.ref x0, .int x1] (zI P) := by
  refine g_enter (lv := [(0, .ref x0), (1, .int x1)]) (by decide) (Nat.le_of_ble_eq_true rfl) rfl ?_
  intro p e s m below meth c ls K hr hM hl hi
  obtain ⟨hx, hb, hml, hown, hts, hlk, hKK, hA⟩ := id K
  unfold f_X17_isUnder_c16 at hf
  refine lv_iload_n hx hb dX17_isUnder_0 rfl (lv_at hl 1 rfl) ?_
  refine lv_iconst (v := 2) hx hb dX17_isUnder_1 rfl ?_
  refine lv_icmp_eq (tgt := 13) hx hb dX17_isUnder_2 (by decide) (fun b1 => ?_) (fun b1 => ?_)
  · replace hf := hf.1 b1
    exact w_X17_isUnder_c16_13 K hr _ hf _ _ _ hM (lv_sub hl [] rfl)
  · replace hf := hf.2 b1
    refine lv_aload_n hx hb dX17_isUnder_5 rfl (lv_at hl 0 rfl) ?_
    refine lv_iload_n hx hb dX17_isUnder_6 rfl (lv_at hl 1 rfl) ?_
    obtain ⟨f4, h5, hf⟩ := hf
    refine g_runi (rSup (x := ⟨"PointsForAll$Purse", "isUnder", "(I)Z"⟩) [.int x1] [] K kY16 hM hl h5 (c_X15_isUnder_c16 l r A _ _ _ _ hf) q1405 q1398 q1009 q1396 q111 q1415 under_self rfl hds_isUnder ⟨Nat.le_of_ble_eq_true rfl, Nat.le_of_ble_eq_true rfl⟩ ⟨Nat.le_refl _, Nat.le_refl _⟩ rfl (Nat.le_of_ble_eq_true rfl) dX17_isUnder_7) hM (fun σ2 v3 H locs hf hM => ?_)
    refine lv_if_eq (tgt := 17) hx hb dX17_isUnder_10 (by decide) (fun b6 => ?_) (fun b6 => ?_)
    · replace hf := hf.1 b6
      refine lv_iconst (v := 0) hx hb dX17_isUnder_17 rfl ?_
      exact g_retz K hr hM ⟨Nat.le_refl _, Nat.le_refl _⟩ gZ_0 hf dX17_isUnder_18
    · replace hf := hf.2 b6
      exact w_X17_isUnder_c16_13 K hr _ hf _ _ _ hM (lv_sub hl [] rfl)
theorem w_X17_isUnder_c17_13 {p : Program} {l : Launch} {e : Env} {s : State} {m : MethodId} {args : Array Value} {below : List Frame} {meth : Method} {c : Code} {r : GR} {A : Nat → Prop} {P : GS → Int32 → Prop} (K : gC p s m args meth c cX17_isUnder 2 RX17 r A) (hr : meth.sig.returnType = (some .boolean)) : ∀ (σ : GS), f_X17_isUnder_c17_13 r P σ → gW dX p l e (gRm 2 41 0 0) s m args below meth c r A (zI P) 0 0 2 13 [] [] 0 0 σ := by
  obtain ⟨hx, hb, hml, hown, hts, hlk, hKK, hA⟩ := id K
  intro σ hf H locs ls hM hl
  unfold f_X17_isUnder_c17_13 at hf
  refine lv_iconst (v := 1) hx hb dX17_isUnder_13 rfl ?_
  refine lv_goto (tgt := 18) hx hb dX17_isUnder_14 (by decide) ?_
  exact g_retz K hr hM ⟨Nat.le_refl _, Nat.le_refl _⟩ gZ_1 hf dX17_isUnder_18
theorem c_X17_isUnder_c17 (l : Launch) (r : GR) (A : Nat → Prop) (σ : GS) (x0 : Nat) (x1 : Int32) (P : GS → Int32 → Prop) (hf : f_X17_isUnder_c17 r σ x0 x1 P) : gMet dX l yX17_isUnder cX17_isUnder 2 (some .boolean) 2 41 0 0 r A σ [.ref x0, .int x1] (zI P) := by
  refine g_enter (lv := [(0, .ref x0), (1, .int x1)]) (by decide) (Nat.le_of_ble_eq_true rfl) rfl ?_
  intro p e s m below meth c ls K hr hM hl hi
  obtain ⟨hx, hb, hml, hown, hts, hlk, hKK, hA⟩ := id K
  unfold f_X17_isUnder_c17 at hf
  refine lv_iload_n hx hb dX17_isUnder_0 rfl (lv_at hl 1 rfl) ?_
  refine lv_iconst (v := 2) hx hb dX17_isUnder_1 rfl ?_
  refine lv_icmp_eq (tgt := 13) hx hb dX17_isUnder_2 (by decide) (fun b1 => ?_) (fun b1 => ?_)
  · replace hf := hf.1 b1
    exact w_X17_isUnder_c17_13 K hr _ hf _ _ _ hM (lv_sub hl [] rfl)
  · replace hf := hf.2 b1
    refine lv_aload_n hx hb dX17_isUnder_5 rfl (lv_at hl 0 rfl) ?_
    refine lv_iload_n hx hb dX17_isUnder_6 rfl (lv_at hl 1 rfl) ?_
    obtain ⟨f4, h5, hf⟩ := hf
    refine g_runi (rSup (x := ⟨"PointsForAll$Purse", "isUnder", "(I)Z"⟩) [.int x1] [] K kY17 hM hl h5 (c_X15_isUnder_c17 l r A _ _ _ _ hf) q1405 q1398 q1009 q1396 q111 q1415 under_self rfl hds_isUnder ⟨Nat.le_of_ble_eq_true rfl, Nat.le_of_ble_eq_true rfl⟩ ⟨Nat.le_refl _, Nat.le_refl _⟩ rfl (Nat.le_of_ble_eq_true rfl) dX17_isUnder_7) hM (fun σ2 v3 H locs hf hM => ?_)
    refine lv_if_eq (tgt := 17) hx hb dX17_isUnder_10 (by decide) (fun b6 => ?_) (fun b6 => ?_)
    · replace hf := hf.1 b6
      refine lv_iconst (v := 0) hx hb dX17_isUnder_17 rfl ?_
      exact g_retz K hr hM ⟨Nat.le_refl _, Nat.le_refl _⟩ gZ_0 hf dX17_isUnder_18
    · replace hf := hf.2 b6
      exact w_X17_isUnder_c17_13 K hr _ hf _ _ _ hM (lv_sub hl [] rfl)
theorem w_X17_isUnder_c18_13 {p : Program} {l : Launch} {e : Env} {s : State} {m : MethodId} {args : Array Value} {below : List Frame} {meth : Method} {c : Code} {r : GR} {A : Nat → Prop} {P : GS → Int32 → Prop} (K : gC p s m args meth c cX17_isUnder 2 RX17 r A) (hr : meth.sig.returnType = (some .boolean)) : ∀ (σ : GS), f_X17_isUnder_c18_13 r P σ → gW dX p l e (gRm 2 41 0 0) s m args below meth c r A (zI P) 0 0 2 13 [] [] 0 0 σ := by
  obtain ⟨hx, hb, hml, hown, hts, hlk, hKK, hA⟩ := id K
  intro σ hf H locs ls hM hl
  unfold f_X17_isUnder_c18_13 at hf
  refine lv_iconst (v := 1) hx hb dX17_isUnder_13 rfl ?_
  refine lv_goto (tgt := 18) hx hb dX17_isUnder_14 (by decide) ?_
  exact g_retz K hr hM ⟨Nat.le_refl _, Nat.le_refl _⟩ gZ_1 hf dX17_isUnder_18
theorem c_X17_isUnder_c18 (l : Launch) (r : GR) (A : Nat → Prop) (σ : GS) (x0 : Nat) (x1 : Int32) (P : GS → Int32 → Prop) (hf : f_X17_isUnder_c18 r σ x0 x1 P) : gMet dX l yX17_isUnder cX17_isUnder 2 (some .boolean) 2 41 0 0 r A σ [.ref x0, .int x1] (zI P) := by
  refine g_enter (lv := [(0, .ref x0), (1, .int x1)]) (by decide) (Nat.le_of_ble_eq_true rfl) rfl ?_
  intro p e s m below meth c ls K hr hM hl hi
  obtain ⟨hx, hb, hml, hown, hts, hlk, hKK, hA⟩ := id K
  unfold f_X17_isUnder_c18 at hf
  refine lv_iload_n hx hb dX17_isUnder_0 rfl (lv_at hl 1 rfl) ?_
  refine lv_iconst (v := 2) hx hb dX17_isUnder_1 rfl ?_
  refine lv_icmp_eq (tgt := 13) hx hb dX17_isUnder_2 (by decide) (fun b1 => ?_) (fun b1 => ?_)
  · replace hf := hf.1 b1
    exact w_X17_isUnder_c18_13 K hr _ hf _ _ _ hM (lv_sub hl [] rfl)
  · replace hf := hf.2 b1
    refine lv_aload_n hx hb dX17_isUnder_5 rfl (lv_at hl 0 rfl) ?_
    refine lv_iload_n hx hb dX17_isUnder_6 rfl (lv_at hl 1 rfl) ?_
    obtain ⟨f4, h5, hf⟩ := hf
    refine g_runi (rSup (x := ⟨"PointsForAll$Purse", "isUnder", "(I)Z"⟩) [.int x1] [] K kY18 hM hl h5 (c_X15_isUnder_c18 l r A _ _ _ _ hf) q1405 q1398 q1009 q1396 q111 q1415 under_self rfl hds_isUnder ⟨Nat.le_of_ble_eq_true rfl, Nat.le_of_ble_eq_true rfl⟩ ⟨Nat.le_refl _, Nat.le_refl _⟩ rfl (Nat.le_of_ble_eq_true rfl) dX17_isUnder_7) hM (fun σ2 v3 H locs hf hM => ?_)
    refine lv_if_eq (tgt := 17) hx hb dX17_isUnder_10 (by decide) (fun b6 => ?_) (fun b6 => ?_)
    · replace hf := hf.1 b6
      refine lv_iconst (v := 0) hx hb dX17_isUnder_17 rfl ?_
      exact g_retz K hr hM ⟨Nat.le_refl _, Nat.le_refl _⟩ gZ_0 hf dX17_isUnder_18
    · replace hf := hf.2 b6
      exact w_X17_isUnder_c18_13 K hr _ hf _ _ _ hM (lv_sub hl [] rfl)
theorem w_X17_isUnder_c20_13 {p : Program} {l : Launch} {e : Env} {s : State} {m : MethodId} {args : Array Value} {below : List Frame} {meth : Method} {c : Code} {r : GR} {A : Nat → Prop} {P : GS → Int32 → Prop} (K : gC p s m args meth c cX17_isUnder 2 RX17 r A) (hr : meth.sig.returnType = (some .boolean)) : ∀ (σ : GS), f_X17_isUnder_c20_13 r P σ → gW dX p l e (gRm 2 41 0 0) s m args below meth c r A (zI P) 0 0 2 13 [] [] 0 0 σ := by
  obtain ⟨hx, hb, hml, hown, hts, hlk, hKK, hA⟩ := id K
  intro σ hf H locs ls hM hl
  unfold f_X17_isUnder_c20_13 at hf
  refine lv_iconst (v := 1) hx hb dX17_isUnder_13 rfl ?_
  refine lv_goto (tgt := 18) hx hb dX17_isUnder_14 (by decide) ?_
  exact g_retz K hr hM ⟨Nat.le_refl _, Nat.le_refl _⟩ gZ_1 hf dX17_isUnder_18
theorem c_X17_isUnder_c20 (l : Launch) (r : GR) (A : Nat → Prop) (σ : GS) (x0 : Nat) (x1 : Int32) (P : GS → Int32 → Prop) (hf : f_X17_isUnder_c20 r σ x0 x1 P) : gMet dX l yX17_isUnder cX17_isUnder 2 (some .boolean) 2 41 0 0 r A σ [.ref x0, .int x1] (zI P) := by
  refine g_enter (lv := [(0, .ref x0), (1, .int x1)]) (by decide) (Nat.le_of_ble_eq_true rfl) rfl ?_
  intro p e s m below meth c ls K hr hM hl hi
  obtain ⟨hx, hb, hml, hown, hts, hlk, hKK, hA⟩ := id K
  unfold f_X17_isUnder_c20 at hf
  refine lv_iload_n hx hb dX17_isUnder_0 rfl (lv_at hl 1 rfl) ?_
  refine lv_iconst (v := 2) hx hb dX17_isUnder_1 rfl ?_
  refine lv_icmp_eq (tgt := 13) hx hb dX17_isUnder_2 (by decide) (fun b1 => ?_) (fun b1 => ?_)
  · replace hf := hf.1 b1
    exact w_X17_isUnder_c20_13 K hr _ hf _ _ _ hM (lv_sub hl [] rfl)
  · replace hf := hf.2 b1
    refine lv_aload_n hx hb dX17_isUnder_5 rfl (lv_at hl 0 rfl) ?_
    refine lv_iload_n hx hb dX17_isUnder_6 rfl (lv_at hl 1 rfl) ?_
    obtain ⟨f4, h5, hf⟩ := hf
    refine g_runi (rSup (x := ⟨"PointsForAll$Purse", "isUnder", "(I)Z"⟩) [.int x1] [] K kY20 hM hl h5 (c_X15_isUnder_c20 l r A _ _ _ _ hf) q1405 q1398 q1009 q1396 q111 q1415 under_self rfl hds_isUnder ⟨Nat.le_of_ble_eq_true rfl, Nat.le_of_ble_eq_true rfl⟩ ⟨Nat.le_refl _, Nat.le_refl _⟩ rfl (Nat.le_of_ble_eq_true rfl) dX17_isUnder_7) hM (fun σ2 v3 H locs hf hM => ?_)
    refine lv_if_eq (tgt := 17) hx hb dX17_isUnder_10 (by decide) (fun b6 => ?_) (fun b6 => ?_)
    · replace hf := hf.1 b6
      refine lv_iconst (v := 0) hx hb dX17_isUnder_17 rfl ?_
      exact g_retz K hr hM ⟨Nat.le_refl _, Nat.le_refl _⟩ gZ_0 hf dX17_isUnder_18
    · replace hf := hf.2 b6
      exact w_X17_isUnder_c20_13 K hr _ hf _ _ _ hM (lv_sub hl [] rfl)
theorem w_X18_isUnder_c16_13 {p : Program} {l : Launch} {e : Env} {s : State} {m : MethodId} {args : Array Value} {below : List Frame} {meth : Method} {c : Code} {r : GR} {A : Nat → Prop} {P : GS → Int32 → Prop} (K : gC p s m args meth c cX18_isUnder 2 RX18 r A) (hr : meth.sig.returnType = (some .boolean)) : ∀ (σ : GS), f_X18_isUnder_c16_13 r P σ → gW dX p l e (gRm 3 62 0 0) s m args below meth c r A (zI P) 0 0 2 13 [] [] 0 0 σ := by
  obtain ⟨hx, hb, hml, hown, hts, hlk, hKK, hA⟩ := id K
  intro σ hf H locs ls hM hl
  unfold f_X18_isUnder_c16_13 at hf
  refine lv_iconst (v := 1) hx hb dX18_isUnder_13 rfl ?_
  refine lv_goto (tgt := 18) hx hb dX18_isUnder_14 (by decide) ?_
  exact g_retz K hr hM ⟨Nat.le_refl _, Nat.le_refl _⟩ gZ_1 hf dX18_isUnder_18
theorem c_X18_isUnder_c16 (l : Launch) (r : GR) (A : Nat → Prop) (σ : GS) (x0 : Nat) (x1 : Int32) (P : GS → Int32 → Prop) (hf : f_X18_isUnder_c16 r σ x0 x1 P) : gMet dX l yX18_isUnder cX18_isUnder 2 (some .boolean) 3 62 0 0 r A σ [.ref x0, .int x1] (zI P) := by
  refine g_enter (lv := [(0, .ref x0), (1, .int x1)]) (by decide) (Nat.le_of_ble_eq_true rfl) rfl ?_
  intro p e s m below meth c ls K hr hM hl hi
  obtain ⟨hx, hb, hml, hown, hts, hlk, hKK, hA⟩ := id K
  unfold f_X18_isUnder_c16 at hf
  refine lv_iload_n hx hb dX18_isUnder_0 rfl (lv_at hl 1 rfl) ?_
  refine lv_iconst (v := 3) hx hb dX18_isUnder_1 rfl ?_
  refine lv_icmp_eq (tgt := 13) hx hb dX18_isUnder_2 (by decide) (fun b1 => ?_) (fun b1 => ?_)
  · replace hf := hf.1 b1
    exact w_X18_isUnder_c16_13 K hr _ hf _ _ _ hM (lv_sub hl [] rfl)
  · replace hf := hf.2 b1
    refine lv_aload_n hx hb dX18_isUnder_5 rfl (lv_at hl 0 rfl) ?_
    refine lv_iload_n hx hb dX18_isUnder_6 rfl (lv_at hl 1 rfl) ?_
    obtain ⟨f4, h5, hf⟩ := hf
    refine g_runi (rSup (x := ⟨"PointsForAll$Points", "isUnder", "(I)Z"⟩) [.int x1] [] K kY16 hM hl h5 (c_X17_isUnder_c16 l r A _ _ _ _ hf) q1402 q2009 q1022 q1403 q113 q1404 under_self rfl hds_isUnder ⟨Nat.le_of_ble_eq_true rfl, Nat.le_of_ble_eq_true rfl⟩ ⟨Nat.le_refl _, Nat.le_refl _⟩ rfl (Nat.le_of_ble_eq_true rfl) dX18_isUnder_7) hM (fun σ2 v3 H locs hf hM => ?_)
    refine lv_if_eq (tgt := 17) hx hb dX18_isUnder_10 (by decide) (fun b6 => ?_) (fun b6 => ?_)
    · replace hf := hf.1 b6
      refine lv_iconst (v := 0) hx hb dX18_isUnder_17 rfl ?_
      exact g_retz K hr hM ⟨Nat.le_refl _, Nat.le_refl _⟩ gZ_0 hf dX18_isUnder_18
    · replace hf := hf.2 b6
      exact w_X18_isUnder_c16_13 K hr _ hf _ _ _ hM (lv_sub hl [] rfl)
theorem w_X18_isUnder_c18_13 {p : Program} {l : Launch} {e : Env} {s : State} {m : MethodId} {args : Array Value} {below : List Frame} {meth : Method} {c : Code} {r : GR} {A : Nat → Prop} {P : GS → Int32 → Prop} (K : gC p s m args meth c cX18_isUnder 2 RX18 r A) (hr : meth.sig.returnType = (some .boolean)) : ∀ (σ : GS), f_X18_isUnder_c18_13 r P σ → gW dX p l e (gRm 3 62 0 0) s m args below meth c r A (zI P) 0 0 2 13 [] [] 0 0 σ := by
  obtain ⟨hx, hb, hml, hown, hts, hlk, hKK, hA⟩ := id K
  intro σ hf H locs ls hM hl
  unfold f_X18_isUnder_c18_13 at hf
  refine lv_iconst (v := 1) hx hb dX18_isUnder_13 rfl ?_
  refine lv_goto (tgt := 18) hx hb dX18_isUnder_14 (by decide) ?_
  exact g_retz K hr hM ⟨Nat.le_refl _, Nat.le_refl _⟩ gZ_1 hf dX18_isUnder_18
theorem c_X18_isUnder_c18 (l : Launch) (r : GR) (A : Nat → Prop) (σ : GS) (x0 : Nat) (x1 : Int32) (P : GS → Int32 → Prop) (hf : f_X18_isUnder_c18 r σ x0 x1 P) : gMet dX l yX18_isUnder cX18_isUnder 2 (some .boolean) 3 62 0 0 r A σ [.ref x0, .int x1] (zI P) := by
  refine g_enter (lv := [(0, .ref x0), (1, .int x1)]) (by decide) (Nat.le_of_ble_eq_true rfl) rfl ?_
  intro p e s m below meth c ls K hr hM hl hi
  obtain ⟨hx, hb, hml, hown, hts, hlk, hKK, hA⟩ := id K
  unfold f_X18_isUnder_c18 at hf
  refine lv_iload_n hx hb dX18_isUnder_0 rfl (lv_at hl 1 rfl) ?_
  refine lv_iconst (v := 3) hx hb dX18_isUnder_1 rfl ?_
  refine lv_icmp_eq (tgt := 13) hx hb dX18_isUnder_2 (by decide) (fun b1 => ?_) (fun b1 => ?_)
  · replace hf := hf.1 b1
    exact w_X18_isUnder_c18_13 K hr _ hf _ _ _ hM (lv_sub hl [] rfl)
  · replace hf := hf.2 b1
    refine lv_aload_n hx hb dX18_isUnder_5 rfl (lv_at hl 0 rfl) ?_
    refine lv_iload_n hx hb dX18_isUnder_6 rfl (lv_at hl 1 rfl) ?_
    obtain ⟨f4, h5, hf⟩ := hf
    refine g_runi (rSup (x := ⟨"PointsForAll$Points", "isUnder", "(I)Z"⟩) [.int x1] [] K kY18 hM hl h5 (c_X17_isUnder_c18 l r A _ _ _ _ hf) q1402 q2009 q1022 q1403 q113 q1404 under_self rfl hds_isUnder ⟨Nat.le_of_ble_eq_true rfl, Nat.le_of_ble_eq_true rfl⟩ ⟨Nat.le_refl _, Nat.le_refl _⟩ rfl (Nat.le_of_ble_eq_true rfl) dX18_isUnder_7) hM (fun σ2 v3 H locs hf hM => ?_)
    refine lv_if_eq (tgt := 17) hx hb dX18_isUnder_10 (by decide) (fun b6 => ?_) (fun b6 => ?_)
    · replace hf := hf.1 b6
      refine lv_iconst (v := 0) hx hb dX18_isUnder_17 rfl ?_
      exact g_retz K hr hM ⟨Nat.le_refl _, Nat.le_refl _⟩ gZ_0 hf dX18_isUnder_18
    · replace hf := hf.2 b6
      exact w_X18_isUnder_c18_13 K hr _ hf _ _ _ hM (lv_sub hl [] rfl)
theorem w_X19_isUnder_c17_13 {p : Program} {l : Launch} {e : Env} {s : State} {m : MethodId} {args : Array Value} {below : List Frame} {meth : Method} {c : Code} {r : GR} {A : Nat → Prop} {P : GS → Int32 → Prop} (K : gC p s m args meth c cX19_isUnder 2 RX19 r A) (hr : meth.sig.returnType = (some .boolean)) : ∀ (σ : GS), f_X19_isUnder_c17_13 r P σ → gW dX p l e (gRm 3 62 0 0) s m args below meth c r A (zI P) 0 0 2 13 [] [] 0 0 σ := by
  obtain ⟨hx, hb, hml, hown, hts, hlk, hKK, hA⟩ := id K
  intro σ hf H locs ls hM hl
  unfold f_X19_isUnder_c17_13 at hf
  refine lv_iconst (v := 1) hx hb dX19_isUnder_13 rfl ?_
  refine lv_goto (tgt := 18) hx hb dX19_isUnder_14 (by decide) ?_
  exact g_retz K hr hM ⟨Nat.le_refl _, Nat.le_refl _⟩ gZ_1 hf dX19_isUnder_18
theorem c_X19_isUnder_c17 (l : Launch) (r : GR) (A : Nat → Prop) (σ : GS) (x0 : Nat) (x1 : Int32) (P : GS → Int32 → Prop) (hf : f_X19_isUnder_c17 r σ x0 x1 P) : gMet dX l yX19_isUnder cX19_isUnder 2 (some .boolean) 3 62 0 0 r A σ [.ref x0, .int x1] (zI P) := by
  refine g_enter (lv := [(0, .ref x0), (1, .int x1)]) (by decide) (Nat.le_of_ble_eq_true rfl) rfl ?_
  intro p e s m below meth c ls K hr hM hl hi
  obtain ⟨hx, hb, hml, hown, hts, hlk, hKK, hA⟩ := id K
  unfold f_X19_isUnder_c17 at hf
  refine lv_iload_n hx hb dX19_isUnder_0 rfl (lv_at hl 1 rfl) ?_
  refine lv_iconst (v := 4) hx hb dX19_isUnder_1 rfl ?_
  refine lv_icmp_eq (tgt := 13) hx hb dX19_isUnder_2 (by decide) (fun b1 => ?_) (fun b1 => ?_)
  · replace hf := hf.1 b1
    exact w_X19_isUnder_c17_13 K hr _ hf _ _ _ hM (lv_sub hl [] rfl)
  · replace hf := hf.2 b1
    refine lv_aload_n hx hb dX19_isUnder_5 rfl (lv_at hl 0 rfl) ?_
    refine lv_iload_n hx hb dX19_isUnder_6 rfl (lv_at hl 1 rfl) ?_
    obtain ⟨f4, h5, hf⟩ := hf
    refine g_runi (rSup (x := ⟨"PointsForAll$Points", "isUnder", "(I)Z"⟩) [.int x1] [] K kY17 hM hl h5 (c_X17_isUnder_c17 l r A _ _ _ _ hf) q1409 q2009 q1035 q1403 q113 q1404 under_self rfl hds_isUnder ⟨Nat.le_of_ble_eq_true rfl, Nat.le_of_ble_eq_true rfl⟩ ⟨Nat.le_refl _, Nat.le_refl _⟩ rfl (Nat.le_of_ble_eq_true rfl) dX19_isUnder_7) hM (fun σ2 v3 H locs hf hM => ?_)
    refine lv_if_eq (tgt := 17) hx hb dX19_isUnder_10 (by decide) (fun b6 => ?_) (fun b6 => ?_)
    · replace hf := hf.1 b6
      refine lv_iconst (v := 0) hx hb dX19_isUnder_17 rfl ?_
      exact g_retz K hr hM ⟨Nat.le_refl _, Nat.le_refl _⟩ gZ_0 hf dX19_isUnder_18
    · replace hf := hf.2 b6
      exact w_X19_isUnder_c17_13 K hr _ hf _ _ _ hM (lv_sub hl [] rfl)
theorem w_X19_isUnder_c20_13 {p : Program} {l : Launch} {e : Env} {s : State} {m : MethodId} {args : Array Value} {below : List Frame} {meth : Method} {c : Code} {r : GR} {A : Nat → Prop} {P : GS → Int32 → Prop} (K : gC p s m args meth c cX19_isUnder 2 RX19 r A) (hr : meth.sig.returnType = (some .boolean)) : ∀ (σ : GS), f_X19_isUnder_c20_13 r P σ → gW dX p l e (gRm 3 62 0 0) s m args below meth c r A (zI P) 0 0 2 13 [] [] 0 0 σ := by
  obtain ⟨hx, hb, hml, hown, hts, hlk, hKK, hA⟩ := id K
  intro σ hf H locs ls hM hl
  unfold f_X19_isUnder_c20_13 at hf
  refine lv_iconst (v := 1) hx hb dX19_isUnder_13 rfl ?_
  refine lv_goto (tgt := 18) hx hb dX19_isUnder_14 (by decide) ?_
  exact g_retz K hr hM ⟨Nat.le_refl _, Nat.le_refl _⟩ gZ_1 hf dX19_isUnder_18
theorem c_X19_isUnder_c20 (l : Launch) (r : GR) (A : Nat → Prop) (σ : GS) (x0 : Nat) (x1 : Int32) (P : GS → Int32 → Prop) (hf : f_X19_isUnder_c20 r σ x0 x1 P) : gMet dX l yX19_isUnder cX19_isUnder 2 (some .boolean) 3 62 0 0 r A σ [.ref x0, .int x1] (zI P) := by
  refine g_enter (lv := [(0, .ref x0), (1, .int x1)]) (by decide) (Nat.le_of_ble_eq_true rfl) rfl ?_
  intro p e s m below meth c ls K hr hM hl hi
  obtain ⟨hx, hb, hml, hown, hts, hlk, hKK, hA⟩ := id K
  unfold f_X19_isUnder_c20 at hf
  refine lv_iload_n hx hb dX19_isUnder_0 rfl (lv_at hl 1 rfl) ?_
  refine lv_iconst (v := 4) hx hb dX19_isUnder_1 rfl ?_
  refine lv_icmp_eq (tgt := 13) hx hb dX19_isUnder_2 (by decide) (fun b1 => ?_) (fun b1 => ?_)
  · replace hf := hf.1 b1
    exact w_X19_isUnder_c20_13 K hr _ hf _ _ _ hM (lv_sub hl [] rfl)
  · replace hf := hf.2 b1
    refine lv_aload_n hx hb dX19_isUnder_5 rfl (lv_at hl 0 rfl) ?_
    refine lv_iload_n hx hb dX19_isUnder_6 rfl (lv_at hl 1 rfl) ?_
    obtain ⟨f4, h5, hf⟩ := hf
    refine g_runi (rSup (x := ⟨"PointsForAll$Points", "isUnder", "(I)Z"⟩) [.int x1] [] K kY20 hM hl h5 (c_X17_isUnder_c20 l r A _ _ _ _ hf) q1409 q2009 q1035 q1403 q113 q1404 under_self rfl hds_isUnder ⟨Nat.le_of_ble_eq_true rfl, Nat.le_of_ble_eq_true rfl⟩ ⟨Nat.le_refl _, Nat.le_refl _⟩ rfl (Nat.le_of_ble_eq_true rfl) dX19_isUnder_7) hM (fun σ2 v3 H locs hf hM => ?_)
    refine lv_if_eq (tgt := 17) hx hb dX19_isUnder_10 (by decide) (fun b6 => ?_) (fun b6 => ?_)
    · replace hf := hf.1 b6
      refine lv_iconst (v := 0) hx hb dX19_isUnder_17 rfl ?_
      exact g_retz K hr hM ⟨Nat.le_refl _, Nat.le_refl _⟩ gZ_0 hf dX19_isUnder_18
    · replace hf := hf.2 b6
      exact w_X19_isUnder_c20_13 K hr _ hf _ _ _ hM (lv_sub hl [] rfl)
def gPB_isUnder (l : Launch) (r : GR) (A : Nat → Prop) (σ : GS) (x0 : Nat) (x1 : Int32) (P : GS → Int32 → Prop) : Prop :=
    ((∃ fs : List Value, gO σ x0 = some (.inr (13, fs))) ∧ gMet dX l yX15_isUnder cX15_isUnder 2 (some .boolean) 1 20 0 0 r A σ (.ref x0 :: [.int x1]) (zI P)) ∨
    ((∃ fs : List Value, gO σ x0 = some (.inr (14, fs))) ∧ gMet dX l yX15_isUnder cX15_isUnder 2 (some .boolean) 1 20 0 0 r A σ (.ref x0 :: [.int x1]) (zI P)) ∨
    ((∃ fs : List Value, gO σ x0 = some (.inr (15, fs))) ∧ gMet dX l yX17_isUnder cX17_isUnder 2 (some .boolean) 2 41 0 0 r A σ (.ref x0 :: [.int x1]) (zI P)) ∨
    ((∃ fs : List Value, gO σ x0 = some (.inr (16, fs))) ∧ gMet dX l yX18_isUnder cX18_isUnder 2 (some .boolean) 3 62 0 0 r A σ (.ref x0 :: [.int x1]) (zI P)) ∨
    ((∃ fs : List Value, gO σ x0 = some (.inr (17, fs))) ∧ gMet dX l yX19_isUnder cX19_isUnder 2 (some .boolean) 3 62 0 0 r A σ (.ref x0 :: [.int x1]) (zI P)) ∨
    ((∃ fs : List Value, gO σ x0 = some (.inr (18, fs))) ∧ gMet dX l yX18_isUnder cX18_isUnder 2 (some .boolean) 3 62 0 0 r A σ (.ref x0 :: [.int x1]) (zI P)) ∨
    ((∃ fs : List Value, gO σ x0 = some (.inr (19, fs))) ∧ gMet dX l yX15_isUnder cX15_isUnder 2 (some .boolean) 1 20 0 0 r A σ (.ref x0 :: [.int x1]) (zI P)) ∨
    ((∃ fs : List Value, gO σ x0 = some (.inr (20, fs))) ∧ gMet dX l yX19_isUnder cX19_isUnder 2 (some .boolean) 3 62 0 0 r A σ (.ref x0 :: [.int x1]) (zI P))
theorem c_PB_isUnder (l : Launch) (r : GR) (A : Nat → Prop) (σ : GS) (x0 : Nat) (x1 : Int32) (P : GS → Int32 → Prop) (hf : f_PB_isUnder r σ x0 x1 P) : gPB_isUnder l r A σ x0 x1 P := by
  rcases hf with ⟨fs, hb, hf⟩ | ⟨fs, hb, hf⟩ | ⟨fs, hb, hf⟩ | ⟨fs, hb, hf⟩ | ⟨fs, hb, hf⟩ | ⟨fs, hb, hf⟩ | ⟨fs, hb, hf⟩ | ⟨fs, hb, hf⟩
  · exact Or.inl ⟨⟨fs, hb⟩, c_X15_isUnder_c13 l r A σ x0 x1 P hf⟩
  · exact Or.inr (Or.inl ⟨⟨fs, hb⟩, c_X15_isUnder_c14 l r A σ x0 x1 P hf⟩)
  · exact Or.inr (Or.inr (Or.inl ⟨⟨fs, hb⟩, c_X17_isUnder_c15 l r A σ x0 x1 P hf⟩))
  · exact Or.inr (Or.inr (Or.inr (Or.inl ⟨⟨fs, hb⟩, c_X18_isUnder_c16 l r A σ x0 x1 P hf⟩)))
  · exact Or.inr (Or.inr (Or.inr (Or.inr (Or.inl ⟨⟨fs, hb⟩, c_X19_isUnder_c17 l r A σ x0 x1 P hf⟩))))
  · exact Or.inr (Or.inr (Or.inr (Or.inr (Or.inr (Or.inl ⟨⟨fs, hb⟩, c_X18_isUnder_c18 l r A σ x0 x1 P hf⟩)))))
  · exact Or.inr (Or.inr (Or.inr (Or.inr (Or.inr (Or.inr (Or.inl ⟨⟨fs, hb⟩, c_X15_isUnder_c19 l r A σ x0 x1 P hf⟩))))))
  · exact Or.inr (Or.inr (Or.inr (Or.inr (Or.inr (Or.inr (Or.inr (⟨⟨fs, hb⟩, c_X19_isUnder_c20 l r A σ x0 x1 P hf⟩)))))))
theorem rPB_isUnder {p : Program} {l : Launch} {e : Env} {R : Room} {s : State} {m : MethodId} {args : Array Value} {below : List Frame} {meth : Method} {c : Code} {H : Heap} {locs : List Loc} {cells slots : Nat} {cc : ByteArray} {nL pc index : Nat} {ls : Array Slot} {own : String} {r : GR} {A : Nat → Prop} {σ : GS} {x0 : Nat} {x1 : Int32} {P : GS → Int32 → Prop} {lv : List (Nat × Value)} {st0 : List Value} (rest : List Value) (K : gC p s m args meth c cc nL own r A) (hM : gM dX r A σ s.heap H locs) (hl : lv_has ls nL lv) (Y : gPB_isUnder l r A σ x0 x1 P) (h1 : Cond.methodLink own index ({ cls := "PointsForAll$Purse", name := "isUnder", desc := "(I)Z" } : MethodName) ∈ lw_all) (hR : 3 + 1 ≤ R.frames ∧ 8 + (2 + 11) + 62 ≤ R.locals) (hf : cells + 0 ≤ R.cells ∧ slots + 0 ≤ R.slots) (hst : st0 = [.int x1] ++ .ref x0 :: rest) (hw : (rest.map fun v => v.category).sum ≤ 8) (hdg : decode cc pc = .ok (.invokevirtual index, 3)) :
    va_Run p l e R s m args below meth c H locs cells slots 0 0 (F0 m pc ls st0) rest (gEnd dX r A (zI P) (Value.ref x0 :: [.int x1]).toArray) A := by
  rcases Y with ⟨⟨fs, hb⟩, Y⟩ | ⟨⟨fs, hb⟩, Y⟩ | ⟨⟨fs, hb⟩, Y⟩ | ⟨⟨fs, hb⟩, Y⟩ | ⟨⟨fs, hb⟩, Y⟩ | ⟨⟨fs, hb⟩, Y⟩ | ⟨⟨fs, hb⟩, Y⟩ | ⟨⟨fs, hb⟩, Y⟩
  · exact rOv (x := ({ cls := "PointsForAll$Purse", name := "isUnder", desc := "(I)Z" } : MethodName)) (owner := "PointsForAll$Purse") [.int x1] rest K kY13 hM hl hb Y h1 q1398 q1396 q1415 q1397 q1396 q111 q1415 hdo_Purse_isUnder ⟨Nat.le_trans (by omega) hR.1, Nat.le_trans (by omega) hR.2⟩ hf hst hw hdg
  · exact rOv (x := ({ cls := "PointsForAll$Purse", name := "isUnder", desc := "(I)Z" } : MethodName)) (owner := "PointsForAll$Purse") [.int x1] rest K kY14 hM hl hb Y h1 q1398 q1396 q1415 q1411 q1396 q111 q1415 hdo_Purse_isUnder ⟨Nat.le_trans (by omega) hR.1, Nat.le_trans (by omega) hR.2⟩ hf hst hw hdg
  · exact rOv (x := ({ cls := "PointsForAll$Purse", name := "isUnder", desc := "(I)Z" } : MethodName)) (owner := "PointsForAll$Purse") [.int x1] rest K kY15 hM hl hb Y h1 q1398 q1396 q1415 q1413 q1403 q113 q1404 hdo_Purse_isUnder ⟨Nat.le_trans (by omega) hR.1, Nat.le_trans (by omega) hR.2⟩ hf hst hw hdg
  · exact rOv (x := ({ cls := "PointsForAll$Purse", name := "isUnder", desc := "(I)Z" } : MethodName)) (owner := "PointsForAll$Purse") [.int x1] rest K kY16 hM hl hb Y h1 q1398 q1396 q1415 q1412 q1400 q114 q1401 hdo_Purse_isUnder ⟨Nat.le_trans (by omega) hR.1, Nat.le_trans (by omega) hR.2⟩ hf hst hw hdg
  · exact rOv (x := ({ cls := "PointsForAll$Purse", name := "isUnder", desc := "(I)Z" } : MethodName)) (owner := "PointsForAll$Purse") [.int x1] rest K kY17 hM hl hb Y h1 q1398 q1396 q1415 q1410 q1407 q115 q1408 hdo_Purse_isUnder ⟨Nat.le_trans (by omega) hR.1, Nat.le_trans (by omega) hR.2⟩ hf hst hw hdg
  · exact rOv (x := ({ cls := "PointsForAll$Purse", name := "isUnder", desc := "(I)Z" } : MethodName)) (owner := "PointsForAll$Purse") [.int x1] rest K kY18 hM hl hb Y h1 q1398 q1396 q1415 q1399 q1400 q114 q1401 hdo_Purse_isUnder ⟨Nat.le_trans (by omega) hR.1, Nat.le_trans (by omega) hR.2⟩ hf hst hw hdg
  · exact rOv (x := ({ cls := "PointsForAll$Purse", name := "isUnder", desc := "(I)Z" } : MethodName)) (owner := "PointsForAll$Purse") [.int x1] rest K kY19 hM hl hb Y h1 q1398 q1396 q1415 q1414 q1396 q111 q1415 hdo_Purse_isUnder ⟨Nat.le_trans (by omega) hR.1, Nat.le_trans (by omega) hR.2⟩ hf hst hw hdg
  · exact rOv (x := ({ cls := "PointsForAll$Purse", name := "isUnder", desc := "(I)Z" } : MethodName)) (owner := "PointsForAll$Purse") [.int x1] rest K kY20 hM hl hb Y h1 q1398 q1396 q1415 q1406 q1407 q115 q1408 hdo_Purse_isUnder ⟨Nat.le_trans (by omega) hR.1, Nat.le_trans (by omega) hR.2⟩ hf hst hw hdg
def gPB_kind (l : Launch) (r : GR) (A : Nat → Prop) (σ : GS) (x0 : Nat) (P : GS → Int32 → Prop) : Prop :=
    ((∃ fs : List Value, gO σ x0 = some (.inr (13, fs))) ∧ gMet dX l yX15_kind cX15_kind 1 (some .int) 0 0 0 0 r A σ (.ref x0 :: []) (zI P)) ∨
    ((∃ fs : List Value, gO σ x0 = some (.inr (14, fs))) ∧ gMet dX l yX16_kind cX16_kind 1 (some .int) 0 0 0 0 r A σ (.ref x0 :: []) (zI P)) ∨
    ((∃ fs : List Value, gO σ x0 = some (.inr (15, fs))) ∧ gMet dX l yX17_kind cX17_kind 1 (some .int) 0 0 0 0 r A σ (.ref x0 :: []) (zI P)) ∨
    ((∃ fs : List Value, gO σ x0 = some (.inr (16, fs))) ∧ gMet dX l yX18_kind cX18_kind 1 (some .int) 0 0 0 0 r A σ (.ref x0 :: []) (zI P)) ∨
    ((∃ fs : List Value, gO σ x0 = some (.inr (17, fs))) ∧ gMet dX l yX19_kind cX19_kind 1 (some .int) 0 0 0 0 r A σ (.ref x0 :: []) (zI P)) ∨
    ((∃ fs : List Value, gO σ x0 = some (.inr (18, fs))) ∧ gMet dX l yX20_kind cX20_kind 1 (some .int) 0 0 0 0 r A σ (.ref x0 :: []) (zI P)) ∨
    ((∃ fs : List Value, gO σ x0 = some (.inr (19, fs))) ∧ gMet dX l yX21_kind cX21_kind 1 (some .int) 0 0 0 0 r A σ (.ref x0 :: []) (zI P)) ∨
    ((∃ fs : List Value, gO σ x0 = some (.inr (20, fs))) ∧ gMet dX l yX22_kind cX22_kind 1 (some .int) 0 0 0 0 r A σ (.ref x0 :: []) (zI P))
theorem c_PB_kind (l : Launch) (r : GR) (A : Nat → Prop) (σ : GS) (x0 : Nat) (P : GS → Int32 → Prop) (hf : f_PB_kind r σ x0 P) : gPB_kind l r A σ x0 P := by
  rcases hf with ⟨fs, hb, hf⟩ | ⟨fs, hb, hf⟩ | ⟨fs, hb, hf⟩ | ⟨fs, hb, hf⟩ | ⟨fs, hb, hf⟩ | ⟨fs, hb, hf⟩ | ⟨fs, hb, hf⟩ | ⟨fs, hb, hf⟩
  · exact Or.inl ⟨⟨fs, hb⟩, c_X15_kind_c13 l r A σ x0 P hf⟩
  · exact Or.inr (Or.inl ⟨⟨fs, hb⟩, c_X16_kind_c14 l r A σ x0 P hf⟩)
  · exact Or.inr (Or.inr (Or.inl ⟨⟨fs, hb⟩, c_X17_kind_c15 l r A σ x0 P hf⟩))
  · exact Or.inr (Or.inr (Or.inr (Or.inl ⟨⟨fs, hb⟩, c_X18_kind_c16 l r A σ x0 P hf⟩)))
  · exact Or.inr (Or.inr (Or.inr (Or.inr (Or.inl ⟨⟨fs, hb⟩, c_X19_kind_c17 l r A σ x0 P hf⟩))))
  · exact Or.inr (Or.inr (Or.inr (Or.inr (Or.inr (Or.inl ⟨⟨fs, hb⟩, c_X20_kind_c18 l r A σ x0 P hf⟩)))))
  · exact Or.inr (Or.inr (Or.inr (Or.inr (Or.inr (Or.inr (Or.inl ⟨⟨fs, hb⟩, c_X21_kind_c19 l r A σ x0 P hf⟩))))))
  · exact Or.inr (Or.inr (Or.inr (Or.inr (Or.inr (Or.inr (Or.inr (⟨⟨fs, hb⟩, c_X22_kind_c20 l r A σ x0 P hf⟩)))))))
theorem rPB_kind {p : Program} {l : Launch} {e : Env} {R : Room} {s : State} {m : MethodId} {args : Array Value} {below : List Frame} {meth : Method} {c : Code} {H : Heap} {locs : List Loc} {cells slots : Nat} {cc : ByteArray} {nL pc index : Nat} {ls : Array Slot} {own : String} {r : GR} {A : Nat → Prop} {σ : GS} {x0 : Nat} {P : GS → Int32 → Prop} {lv : List (Nat × Value)} {st0 : List Value} (rest : List Value) (K : gC p s m args meth c cc nL own r A) (hM : gM dX r A σ s.heap H locs) (hl : lv_has ls nL lv) (Y : gPB_kind l r A σ x0 P) (h1 : Cond.methodLink own index ({ cls := "PointsForAll$Purse", name := "kind", desc := "()I" } : MethodName) ∈ lw_all) (hR : 0 + 1 ≤ R.frames ∧ 8 + (1 + 11) + 0 ≤ R.locals) (hf : cells + 0 ≤ R.cells ∧ slots + 0 ≤ R.slots) (hst : st0 = .ref x0 :: rest) (hw : (rest.map fun v => v.category).sum ≤ 8) (hdg : decode cc pc = .ok (.invokevirtual index, 3)) :
    va_Run p l e R s m args below meth c H locs cells slots 0 0 (F0 m pc ls st0) rest (gEnd dX r A (zI P) (Value.ref x0 :: []).toArray) A := by
  rcases Y with ⟨⟨fs, hb⟩, Y⟩ | ⟨⟨fs, hb⟩, Y⟩ | ⟨⟨fs, hb⟩, Y⟩ | ⟨⟨fs, hb⟩, Y⟩ | ⟨⟨fs, hb⟩, Y⟩ | ⟨⟨fs, hb⟩, Y⟩ | ⟨⟨fs, hb⟩, Y⟩ | ⟨⟨fs, hb⟩, Y⟩
  · exact rOv (x := ({ cls := "PointsForAll$Purse", name := "kind", desc := "()I" } : MethodName)) (owner := "PointsForAll$Purse") [] rest K kY13 hM hl hb Y h1 q1419 q1417 q1441 q1418 q1417 q111 q1441 hdo_Purse_kind ⟨Nat.le_trans (by omega) hR.1, Nat.le_trans (by omega) hR.2⟩ hf hst hw hdg
  · exact rOv (x := ({ cls := "PointsForAll$Purse", name := "kind", desc := "()I" } : MethodName)) (owner := "PointsForAll$Purse") [] rest K kY14 hM hl hb Y h1 q1419 q1417 q1441 q1429 q1430 q112 q1431 hdo_Purse_kind ⟨Nat.le_trans (by omega) hR.1, Nat.le_trans (by omega) hR.2⟩ hf hst hw hdg
  · exact rOv (x := ({ cls := "PointsForAll$Purse", name := "kind", desc := "()I" } : MethodName)) (owner := "PointsForAll$Purse") [] rest K kY15 hM hl hb Y h1 q1419 q1417 q1441 q1435 q1436 q113 q1437 hdo_Purse_kind ⟨Nat.le_trans (by omega) hR.1, Nat.le_trans (by omega) hR.2⟩ hf hst hw hdg
  · exact rOv (x := ({ cls := "PointsForAll$Purse", name := "kind", desc := "()I" } : MethodName)) (owner := "PointsForAll$Purse") [] rest K kY16 hM hl hb Y h1 q1419 q1417 q1441 q1432 q1433 q114 q1434 hdo_Purse_kind ⟨Nat.le_trans (by omega) hR.1, Nat.le_trans (by omega) hR.2⟩ hf hst hw hdg
  · exact rOv (x := ({ cls := "PointsForAll$Purse", name := "kind", desc := "()I" } : MethodName)) (owner := "PointsForAll$Purse") [] rest K kY17 hM hl hb Y h1 q1419 q1417 q1441 q1426 q1427 q115 q1428 hdo_Purse_kind ⟨Nat.le_trans (by omega) hR.1, Nat.le_trans (by omega) hR.2⟩ hf hst hw hdg
  · exact rOv (x := ({ cls := "PointsForAll$Purse", name := "kind", desc := "()I" } : MethodName)) (owner := "PointsForAll$Purse") [] rest K kY18 hM hl hb Y h1 q1419 q1417 q1441 q1420 q1421 q116 q1422 hdo_Purse_kind ⟨Nat.le_trans (by omega) hR.1, Nat.le_trans (by omega) hR.2⟩ hf hst hw hdg
  · exact rOv (x := ({ cls := "PointsForAll$Purse", name := "kind", desc := "()I" } : MethodName)) (owner := "PointsForAll$Purse") [] rest K kY19 hM hl hb Y h1 q1419 q1417 q1441 q1438 q1439 q117 q1440 hdo_Purse_kind ⟨Nat.le_trans (by omega) hR.1, Nat.le_trans (by omega) hR.2⟩ hf hst hw hdg
  · exact rOv (x := ({ cls := "PointsForAll$Purse", name := "kind", desc := "()I" } : MethodName)) (owner := "PointsForAll$Purse") [] rest K kY20 hM hl hb Y h1 q1419 q1417 q1441 q1423 q1424 q118 q1425 hdo_Purse_kind ⟨Nat.le_trans (by omega) hR.1, Nat.le_trans (by omega) hR.2⟩ hf hst hw hdg

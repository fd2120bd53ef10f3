set_option maxRecDepth 100000
set_option maxHeartbeats 4000000
theorem w_X2_isGone_2 {p : Program} {l : Launch} {e : Env} {s : State} {m : MethodId} {args : Array Value} {below : List Frame} {meth : Method} {c : Code} {r : GR} {A : Nat → Prop} {P : GS → Int32 → Prop} (K : gC p s m args meth c cX2_isGone 2 RX2 r A) (hr : meth.sig.returnType = (some .boolean)) : ∀ (n : Nat) (σ : GS) (x1 : Int32), f_X2_isGone_2 P n σ x1 → gW dM p l e (gRm 1 21 0 0) s m args below meth c r A (zI P) 0 0 2 2 [(0, .ref r.2.1), (1, .int x1)] [] 0 0 σ := by
  obtain ⟨hx, hb, hml, hown, hts, hlk, hKK, hA⟩ := id K
  intro n
  induction n with
  | zero =>
    intro σ x1 hf
    exact absurd hf (fun h => h)
  | succ n ih =>
    intro σ x1 hf H locs ls hM hl
    rw [f_X2_isGone_2] at hf
    refine lv_iload_n hx hb dX2_isGone_2 rfl (lv_at hl 1 rfl) ?_
    refine lv_aload_n hx hb dX2_isGone_3 rfl (lv_at hl 0 rfl) ?_
    refine g_geti K kM hM 6 rfl q1459 rfl dX2_isGone_4 rfl ?_
    refine lv_icmp_ge (tgt := 26) hx hb dX2_isGone_7 (by decide) (fun b1 => ?_) (fun b1 => ?_)
    · replace hf := hf.1 b1
      refine lv_iconst (v := 0) hx hb dX2_isGone_26 rfl ?_
      exact g_retz K hr hM ⟨Nat.le_refl _, Nat.le_refl _⟩ gZ_0 hf dX2_isGone_27
    · replace hf := hf.2 b1
      refine lv_aload_n hx hb dX2_isGone_10 rfl (lv_at hl 0 rfl) ?_
      refine lv_iload_n hx hb dX2_isGone_11 rfl (lv_at hl 1 rfl) ?_
      refine g_cVi [.int x1] [] K kM hM hl (c_X2_over l r A _ _ _ hf) q1792 q1794 qs65 q84 q1795 hdX2_over ⟨Nat.le_of_ble_eq_true rfl, Nat.le_of_ble_eq_true rfl⟩ ⟨Nat.le_refl _, Nat.le_refl _⟩ rfl (Nat.le_of_ble_eq_true rfl) dX2_isGone_12 (fun σ2 v3 H locs hf hM => ?_)
      refine lv_if_ge (tgt := 20) hx hb dX2_isGone_15 (by decide) (fun b4 => ?_) (fun b4 => ?_)
      · replace hf := hf.1 b4
        refine lv_iinc (v := x1 + 1) (lv' := [(1, .int (x1 + 1)), (0, .ref r.2.1)]) hx hb dX2_isGone_20 hl (k := 1) rfl rfl (by decide) rfl (fun ls hl => ?_)
        refine lv_goto (tgt := 2) hx hb dX2_isGone_23 (by decide) ?_
        exact ih _ _ hf _ _ _ hM (lv_sub hl [1, 0] rfl)
      · replace hf := hf.2 b4
        refine lv_iconst (v := 1) hx hb dX2_isGone_18 rfl ?_
        exact g_retz K hr hM ⟨Nat.le_refl _, Nat.le_refl _⟩ gZ_1 hf dX2_isGone_19
theorem c_X2_isGone (l : Launch) (r : GR) (A : Nat → Prop) (σ : GS) (P : GS → Int32 → Prop) (hf : f_X2_isGone σ P) : gMet dM l yX2_isGone cX2_isGone 2 (some .boolean) 1 21 0 0 r A σ [.ref r.2.1] (zI P) := by
  refine g_enter (lv := [(0, .ref r.2.1)]) (by decide) (Nat.le_of_ble_eq_true rfl) rfl ?_
  intro p e s m below meth c ls K hr hM hl _
  obtain ⟨hx, hb, hml, hown, hts, hlk, hKK, hA⟩ := id K
  unfold f_X2_isGone at hf
  refine lv_iconst (v := 0) hx hb dX2_isGone_0 rfl ?_
  refine lv_istore_n (lv' := [(1, .int (0 : Int32)), (0, .ref r.2.1)]) hx hb dX2_isGone_1 rfl hl (by decide) rfl (fun ls hl => ?_)
  obtain ⟨n_, hf⟩ := hf
  exact w_X2_isGone_2 K hr n_ _ _ hf _ _ _ hM (lv_sub hl [1, 0] rfl)
theorem w_X2_fewest_133 {p : Program} {l : Launch} {e : Env} {s : State} {m : MethodId} {args : Array Value} {below : List Frame} {meth : Method} {c : Code} {r : GR} {A : Nat → Prop} {P : GS → Int32 → Prop} (K : gC p s m args meth c cX2_fewest 4 RX2 r A) (hr : meth.sig.returnType = (some .int)) : ∀ (n : Nat) (σ : GS) (x1 : Int32) (x2 : Int32), f_X2_fewest_133 P n σ x1 x2 → gW dM p l e (gRm 70 2686 0 0) s m args below meth c r A (zI P) 0 0 4 133 [(0, .ref r.2.1), (1, .int x1), (2, .int x2)] [] 0 0 σ := by
  obtain ⟨hx, hb, hml, hown, hts, hlk, hKK, hA⟩ := id K
  intro n
  induction n with
  | zero =>
    intro σ x1 x2 hf
    exact absurd hf (fun h => h)
  | succ n ih =>
    intro σ x1 x2 hf H locs ls hM hl
    rw [f_X2_fewest_133] at hf
    refine lv_iload_n hx hb dX2_fewest_133 rfl (lv_at hl 2 rfl) ?_
    refine lv_aload_n hx hb dX2_fewest_134 rfl (lv_at hl 0 rfl) ?_
    refine g_geti K kM hM 6 rfl q1459 rfl dX2_fewest_135 rfl ?_
    refine lv_icmp_ge (tgt := 162) hx hb dX2_fewest_138 (by decide) (fun b1 => ?_) (fun b1 => ?_)
    · replace hf := hf.1 b1
      refine lv_iload_n hx hb dX2_fewest_162 rfl (lv_at hl 1 rfl) ?_
      exact g_reti K hr hM ⟨Nat.le_refl _, Nat.le_refl _⟩ hf dX2_fewest_163
    · replace hf := hf.2 b1
      refine lv_aload_n hx hb dX2_fewest_141 rfl (lv_at hl 0 rfl) ?_
      refine g_geta K kM hM 0 rfl q1453 rfl dX2_fewest_142 rfl ?_
      refine lv_bipush (v := 12) hx hb dX2_fewest_145 rfl ?_
      refine lv_iload_n hx hb dX2_fewest_147 rfl (lv_at hl 2 rfl) ?_
      refine lv_iadd hx hb dX2_fewest_148 ?_
      refine lv_aload_n hx hb dX2_fewest_149 rfl (lv_at hl 0 rfl) ?_
      refine g_geta K kM hM 41 rfl q1494 rfl dX2_fewest_150 rfl ?_
      refine lv_iload_n hx hb dX2_fewest_153 rfl (lv_at hl 2 rfl) ?_
      obtain ⟨g2, hf⟩ := hf
      refine g_iald K hM 41 rfl rfl rfl g2 dX2_fewest_154 ?_
      obtain ⟨g3, hf⟩ := hf
      refine g_iastN K hM 0 rfl rfl rfl g3 dX2_fewest_155 (fun H locs σ4 hσ4 hM => ?_)
      have hf := hf σ4 hσ4
      refine lv_iinc (v := x2 + 1) (lv' := [(2, .int (x2 + 1)), (0, .ref r.2.1), (1, .int x1)]) hx hb dX2_fewest_156 hl (k := 2) rfl rfl (by decide) rfl (fun ls hl => ?_)
      refine lv_goto (tgt := 133) hx hb dX2_fewest_159 (by decide) ?_
      exact ih _ _ _ hf _ _ _ hM (lv_sub hl [1, 2, 0] rfl)
theorem w_X2_fewest_125 {p : Program} {l : Launch} {e : Env} {s : State} {m : MethodId} {args : Array Value} {below : List Frame} {meth : Method} {c : Code} {r : GR} {A : Nat → Prop} {P : GS → Int32 → Prop} {k36 : GS → Int32 → Int32 → Prop} (K : gC p s m args meth c cX2_fewest 4 RX2 r A) (hr : meth.sig.returnType = (some .int)) (H36 : ∀ (σ : GS) (x1 : Int32) (x2 : Int32), k36 σ x1 x2 → gW dM p l e (gRm 70 2686 0 0) s m args below meth c r A (zI P) 0 0 4 36 [(0, .ref r.2.1), (1, .int x1), (2, .int x2)] [] 0 0 σ) : ∀ (σ : GS) (x1 : Int32) (x2 : Int32), f_X2_fewest_125 k36 P σ x1 x2 → gW dM p l e (gRm 70 2686 0 0) s m args below meth c r A (zI P) 0 0 4 125 [(0, .ref r.2.1), (1, .int x1), (2, .int x2)] [] 0 0 σ := by
  obtain ⟨hx, hb, hml, hown, hts, hlk, hKK, hA⟩ := id K
  intro σ x1 x2 hf H locs ls hM hl
  unfold f_X2_fewest_125 at hf
  refine lv_iinc (v := x2 + 1) (lv' := [(2, .int (x2 + 1)), (0, .ref r.2.1), (1, .int x1)]) hx hb dX2_fewest_125 hl (k := 2) rfl rfl (by decide) rfl (fun ls hl => ?_)
  refine lv_goto (tgt := 36) hx hb dX2_fewest_128 (by decide) ?_
  exact H36 _ _ _ hf _ _ _ hM (lv_sub hl [1, 2, 0] rfl)
theorem w_X2_fewest_124 {p : Program} {l : Launch} {e : Env} {s : State} {m : MethodId} {args : Array Value} {below : List Frame} {meth : Method} {c : Code} {r : GR} {A : Nat → Prop} {P : GS → Int32 → Prop} {k36 : GS → Int32 → Int32 → Prop} (K : gC p s m args meth c cX2_fewest 4 RX2 r A) (hr : meth.sig.returnType = (some .int)) (H36 : ∀ (σ : GS) (x1 : Int32) (x2 : Int32), k36 σ x1 x2 → gW dM p l e (gRm 70 2686 0 0) s m args below meth c r A (zI P) 0 0 4 36 [(0, .ref r.2.1), (1, .int x1), (2, .int x2)] [] 0 0 σ) : ∀ (σ : GS) (x2 : Int32) (t0 : Int32), f_X2_fewest_124 k36 P σ x2 t0 → gW dM p l e (gRm 70 2686 0 0) s m args below meth c r A (zI P) 0 0 4 124 [(0, .ref r.2.1), (2, .int x2)] [.int t0] 0 0 σ := by
  obtain ⟨hx, hb, hml, hown, hts, hlk, hKK, hA⟩ := id K
  intro σ x2 t0 hf H locs ls hM hl
  unfold f_X2_fewest_124 at hf
  refine lv_istore_n (lv' := [(1, .int t0), (0, .ref r.2.1), (2, .int x2)]) hx hb dX2_fewest_124 rfl hl (by decide) rfl (fun ls hl => ?_)
  exact w_X2_fewest_125 K hr H36 _ _ _ hf _ _ _ hM (lv_sub hl [1, 0, 2] rfl)
theorem w_X2_fewest_101 {p : Program} {l : Launch} {e : Env} {s : State} {m : MethodId} {args : Array Value} {below : List Frame} {meth : Method} {c : Code} {r : GR} {A : Nat → Prop} {P : GS → Int32 → Prop} {k36 : GS → Int32 → Int32 → Prop} {k66 : GS → Int32 → Int32 → Int32 → Prop} (K : gC p s m args meth c cX2_fewest 4 RX2 r A) (hr : meth.sig.returnType = (some .int)) (H36 : ∀ (σ : GS) (x1 : Int32) (x2 : Int32), k36 σ x1 x2 → gW dM p l e (gRm 70 2686 0 0) s m args below meth c r A (zI P) 0 0 4 36 [(0, .ref r.2.1), (1, .int x1), (2, .int x2)] [] 0 0 σ) (H66 : ∀ (σ : GS) (x1 : Int32) (x2 : Int32) (x3 : Int32), k66 σ x1 x2 x3 → gW dM p l e (gRm 70 2686 0 0) s m args below meth c r A (zI P) 0 0 4 66 [(0, .ref r.2.1), (1, .int x1), (2, .int x2), (3, .int x3)] [] 0 0 σ) : ∀ (σ : GS) (x1 : Int32) (x2 : Int32) (x3 : Int32) (t2 : Int32) (t1 : Int32), f_X2_fewest_101 k36 k66 P σ x1 x2 x3 t2 t1 → gW dM p l e (gRm 70 2686 0 0) s m args below meth c r A (zI P) 0 0 4 101 [(0, .ref r.2.1), (1, .int x1), (2, .int x2), (3, .int x3)] [.int t2, .int t1, .ref (r.2.2.1 0)] 0 0 σ := by
  obtain ⟨hx, hb, hml, hown, hts, hlk, hKK, hA⟩ := id K
  intro σ x1 x2 x3 t2 t1 hf H locs ls hM hl
  unfold f_X2_fewest_101 at hf
  obtain ⟨g1, hf⟩ := hf
  refine g_iastN K hM 0 rfl rfl rfl g1 dX2_fewest_101 (fun H locs σ2 hσ2 hM => ?_)
  have hf := hf σ2 hσ2
  refine lv_iinc (v := x3 + 1) (lv' := [(3, .int (x3 + 1)), (0, .ref r.2.1), (1, .int x1), (2, .int x2)]) hx hb dX2_fewest_102 hl (k := 3) rfl rfl (by decide) rfl (fun ls hl => ?_)
  refine lv_goto (tgt := 66) hx hb dX2_fewest_105 (by decide) ?_
  exact H66 _ _ _ _ hf _ _ _ hM (lv_sub hl [1, 2, 3, 0] rfl)
theorem w_X2_fewest_66 {p : Program} {l : Launch} {e : Env} {s : State} {m : MethodId} {args : Array Value} {below : List Frame} {meth : Method} {c : Code} {r : GR} {A : Nat → Prop} {P : GS → Int32 → Prop} {k36 : GS → Int32 → Int32 → Prop} (K : gC p s m args meth c cX2_fewest 4 RX2 r A) (hr : meth.sig.returnType = (some .int)) (H36 : ∀ (σ : GS) (x1 : Int32) (x2 : Int32), k36 σ x1 x2 → gW dM p l e (gRm 70 2686 0 0) s m args below meth c r A (zI P) 0 0 4 36 [(0, .ref r.2.1), (1, .int x1), (2, .int x2)] [] 0 0 σ) : ∀ (n : Nat) (σ : GS) (x1 : Int32) (x2 : Int32) (x3 : Int32), f_X2_fewest_66 k36 P n σ x1 x2 x3 → gW dM p l e (gRm 70 2686 0 0) s m args below meth c r A (zI P) 0 0 4 66 [(0, .ref r.2.1), (1, .int x1), (2, .int x2), (3, .int x3)] [] 0 0 σ := by
  obtain ⟨hx, hb, hml, hown, hts, hlk, hKK, hA⟩ := id K
  intro n
  induction n with
  | zero =>
    intro σ x1 x2 x3 hf
    exact absurd hf (fun h => h)
  | succ n ih =>
    intro σ x1 x2 x3 hf H locs ls hM hl
    rw [f_X2_fewest_66] at hf
    refine lv_iload_n hx hb dX2_fewest_66 rfl (lv_at hl 3 rfl) ?_
    refine lv_aload_n hx hb dX2_fewest_67 rfl (lv_at hl 0 rfl) ?_
    refine g_geti K kM hM 6 rfl q1459 rfl dX2_fewest_68 rfl ?_
    refine lv_icmp_ge (tgt := 108) hx hb dX2_fewest_71 (by decide) (fun b1 => ?_) (fun b1 => ?_)
    · replace hf := hf.1 b1
      refine lv_aload_n hx hb dX2_fewest_108 rfl (lv_at hl 0 rfl) ?_
      refine g_cVv [] [] K kM hM hl (c_X2_findWanted l r A _ _ hf) q1784 q1786 qs63 q84 q1787 hdX2_findWanted ⟨Nat.le_of_ble_eq_true rfl, Nat.le_of_ble_eq_true rfl⟩ ⟨Nat.le_refl _, Nat.le_refl _⟩ rfl (Nat.le_of_ble_eq_true rfl) dX2_fewest_109 (fun σ2 H locs hf hM => ?_)
      refine lv_aload_n hx hb dX2_fewest_112 rfl (lv_at hl 0 rfl) ?_
      refine g_cVi [] [] K kM hM hl (c_X2_isGone l r A _ _ hf) q1884 q1886 qs72 q84 q1887 hdX2_isGone ⟨Nat.le_of_ble_eq_true rfl, Nat.le_of_ble_eq_true rfl⟩ ⟨Nat.le_refl _, Nat.le_refl _⟩ rfl (Nat.le_of_ble_eq_true rfl) dX2_fewest_113 (fun σ4 v5 H locs hf hM => ?_)
      refine lv_if_eq (tgt := 123) hx hb dX2_fewest_116 (by decide) (fun b6 => ?_) (fun b6 => ?_)
      · replace hf := hf.1 b6
        refine lv_iload_n hx hb dX2_fewest_123 rfl (lv_at hl 2 rfl) ?_
        exact w_X2_fewest_124 K hr H36 _ _ _ hf _ _ _ hM (lv_sub hl [0, 2] rfl)
      · replace hf := hf.2 b6
        refine lv_iload_n hx hb dX2_fewest_119 rfl (lv_at hl 1 rfl) ?_
        refine lv_goto (tgt := 124) hx hb dX2_fewest_120 (by decide) ?_
        exact w_X2_fewest_124 K hr H36 _ _ _ hf _ _ _ hM (lv_sub hl [0, 2] rfl)
    · replace hf := hf.2 b1
      refine lv_aload_n hx hb dX2_fewest_74 rfl (lv_at hl 0 rfl) ?_
      refine g_geta K kM hM 0 rfl q1453 rfl dX2_fewest_75 rfl ?_
      refine lv_bipush (v := 12) hx hb dX2_fewest_78 rfl ?_
      refine lv_iload_n hx hb dX2_fewest_80 rfl (lv_at hl 3 rfl) ?_
      refine lv_iadd hx hb dX2_fewest_81 ?_
      refine lv_iload_n hx hb dX2_fewest_82 rfl (lv_at hl 2 rfl) ?_
      refine lv_iload_n hx hb dX2_fewest_83 rfl (lv_at hl 3 rfl) ?_
      refine lv_ishr hx hb dX2_fewest_84 ?_
      refine lv_iconst (v := 1) hx hb dX2_fewest_85 rfl ?_
      refine lv_iand hx hb dX2_fewest_86 ?_
      refine lv_iconst (v := 1) hx hb dX2_fewest_87 rfl ?_
      refine lv_icmp_ne (tgt := 100) hx hb dX2_fewest_88 (by decide) (fun b7 => ?_) (fun b7 => ?_)
      · replace hf := hf.2 b7
        refine lv_iconst (v := 0) hx hb dX2_fewest_100 rfl ?_
        exact w_X2_fewest_101 K hr H36 ih _ _ _ _ _ _ hf _ _ _ hM (lv_sub hl [0, 1, 2, 3] rfl)
      · replace hf := hf.1 b7
        refine lv_aload_n hx hb dX2_fewest_91 rfl (lv_at hl 0 rfl) ?_
        refine g_geta K kM hM 41 rfl q1494 rfl dX2_fewest_92 rfl ?_
        refine lv_iload_n hx hb dX2_fewest_95 rfl (lv_at hl 3 rfl) ?_
        obtain ⟨g8, hf⟩ := hf
        refine g_iald K hM 41 rfl rfl rfl g8 dX2_fewest_96 ?_
        refine lv_goto (tgt := 101) hx hb dX2_fewest_97 (by decide) ?_
        exact w_X2_fewest_101 K hr H36 ih _ _ _ _ _ _ hf _ _ _ hM (lv_sub hl [0, 1, 2, 3] rfl)
theorem w_X2_fewest_64 {p : Program} {l : Launch} {e : Env} {s : State} {m : MethodId} {args : Array Value} {below : List Frame} {meth : Method} {c : Code} {r : GR} {A : Nat → Prop} {P : GS → Int32 → Prop} {k36 : GS → Int32 → Int32 → Prop} (K : gC p s m args meth c cX2_fewest 4 RX2 r A) (hr : meth.sig.returnType = (some .int)) (H36 : ∀ (σ : GS) (x1 : Int32) (x2 : Int32), k36 σ x1 x2 → gW dM p l e (gRm 70 2686 0 0) s m args below meth c r A (zI P) 0 0 4 36 [(0, .ref r.2.1), (1, .int x1), (2, .int x2)] [] 0 0 σ) : ∀ (σ : GS) (x1 : Int32) (x2 : Int32), f_X2_fewest_64 k36 P σ x1 x2 → gW dM p l e (gRm 70 2686 0 0) s m args below meth c r A (zI P) 0 0 4 64 [(0, .ref r.2.1), (1, .int x1), (2, .int x2)] [] 0 0 σ := by
  obtain ⟨hx, hb, hml, hown, hts, hlk, hKK, hA⟩ := id K
  intro σ x1 x2 hf H locs ls hM hl
  unfold f_X2_fewest_64 at hf
  refine lv_iconst (v := 0) hx hb dX2_fewest_64 rfl ?_
  refine lv_istore_n (lv' := [(3, .int (0 : Int32)), (0, .ref r.2.1), (1, .int x1), (2, .int x2)]) hx hb dX2_fewest_65 rfl hl (by decide) rfl (fun ls hl => ?_)
  obtain ⟨n_, hf⟩ := hf
  exact w_X2_fewest_66 K hr H36 n_ _ _ _ _ hf _ _ _ hM (lv_sub hl [1, 2, 3, 0] rfl)
theorem w_X2_fewest_36 {p : Program} {l : Launch} {e : Env} {s : State} {m : MethodId} {args : Array Value} {below : List Frame} {meth : Method} {c : Code} {r : GR} {A : Nat → Prop} {P : GS → Int32 → Prop} (K : gC p s m args meth c cX2_fewest 4 RX2 r A) (hr : meth.sig.returnType = (some .int)) : ∀ (n : Nat) (σ : GS) (x1 : Int32) (x2 : Int32), f_X2_fewest_36 P n σ x1 x2 → gW dM p l e (gRm 70 2686 0 0) s m args below meth c r A (zI P) 0 0 4 36 [(0, .ref r.2.1), (1, .int x1), (2, .int x2)] [] 0 0 σ := by
  obtain ⟨hx, hb, hml, hown, hts, hlk, hKK, hA⟩ := id K
  intro n
  induction n with
  | zero =>
    intro σ x1 x2 hf
    exact absurd hf (fun h => h)
  | succ n ih =>
    intro σ x1 x2 hf H locs ls hM hl
    rw [f_X2_fewest_36] at hf
    refine lv_iload_n hx hb dX2_fewest_36 rfl (lv_at hl 2 rfl) ?_
    refine lv_iconst (v := 1) hx hb dX2_fewest_37 rfl ?_
    refine lv_aload_n hx hb dX2_fewest_38 rfl (lv_at hl 0 rfl) ?_
    refine g_geti K kM hM 6 rfl q1459 rfl dX2_fewest_39 rfl ?_
    refine lv_ishl hx hb dX2_fewest_42 ?_
    refine lv_icmp_ge (tgt := 131) hx hb dX2_fewest_43 (by decide) (fun b1 => ?_) (fun b1 => ?_)
    · replace hf := hf.1 b1
      refine lv_iconst (v := 0) hx hb dX2_fewest_131 rfl ?_
      refine lv_istore_n (lv' := [(2, .int (0 : Int32)), (0, .ref r.2.1), (1, .int x1)]) hx hb dX2_fewest_132 rfl hl (by decide) rfl (fun ls hl => ?_)
      obtain ⟨n_, hf⟩ := hf
      exact w_X2_fewest_133 K hr n_ _ _ _ hf _ _ _ hM (lv_sub hl [1, 2, 0] rfl)
    · replace hf := hf.2 b1
      refine lv_iload_n hx hb dX2_fewest_46 rfl (lv_at hl 1 rfl) ?_
      refine lv_if_lt (tgt := 64) hx hb dX2_fewest_47 (by decide) (fun b2 => ?_) (fun b2 => ?_)
      · replace hf := hf.1 b2
        exact w_X2_fewest_64 K hr ih _ _ _ hf _ _ _ hM (lv_sub hl [0, 1, 2] rfl)
      · replace hf := hf.2 b2
        refine lv_iload_n hx hb dX2_fewest_50 rfl (lv_at hl 2 rfl) ?_
        refine g_cSi [.int x2] [] K hM hl (c_X2_bitsOf l r A _ _ _ hf) q1881 q1882 q84 q1883 hdX2_bitsOf ⟨Nat.le_of_ble_eq_true rfl, Nat.le_of_ble_eq_true rfl⟩ ⟨Nat.le_refl _, Nat.le_refl _⟩ rfl (Nat.le_of_ble_eq_true rfl) dX2_fewest_51 (fun σ3 v4 H locs hf hM => ?_)
        refine lv_iload_n hx hb dX2_fewest_54 rfl (lv_at hl 1 rfl) ?_
        refine g_cSi [.int x1] [.int v4] K hM hl (c_X2_bitsOf l r A _ _ _ hf) q1881 q1882 q84 q1883 hdX2_bitsOf ⟨Nat.le_of_ble_eq_true rfl, Nat.le_of_ble_eq_true rfl⟩ ⟨Nat.le_refl _, Nat.le_refl _⟩ rfl (Nat.le_of_ble_eq_true rfl) dX2_fewest_55 (fun σ5 v6 H locs hf hM => ?_)
        refine lv_icmp_lt (tgt := 64) hx hb dX2_fewest_58 (by decide) (fun b7 => ?_) (fun b7 => ?_)
        · replace hf := hf.1 b7
          exact w_X2_fewest_64 K hr ih _ _ _ hf _ _ _ hM (lv_sub hl [0, 1, 2] rfl)
        · replace hf := hf.2 b7
          refine lv_goto (tgt := 125) hx hb dX2_fewest_61 (by decide) ?_
          exact w_X2_fewest_125 K hr ih _ _ _ hf _ _ _ hM (lv_sub hl [0, 1, 2] rfl)
theorem w_X2_fewest_5 {p : Program} {l : Launch} {e : Env} {s : State} {m : MethodId} {args : Array Value} {below : List Frame} {meth : Method} {c : Code} {r : GR} {A : Nat → Prop} {P : GS → Int32 → Prop} (K : gC p s m args meth c cX2_fewest 4 RX2 r A) (hr : meth.sig.returnType = (some .int)) : ∀ (n : Nat) (σ : GS) (x1 : Int32) (x2 : Int32), f_X2_fewest_5 P n σ x1 x2 → gW dM p l e (gRm 70 2686 0 0) s m args below meth c r A (zI P) 0 0 4 5 [(0, .ref r.2.1), (1, .int x1), (2, .int x2)] [] 0 0 σ := by
  obtain ⟨hx, hb, hml, hown, hts, hlk, hKK, hA⟩ := id K
  intro n
  induction n with
  | zero =>
    intro σ x1 x2 hf
    exact absurd hf (fun h => h)
  | succ n ih =>
    intro σ x1 x2 hf H locs ls hM hl
    rw [f_X2_fewest_5] at hf
    refine lv_iload_n hx hb dX2_fewest_5 rfl (lv_at hl 2 rfl) ?_
    refine lv_aload_n hx hb dX2_fewest_6 rfl (lv_at hl 0 rfl) ?_
    refine g_geti K kM hM 6 rfl q1459 rfl dX2_fewest_7 rfl ?_
    refine lv_icmp_ge (tgt := 34) hx hb dX2_fewest_10 (by decide) (fun b1 => ?_) (fun b1 => ?_)
    · replace hf := hf.1 b1
      refine lv_iconst (v := 0) hx hb dX2_fewest_34 rfl ?_
      refine lv_istore_n (lv' := [(2, .int (0 : Int32)), (0, .ref r.2.1), (1, .int x1)]) hx hb dX2_fewest_35 rfl hl (by decide) rfl (fun ls hl => ?_)
      obtain ⟨n_, hf⟩ := hf
      exact w_X2_fewest_36 K hr n_ _ _ _ hf _ _ _ hM (lv_sub hl [1, 2, 0] rfl)
    · replace hf := hf.2 b1
      refine lv_aload_n hx hb dX2_fewest_13 rfl (lv_at hl 0 rfl) ?_
      refine g_geta K kM hM 41 rfl q1494 rfl dX2_fewest_14 rfl ?_
      refine lv_iload_n hx hb dX2_fewest_17 rfl (lv_at hl 2 rfl) ?_
      refine lv_aload_n hx hb dX2_fewest_18 rfl (lv_at hl 0 rfl) ?_
      refine g_geta K kM hM 0 rfl q1453 rfl dX2_fewest_19 rfl ?_
      refine lv_bipush (v := 12) hx hb dX2_fewest_22 rfl ?_
      refine lv_iload_n hx hb dX2_fewest_24 rfl (lv_at hl 2 rfl) ?_
      refine lv_iadd hx hb dX2_fewest_25 ?_
      obtain ⟨g2, hf⟩ := hf
      refine g_iald K hM 0 rfl rfl rfl g2 dX2_fewest_26 ?_
      obtain ⟨g3, hf⟩ := hf
      refine g_iastN K hM 41 rfl rfl rfl g3 dX2_fewest_27 (fun H locs σ4 hσ4 hM => ?_)
      have hf := hf σ4 hσ4
      refine lv_iinc (v := x2 + 1) (lv' := [(2, .int (x2 + 1)), (0, .ref r.2.1), (1, .int x1)]) hx hb dX2_fewest_28 hl (k := 2) rfl rfl (by decide) rfl (fun ls hl => ?_)
      refine lv_goto (tgt := 5) hx hb dX2_fewest_31 (by decide) ?_
      exact ih _ _ _ hf _ _ _ hM (lv_sub hl [1, 2, 0] rfl)
theorem c_X2_fewest (l : Launch) (r : GR) (A : Nat → Prop) (σ : GS) (P : GS → Int32 → Prop) (hf : f_X2_fewest σ P) : gMet dM l yX2_fewest cX2_fewest 4 (some .int) 70 2686 0 0 r A σ [.ref r.2.1] (zI P) := by
  refine g_enter (lv := [(0, .ref r.2.1)]) (by decide) (Nat.le_of_ble_eq_true rfl) rfl ?_
  intro p e s m below meth c ls K hr hM hl _
  obtain ⟨hx, hb, hml, hown, hts, hlk, hKK, hA⟩ := id K
  unfold f_X2_fewest at hf
  refine lv_bipush (v := -2) hx hb dX2_fewest_0 rfl ?_
  refine lv_istore_n (lv' := [(1, .int (-2 : Int32)), (0, .ref r.2.1)]) hx hb dX2_fewest_2 rfl hl (by decide) rfl (fun ls hl => ?_)
  refine lv_iconst (v := 0) hx hb dX2_fewest_3 rfl ?_
  refine lv_istore_n (lv' := [(2, .int (0 : Int32)), (1, .int (-2 : Int32)), (0, .ref r.2.1)]) hx hb dX2_fewest_4 rfl hl (by decide) rfl (fun ls hl => ?_)
  obtain ⟨n_, hf⟩ := hf
  exact w_X2_fewest_5 K hr n_ _ _ _ hf _ _ _ hM (lv_sub hl [2, 1, 0] rfl)
theorem w_X2_least_48 {p : Program} {l : Launch} {e : Env} {s : State} {m : MethodId} {args : Array Value} {below : List Frame} {meth : Method} {c : Code} {r : GR} {A : Nat → Prop} {P : GS → Int32 → Prop} {k18 : GS → Int32 → Int32 → Int32 → Prop} (K : gC p s m args meth c cX2_least 4 RX2 r A) (hr : meth.sig.returnType = (some .int)) (H18 : ∀ (σ : GS) (x1 : Int32) (x2 : Int32) (x3 : Int32), k18 σ x1 x2 x3 → gW dM p l e (gRm 70 2686 0 0) s m args below meth c r A (zI P) 0 0 4 18 [(0, .ref r.2.1), (1, .int x1), (2, .int x2), (3, .int x3)] [] 0 0 σ) : ∀ (σ : GS) (x1 : Int32) (x3 : Int32) (t1 : Int32) (t0 : Int32), f_X2_least_48 k18 P σ x1 x3 t1 t0 → gW dM p l e (gRm 70 2686 0 0) s m args below meth c r A (zI P) 0 0 4 48 [(0, .ref r.2.1), (1, .int x1), (3, .int x3)] [.int t1, .int t0] 0 0 σ := by
  obtain ⟨hx, hb, hml, hown, hts, hlk, hKK, hA⟩ := id K
  intro σ x1 x3 t1 t0 hf H locs ls hM hl
  unfold f_X2_least_48 at hf
  refine lv_ior hx hb dX2_least_48 ?_
  refine lv_istore_n (lv' := [(2, .int (t0 ||| t1)), (0, .ref r.2.1), (1, .int x1), (3, .int x3)]) hx hb dX2_least_49 rfl hl (by decide) rfl (fun ls hl => ?_)
  refine lv_iinc (v := x3 + 1) (lv' := [(3, .int (x3 + 1)), (2, .int (t0 ||| t1)), (0, .ref r.2.1), (1, .int x1)]) hx hb dX2_least_50 hl (k := 3) rfl rfl (by decide) rfl (fun ls hl => ?_)
  refine lv_goto (tgt := 18) hx hb dX2_least_53 (by decide) ?_
  exact H18 _ _ _ _ hf _ _ _ hM (lv_sub hl [2, 3, 1, 0] rfl)
theorem w_X2_least_18 {p : Program} {l : Launch} {e : Env} {s : State} {m : MethodId} {args : Array Value} {below : List Frame} {meth : Method} {c : Code} {r : GR} {A : Nat → Prop} {P : GS → Int32 → Prop} (K : gC p s m args meth c cX2_least 4 RX2 r A) (hr : meth.sig.returnType = (some .int)) : ∀ (n : Nat) (σ : GS) (x1 : Int32) (x2 : Int32) (x3 : Int32), f_X2_least_18 P n σ x1 x2 x3 → gW dM p l e (gRm 70 2686 0 0) s m args below meth c r A (zI P) 0 0 4 18 [(0, .ref r.2.1), (1, .int x1), (2, .int x2), (3, .int x3)] [] 0 0 σ := by
  obtain ⟨hx, hb, hml, hown, hts, hlk, hKK, hA⟩ := id K
  intro n
  induction n with
  | zero =>
    intro σ x1 x2 x3 hf
    exact absurd hf (fun h => h)
  | succ n ih =>
    intro σ x1 x2 x3 hf H locs ls hM hl
    rw [f_X2_least_18] at hf
    refine lv_iload_n hx hb dX2_least_18 rfl (lv_at hl 3 rfl) ?_
    refine lv_aload_n hx hb dX2_least_19 rfl (lv_at hl 0 rfl) ?_
    refine g_geti K kM hM 8 rfl q1461 rfl dX2_least_20 rfl ?_
    refine lv_icmp_ge (tgt := 56) hx hb dX2_least_23 (by decide) (fun b1 => ?_) (fun b1 => ?_)
    · replace hf := hf.1 b1
      refine lv_iload_n hx hb dX2_least_56 rfl (lv_at hl 2 rfl) ?_
      exact g_reti K hr hM ⟨Nat.le_refl _, Nat.le_refl _⟩ hf dX2_least_57
    · replace hf := hf.2 b1
      refine lv_iload_n hx hb dX2_least_26 rfl (lv_at hl 2 rfl) ?_
      refine lv_aload_n hx hb dX2_least_27 rfl (lv_at hl 0 rfl) ?_
      refine g_geta K kM hM 34 rfl q1487 rfl dX2_least_28 rfl ?_
      refine lv_bipush (v := 6) hx hb dX2_least_31 rfl ?_
      refine lv_iload_n hx hb dX2_least_33 rfl (lv_at hl 3 rfl) ?_
      refine lv_imul hx hb dX2_least_34 ?_
      refine lv_iload_n hx hb dX2_least_35 rfl (lv_at hl 1 rfl) ?_
      refine lv_iadd hx hb dX2_least_36 ?_
      obtain ⟨g2, hf⟩ := hf
      refine g_iald K hM 34 rfl rfl rfl g2 dX2_least_37 ?_
      refine lv_if_le (tgt := 47) hx hb dX2_least_38 (by decide) (fun b3 => ?_) (fun b3 => ?_)
      · replace hf := hf.1 b3
        refine lv_iconst (v := 0) hx hb dX2_least_47 rfl ?_
        exact w_X2_least_48 K hr ih _ _ _ _ _ hf _ _ _ hM (lv_sub hl [0, 1, 3] rfl)
      · replace hf := hf.2 b3
        refine lv_iconst (v := 1) hx hb dX2_least_41 rfl ?_
        refine lv_iload_n hx hb dX2_least_42 rfl (lv_at hl 3 rfl) ?_
        refine lv_ishl hx hb dX2_least_43 ?_
        refine lv_goto (tgt := 48) hx hb dX2_least_44 (by decide) ?_
        exact w_X2_least_48 K hr ih _ _ _ _ _ hf _ _ _ hM (lv_sub hl [0, 1, 3] rfl)
theorem c_X2_least (l : Launch) (r : GR) (A : Nat → Prop) (σ : GS) (x1 : Int32) (P : GS → Int32 → Prop) (hf : f_X2_least σ x1 P) : gMet dM l yX2_least cX2_least 4 (some .int) 70 2686 0 0 r A σ [.ref r.2.1, .int x1] (zI P) := by
  refine g_enter (lv := [(0, .ref r.2.1), (1, .int x1)]) (by decide) (Nat.le_of_ble_eq_true rfl) rfl ?_
  intro p e s m below meth c ls K hr hM hl _
  obtain ⟨hx, hb, hml, hown, hts, hlk, hKK, hA⟩ := id K
  unfold f_X2_least at hf
  refine lv_aload_n hx hb dX2_least_0 rfl (lv_at hl 0 rfl) ?_
  refine lv_iload_n hx hb dX2_least_1 rfl (lv_at hl 1 rfl) ?_
  refine g_cVi [.int x1] [] K kM hM hl (c_X2_isThing l r A _ _ _ hf) q1657 q1659 qs41 q84 q1660 hdX2_isThing ⟨Nat.le_of_ble_eq_true rfl, Nat.le_of_ble_eq_true rfl⟩ ⟨Nat.le_refl _, Nat.le_refl _⟩ rfl (Nat.le_of_ble_eq_true rfl) dX2_least_2 (fun σ1 v2 H locs hf hM => ?_)
  refine lv_if_ne (tgt := 10) hx hb dX2_least_5 (by decide) (fun b3 => ?_) (fun b3 => ?_)
  · replace hf := hf.2 b3
    refine lv_aload_n hx hb dX2_least_10 rfl (lv_at hl 0 rfl) ?_
    refine g_cVv [] [] K kM hM hl (c_X2_findWanted l r A _ _ hf) q1784 q1786 qs63 q84 q1787 hdX2_findWanted ⟨Nat.le_of_ble_eq_true rfl, Nat.le_of_ble_eq_true rfl⟩ ⟨Nat.le_refl _, Nat.le_refl _⟩ rfl (Nat.le_of_ble_eq_true rfl) dX2_least_11 (fun σ4 H locs hf hM => ?_)
    refine lv_iconst (v := 0) hx hb dX2_least_14 rfl ?_
    refine lv_istore_n (lv' := [(2, .int (0 : Int32)), (0, .ref r.2.1), (1, .int x1)]) hx hb dX2_least_15 rfl hl (by decide) rfl (fun ls hl => ?_)
    refine lv_iconst (v := 0) hx hb dX2_least_16 rfl ?_
    refine lv_istore_n (lv' := [(3, .int (0 : Int32)), (2, .int (0 : Int32)), (0, .ref r.2.1), (1, .int x1)]) hx hb dX2_least_17 rfl hl (by decide) rfl (fun ls hl => ?_)
    obtain ⟨n_, hf⟩ := hf
    exact w_X2_least_18 K hr n_ _ _ _ _ hf _ _ _ hM (lv_sub hl [2, 3, 1, 0] rfl)
  · replace hf := hf.1 b3
    refine lv_iconst (v := -1) hx hb dX2_least_8 rfl ?_
    exact g_reti K hr hM ⟨Nat.le_refl _, Nat.le_refl _⟩ hf dX2_least_9
theorem w_X2_months_125 {p : Program} {l : Launch} {e : Env} {s : State} {m : MethodId} {args : Array Value} {below : List Frame} {meth : Method} {c : Code} {r : GR} {A : Nat → Prop} {P : GS → Int32 → Prop} {k53 : GS → Int32 → Int32 → Int32 → Int32 → Int32 → Int32 → Int32 → Int32 → Prop} (K : gC p s m args meth c cX2_months 12 RX2 r A) (hr : meth.sig.returnType = (some .int)) (H53 : ∀ (σ : GS) (x1 : Int32) (x2 : Int32) (x3 : Int32) (x4 : Int32) (x5 : Int32) (x6 : Int32) (x7 : Int32) (x8 : Int32), k53 σ x1 x2 x3 x4 x5 x6 x7 x8 → gW dM p l e (gRm 68 2642 0 0) s m args below meth c r A (zI P) 0 0 12 53 [(0, .ref r.2.1), (1, .int x1), (2, .int x2), (3, .int x3), (4, .int x4), (5, .int x5), (6, .int x6), (7, .int x7), (8, .int x8)] [] 0 0 σ) : ∀ (σ : GS) (x1 : Int32) (x2 : Int32) (x3 : Int32) (x4 : Int32) (x5 : Int32) (x6 : Int32) (x8 : Int32) (x11 : Int32) (t0 : Int32), f_X2_months_125 k53 P σ x1 x2 x3 x4 x5 x6 x8 x11 t0 → gW dM p l e (gRm 68 2642 0 0) s m args below meth c r A (zI P) 0 0 12 125 [(0, .ref r.2.1), (1, .int x1), (2, .int x2), (3, .int x3), (4, .int x4), (5, .int x5), (6, .int x6), (8, .int x8), (11, .int x11)] [.int t0] 0 0 σ := by
  obtain ⟨hx, hb, hml, hown, hts, hlk, hKK, hA⟩ := id K
  intro σ x1 x2 x3 x4 x5 x6 x8 x11 t0 hf H locs ls hM hl
  unfold f_X2_months_125 at hf
  refine lv_istore (lv' := [(7, .int t0), (0, .ref r.2.1), (1, .int x1), (2, .int x2), (3, .int x3), (4, .int x4), (5, .int x5), (6, .int x6), (8, .int x8), (11, .int x11)]) hx hb dX2_months_125 hl (by decide) rfl (fun ls hl => ?_)
  refine lv_iload hx hb dX2_months_127 (lv_at hl 7 rfl) ?_
  refine lv_iload hx hb dX2_months_129 (lv_at hl 9 rfl) ?_
  refine lv_iload hx hb dX2_months_131 (lv_at hl 0 rfl) ?_
  refine lv_isub hx hb dX2_months_133 ?_
  refine lv_iadd hx hb dX2_months_134 ?_
  refine lv_istore (lv' := [(6, .int (x6 + (x11 - t0))), (7, .int t0), (0, .ref r.2.1), (1, .int x1), (2, .int x2), (3, .int x3), (4, .int x4), (5, .int x5), (8, .int x8), (11, .int x11)]) hx hb dX2_months_135 hl (by decide) rfl (fun ls hl => ?_)
  refine lv_iinc (v := x8 + 1) (lv' := [(8, .int (x8 + 1)), (6, .int (x6 + (x11 - t0))), (7, .int t0), (0, .ref r.2.1), (1, .int x1), (2, .int x2), (3, .int x3), (4, .int x4), (5, .int x5), (11, .int x11)]) hx hb dX2_months_137 hl (k := 8) rfl rfl (by decide) rfl (fun ls hl => ?_)
  refine lv_goto (tgt := 53) hx hb dX2_months_140 (by decide) ?_
  exact H53 _ _ _ _ _ _ _ _ _ hf _ _ _ hM (lv_sub hl [3, 4, 5, 6, 7, 8, 1, 2, 0] rfl)
theorem w_X2_months_53 {p : Program} {l : Launch} {e : Env} {s : State} {m : MethodId} {args : Array Value} {below : List Frame} {meth : Method} {c : Code} {r : GR} {A : Nat → Prop} {P : GS → Int32 → Prop} (K : gC p s m args meth c cX2_months 12 RX2 r A) (hr : meth.sig.returnType = (some .int)) : ∀ (n : Nat) (σ : GS) (x1 : Int32) (x2 : Int32) (x3 : Int32) (x4 : Int32) (x5 : Int32) (x6 : Int32) (x7 : Int32) (x8 : Int32), f_X2_months_53 P n σ x1 x2 x3 x4 x5 x6 x7 x8 → gW dM p l e (gRm 68 2642 0 0) s m args below meth c r A (zI P) 0 0 12 53 [(0, .ref r.2.1), (1, .int x1), (2, .int x2), (3, .int x3), (4, .int x4), (5, .int x5), (6, .int x6), (7, .int x7), (8, .int x8)] [] 0 0 σ := by
  obtain ⟨hx, hb, hml, hown, hts, hlk, hKK, hA⟩ := id K
  intro n
  induction n with
  | zero =>
    intro σ x1 x2 x3 x4 x5 x6 x7 x8 hf
    exact absurd hf (fun h => h)
  | succ n ih =>
    intro σ x1 x2 x3 x4 x5 x6 x7 x8 hf H locs ls hM hl
    rw [f_X2_months_53] at hf
    refine lv_iload hx hb dX2_months_53 (lv_at hl 8 rfl) ?_
    refine lv_iload_n hx hb dX2_months_55 rfl (lv_at hl 2 rfl) ?_
    refine lv_icmp_ge (tgt := 143) hx hb dX2_months_56 (by decide) (fun b1 => ?_) (fun b1 => ?_)
    · replace hf := hf.1 b1
      refine lv_iload hx hb dX2_months_143 (lv_at hl 4 rfl) ?_
      refine lv_if_ne (tgt := 153) hx hb dX2_months_145 (by decide) (fun b2 => ?_) (fun b2 => ?_)
      · replace hf := hf.2 b2
        refine lv_iload hx hb dX2_months_153 (lv_at hl 6 rfl) ?_
        exact g_reti K hr hM ⟨Nat.le_refl _, Nat.le_refl _⟩ hf dX2_months_155
      · replace hf := hf.1 b2
        refine lv_iload hx hb dX2_months_148 (lv_at hl 5 rfl) ?_
        refine lv_goto (tgt := 155) hx hb dX2_months_150 (by decide) ?_
        exact g_reti K hr hM ⟨Nat.le_refl _, Nat.le_refl _⟩ hf dX2_months_155
    · replace hf := hf.2 b1
      refine lv_aload_n hx hb dX2_months_59 rfl (lv_at hl 0 rfl) ?_
      refine lv_iload_n hx hb dX2_months_60 rfl (lv_at hl 1 rfl) ?_
      refine g_cVi [.int x1] [] K kM hM hl (c_X2_pointsInAll l r A _ _ _ hf) q1687 q1689 qs45 q84 q1690 hdX2_pointsInAll ⟨Nat.le_of_ble_eq_true rfl, Nat.le_of_ble_eq_true rfl⟩ ⟨Nat.le_refl _, Nat.le_refl _⟩ rfl (Nat.le_of_ble_eq_true rfl) dX2_months_61 (fun σ3 v4 H locs hf hM => ?_)
      refine lv_iload hx hb dX2_months_64 (lv_at hl 7 rfl) ?_
      refine lv_iadd hx hb dX2_months_66 ?_
      refine lv_istore (lv' := [(9, .int (v4 + x7)), (0, .ref r.2.1), (1, .int x1), (2, .int x2), (3, .int x3), (4, .int x4), (5, .int x5), (6, .int x6), (7, .int x7), (8, .int x8)]) hx hb dX2_months_67 hl (by decide) rfl (fun ls hl => ?_)
      refine lv_aload_n hx hb dX2_months_69 rfl (lv_at hl 1 rfl) ?_
      refine lv_iload_n hx hb dX2_months_70 rfl (lv_at hl 2 rfl) ?_
      refine lv_aload_n hx hb dX2_months_71 rfl (lv_at hl 1 rfl) ?_
      refine lv_iload_n hx hb dX2_months_72 rfl (lv_at hl 2 rfl) ?_
      refine g_cVi [.int x1] [.int x1, .ref r.2.1] K kM hM hl (c_X2_purseOf l r A _ _ _ hf) q1683 q1685 qs44 q84 q1686 hdX2_purseOf ⟨Nat.le_of_ble_eq_true rfl, Nat.le_of_ble_eq_true rfl⟩ ⟨Nat.le_refl _, Nat.le_refl _⟩ rfl (Nat.le_of_ble_eq_true rfl) dX2_months_73 (fun σ5 v6 H locs hf hM => ?_)
      refine lv_iload hx hb dX2_months_76 (lv_at hl 0 rfl) ?_
      refine g_cVi [.int x1, .int v6, .int (v4 + x7)] [] K kM hM hl (c_X2_findBest l r A _ _ _ _ _ hf) q1759 q1761 qs58 q84 q1762 hdX2_findBest ⟨Nat.le_of_ble_eq_true rfl, Nat.le_of_ble_eq_true rfl⟩ ⟨Nat.le_refl _, Nat.le_refl _⟩ rfl (Nat.le_of_ble_eq_true rfl) dX2_months_78 (fun σ7 v8 H locs hf hM => ?_)
      refine lv_istore (lv' := [(10, .int v8), (9, .int (v4 + x7)), (0, .ref r.2.1), (1, .int x1), (2, .int x2), (3, .int x3), (4, .int x4), (5, .int x5), (6, .int x6), (7, .int x7), (8, .int x8)]) hx hb dX2_months_81 hl (by decide) rfl (fun ls hl => ?_)
      refine lv_iload hx hb dX2_months_83 (lv_at hl 7 rfl) ?_
      refine lv_aload_n hx hb dX2_months_85 rfl (lv_at hl 2 rfl) ?_
      refine g_geti K kM hM 30 rfl q1483 rfl dX2_months_86 rfl ?_
      refine lv_iadd hx hb dX2_months_89 ?_
      refine lv_istore (lv' := [(5, .int (x5 + (gI σ7 30))), (10, .int v8), (9, .int (v4 + x7)), (0, .ref r.2.1), (1, .int x1), (2, .int x2), (3, .int x3), (4, .int x4), (6, .int x6), (7, .int x7), (8, .int x8)]) hx hb dX2_months_90 hl (by decide) rfl (fun ls hl => ?_)
      refine lv_iload hx hb dX2_months_92 (lv_at hl 2 rfl) ?_
      refine lv_aload_n hx hb dX2_months_94 rfl (lv_at hl 3 rfl) ?_
      refine g_geti K kM hM 32 rfl q1485 rfl dX2_months_95 rfl ?_
      refine lv_isub hx hb dX2_months_98 ?_
      refine lv_istore (lv' := [(11, .int ((v4 + x7) - (gI σ7 32))), (5, .int (x5 + (gI σ7 30))), (10, .int v8), (9, .int (v4 + x7)), (0, .ref r.2.1), (1, .int x1), (2, .int x2), (3, .int x3), (4, .int x4), (6, .int x6), (7, .int x7), (8, .int x8)]) hx hb dX2_months_99 hl (by decide) rfl (fun ls hl => ?_)
      refine lv_iload hx hb dX2_months_101 (lv_at hl 11 rfl) ?_
      refine lv_iconst (v := 1) hx hb dX2_months_103 rfl ?_
      refine lv_iadd hx hb dX2_months_104 ?_
      refine lv_iload_n hx hb dX2_months_105 rfl (lv_at hl 6 rfl) ?_
      refine lv_icmp_ne (tgt := 113) hx hb dX2_months_106 (by decide) (fun b9 => ?_) (fun b9 => ?_)
      · replace hf := hf.2 b9
        refine lv_iload hx hb dX2_months_113 (lv_at hl 0 rfl) ?_
        refine lv_iload_n hx hb dX2_months_115 rfl (lv_at hl 7 rfl) ?_
        refine lv_icmp_ge (tgt := 124) hx hb dX2_months_116 (by decide) (fun b10 => ?_) (fun b10 => ?_)
        · replace hf := hf.1 b10
          refine lv_iload_n hx hb dX2_months_124 rfl (lv_at hl 7 rfl) ?_
          exact w_X2_months_125 K hr ih _ _ _ _ _ _ _ _ _ _ hf _ _ _ hM (lv_sub hl [4, 5, 6, 7, 8, 1, 9, 11, 0] rfl)
        · replace hf := hf.2 b10
          refine lv_iload hx hb dX2_months_119 (lv_at hl 0 rfl) ?_
          refine lv_goto (tgt := 125) hx hb dX2_months_121 (by decide) ?_
          exact w_X2_months_125 K hr ih _ _ _ _ _ _ _ _ _ _ hf _ _ _ hM (lv_sub hl [4, 5, 6, 7, 8, 1, 9, 11, 0] rfl)
      · replace hf := hf.1 b9
        refine lv_iconst (v := 0) hx hb dX2_months_109 rfl ?_
        refine lv_goto (tgt := 125) hx hb dX2_months_110 (by decide) ?_
        exact w_X2_months_125 K hr ih _ _ _ _ _ _ _ _ _ _ hf _ _ _ hM (lv_sub hl [4, 5, 6, 7, 8, 1, 9, 11, 0] rfl)
theorem c_X2_months (l : Launch) (r : GR) (A : Nat → Prop) (σ : GS) (x1 : Int32) (x2 : Int32) (x3 : Int32) (x4 : Int32) (P : GS → Int32 → Prop) (hf : f_X2_months σ x1 x2 x3 x4 P) : gMet dM l yX2_months cX2_months 12 (some .int) 68 2642 0 0 r A σ [.ref r.2.1, .int x1, .int x2, .int x3, .int x4] (zI P) := by
  refine g_enter (lv := [(0, .ref r.2.1), (1, .int x1), (2, .int x2), (3, .int x3), (4, .int x4)]) (by decide) (Nat.le_of_ble_eq_true rfl) rfl ?_
  intro p e s m below meth c ls K hr hM hl _
  obtain ⟨hx, hb, hml, hown, hts, hlk, hKK, hA⟩ := id K
  unfold f_X2_months at hf
  refine lv_aload_n hx hb dX2_months_0 rfl (lv_at hl 0 rfl) ?_
  refine lv_iload_n hx hb dX2_months_1 rfl (lv_at hl 1 rfl) ?_
  refine g_cVi [.int x1] [] K kM hM hl (c_X2_isSort l r A _ _ _ hf) q1674 q1676 qs43 q84 q1677 hdX2_isSort ⟨Nat.le_of_ble_eq_true rfl, Nat.le_of_ble_eq_true rfl⟩ ⟨Nat.le_refl _, Nat.le_refl _⟩ rfl (Nat.le_of_ble_eq_true rfl) dX2_months_2 (fun σ1 v2 H locs hf hM => ?_)
  refine lv_if_eq (tgt := 39) hx hb dX2_months_5 (by decide) (fun b3 => ?_) (fun b3 => ?_)
  · replace hf := hf.1 b3
    refine lv_iconst (v := -1) hx hb dX2_months_39 rfl ?_
    exact g_reti K hr hM ⟨Nat.le_refl _, Nat.le_refl _⟩ hf dX2_months_40
  · replace hf := hf.2 b3
    refine lv_iload_n hx hb dX2_months_8 rfl (lv_at hl 2 rfl) ?_
    refine lv_i2l hx hb dX2_months_9 rfl ?_
    refine lv_lconst (v := 1) hx hb dX2_months_10 rfl ?_
    refine lv_ldc2 hx hb hown (hts _ q1896) dX2_months_11 ?_
    refine g_cSi [.long x2.toInt64, .long (1 : Int64), .long (12 : Int64)] [] K hM hl (c_X2_within l r A _ _ _ _ _ hf) q1632 q1633 q84 q1634 hdX2_within ⟨Nat.le_of_ble_eq_true rfl, Nat.le_of_ble_eq_true rfl⟩ ⟨Nat.le_refl _, Nat.le_refl _⟩ rfl (Nat.le_of_ble_eq_true rfl) dX2_months_14 (fun σ4 v5 H locs hf hM => ?_)
    refine lv_if_eq (tgt := 39) hx hb dX2_months_17 (by decide) (fun b6 => ?_) (fun b6 => ?_)
    · replace hf := hf.1 b6
      refine lv_iconst (v := -1) hx hb dX2_months_39 rfl ?_
      exact g_reti K hr hM ⟨Nat.le_refl _, Nat.le_refl _⟩ hf dX2_months_40
    · replace hf := hf.2 b6
      refine lv_iload_n hx hb dX2_months_20 rfl (lv_at hl 3 rfl) ?_
      refine lv_i2l hx hb dX2_months_21 rfl ?_
      refine g_cSi [.long x3.toInt64] [] K hM hl (c_X2_isTwo l r A _ _ _ hf) q1636 q1637 q84 q1638 hdX2_isTwo ⟨Nat.le_of_ble_eq_true rfl, Nat.le_of_ble_eq_true rfl⟩ ⟨Nat.le_refl _, Nat.le_refl _⟩ rfl (Nat.le_of_ble_eq_true rfl) dX2_months_22 (fun σ7 v8 H locs hf hM => ?_)
      refine lv_if_eq (tgt := 39) hx hb dX2_months_25 (by decide) (fun b9 => ?_) (fun b9 => ?_)
      · replace hf := hf.1 b9
        refine lv_iconst (v := -1) hx hb dX2_months_39 rfl ?_
        exact g_reti K hr hM ⟨Nat.le_refl _, Nat.le_refl _⟩ hf dX2_months_40
      · replace hf := hf.2 b9
        refine lv_iload hx hb dX2_months_28 (lv_at hl 4 rfl) ?_
        refine lv_i2l hx hb dX2_months_30 rfl ?_
        refine lv_lconst (v := 0) hx hb dX2_months_31 rfl ?_
        refine lv_lconst (v := 1) hx hb dX2_months_32 rfl ?_
        refine g_cSi [.long x4.toInt64, .long (0 : Int64), .long (1 : Int64)] [] K hM hl (c_X2_within l r A _ _ _ _ _ hf) q1632 q1633 q84 q1634 hdX2_within ⟨Nat.le_of_ble_eq_true rfl, Nat.le_of_ble_eq_true rfl⟩ ⟨Nat.le_refl _, Nat.le_refl _⟩ rfl (Nat.le_of_ble_eq_true rfl) dX2_months_33 (fun σ10 v11 H locs hf hM => ?_)
        refine lv_if_ne (tgt := 41) hx hb dX2_months_36 (by decide) (fun b12 => ?_) (fun b12 => ?_)
        · replace hf := hf.2 b12
          refine lv_iconst (v := 0) hx hb dX2_months_41 rfl ?_
          refine lv_istore (lv' := [(5, .int (0 : Int32)), (0, .ref r.2.1), (1, .int x1), (2, .int x2), (3, .int x3), (4, .int x4)]) hx hb dX2_months_42 hl (by decide) rfl (fun ls hl => ?_)
          refine lv_iconst (v := 0) hx hb dX2_months_44 rfl ?_
          refine lv_istore (lv' := [(6, .int (0 : Int32)), (5, .int (0 : Int32)), (0, .ref r.2.1), (1, .int x1), (2, .int x2), (3, .int x3), (4, .int x4)]) hx hb dX2_months_45 hl (by decide) rfl (fun ls hl => ?_)
          refine lv_iconst (v := 0) hx hb dX2_months_47 rfl ?_
          refine lv_istore (lv' := [(7, .int (0 : Int32)), (6, .int (0 : Int32)), (5, .int (0 : Int32)), (0, .ref r.2.1), (1, .int x1), (2, .int x2), (3, .int x3), (4, .int x4)]) hx hb dX2_months_48 hl (by decide) rfl (fun ls hl => ?_)
          refine lv_iconst (v := 0) hx hb dX2_months_50 rfl ?_
          refine lv_istore (lv' := [(8, .int (0 : Int32)), (7, .int (0 : Int32)), (6, .int (0 : Int32)), (5, .int (0 : Int32)), (0, .ref r.2.1), (1, .int x1), (2, .int x2), (3, .int x3), (4, .int x4)]) hx hb dX2_months_51 hl (by decide) rfl (fun ls hl => ?_)
          obtain ⟨n_, hf⟩ := hf
          exact w_X2_months_53 K hr n_ _ _ _ _ _ _ _ _ _ hf _ _ _ hM (lv_sub hl [4, 5, 6, 7, 8, 3, 2, 1, 0] rfl)
        · replace hf := hf.1 b12
          refine lv_iconst (v := -1) hx hb dX2_months_39 rfl ?_
          exact g_reti K hr hM ⟨Nat.le_refl _, Nat.le_refl _⟩ hf dX2_months_40
theorem w_X2_foresight_277 {p : Program} {l : Launch} {e : Env} {s : State} {m : MethodId} {args : Array Value} {below : List Frame} {meth : Method} {c : Code} {r : GR} {A : Nat → Prop} {P : GS → Int32 → Prop} (K : gC p s m args meth c cX2_foresight 9 RX2 r A) (hr : meth.sig.returnType = (some .int)) : ∀ (σ : GS) (x3 : Int32) (x4 : Int32), f_X2_foresight_277 P σ x3 x4 → gW dM p l e (gRm 69 2663 0 0) s m args below meth c r A (zI P) 0 0 9 277 [(3, .int x3), (4, .int x4)] [] 0 0 σ := by
  obtain ⟨hx, hb, hml, hown, hts, hlk, hKK, hA⟩ := id K
  intro σ x3 x4 hf H locs ls hM hl
  unfold f_X2_foresight_277 at hf
  refine lv_iload hx hb dX2_foresight_277 (lv_at hl 1 rfl) ?_
  refine lv_iload_n hx hb dX2_foresight_279 rfl (lv_at hl 0 rfl) ?_
  refine lv_isub hx hb dX2_foresight_280 ?_
  exact g_reti K hr hM ⟨Nat.le_refl _, Nat.le_refl _⟩ hf dX2_foresight_281
theorem w_X2_foresight_269 {p : Program} {l : Launch} {e : Env} {s : State} {m : MethodId} {args : Array Value} {below : List Frame} {meth : Method} {c : Code} {r : GR} {A : Nat → Prop} {P : GS → Int32 → Prop} {k192 : GS → Int32 → Int32 → Int32 → Int32 → Prop} (K : gC p s m args meth c cX2_foresight 9 RX2 r A) (hr : meth.sig.returnType = (some .int)) (H192 : ∀ (σ : GS) (x3 : Int32) (x4 : Int32) (x5 : Int32) (x6 : Int32), k192 σ x3 x4 x5 x6 → gW dM p l e (gRm 69 2663 0 0) s m args below meth c r A (zI P) 0 0 9 192 [(0, .ref r.2.1), (3, .int x3), (4, .int x4), (5, .int x5), (6, .int x6)] [] 0 0 σ) : ∀ (σ : GS) (x3 : Int32) (x5 : Int32) (x6 : Int32) (t0 : Int32), f_X2_foresight_269 k192 P σ x3 x5 x6 t0 → gW dM p l e (gRm 69 2663 0 0) s m args below meth c r A (zI P) 0 0 9 269 [(0, .ref r.2.1), (3, .int x3), (5, .int x5), (6, .int x6)] [.int t0] 0 0 σ := by
  obtain ⟨hx, hb, hml, hown, hts, hlk, hKK, hA⟩ := id K
  intro σ x3 x5 x6 t0 hf H locs ls hM hl
  unfold f_X2_foresight_269 at hf
  refine lv_istore (lv' := [(4, .int t0), (0, .ref r.2.1), (3, .int x3), (5, .int x5), (6, .int x6)]) hx hb dX2_foresight_269 hl (by decide) rfl (fun ls hl => ?_)
  refine lv_iinc (v := x6 + 1) (lv' := [(6, .int (x6 + 1)), (4, .int t0), (0, .ref r.2.1), (3, .int x3), (5, .int x5)]) hx hb dX2_foresight_271 hl (k := 4) rfl rfl (by decide) rfl (fun ls hl => ?_)
  refine lv_goto (tgt := 192) hx hb dX2_foresight_274 (by decide) ?_
  exact H192 _ _ _ _ _ hf _ _ _ hM (lv_sub hl [2, 3, 1, 4, 0] rfl)
theorem w_X2_foresight_251 {p : Program} {l : Launch} {e : Env} {s : State} {m : MethodId} {args : Array Value} {below : List Frame} {meth : Method} {c : Code} {r : GR} {A : Nat → Prop} {P : GS → Int32 → Prop} {k192 : GS → Int32 → Int32 → Int32 → Int32 → Prop} (K : gC p s m args meth c cX2_foresight 9 RX2 r A) (hr : meth.sig.returnType = (some .int)) (H192 : ∀ (σ : GS) (x3 : Int32) (x4 : Int32) (x5 : Int32) (x6 : Int32), k192 σ x3 x4 x5 x6 → gW dM p l e (gRm 69 2663 0 0) s m args below meth c r A (zI P) 0 0 9 192 [(0, .ref r.2.1), (3, .int x3), (4, .int x4), (5, .int x5), (6, .int x6)] [] 0 0 σ) : ∀ (σ : GS) (x3 : Int32) (x4 : Int32) (x5 : Int32) (x6 : Int32) (t2 : Int32) (t0 : Int32), f_X2_foresight_251 k192 P σ x3 x4 x5 x6 t2 t0 → gW dM p l e (gRm 69 2663 0 0) s m args below meth c r A (zI P) 0 0 9 251 [(0, .ref r.2.1), (3, .int x3), (4, .int x4), (5, .int x5), (6, .int x6)] [.int t2, .ref (r.2.2.1 44), .int t0] 0 0 σ := by
  obtain ⟨hx, hb, hml, hown, hts, hlk, hKK, hA⟩ := id K
  intro σ x3 x4 x5 x6 t2 t0 hf H locs ls hM hl
  unfold f_X2_foresight_251 at hf
  obtain ⟨g1, hf⟩ := hf
  refine g_iald K hM 44 rfl rfl rfl g1 dX2_foresight_251 ?_
  refine lv_iadd hx hb dX2_foresight_252 ?_
  refine lv_istore (lv' := [(8, .int (t0 + (gA σ 44 t2.toNatClampNeg))), (0, .ref r.2.1), (3, .int x3), (4, .int x4), (5, .int x5), (6, .int x6)]) hx hb dX2_foresight_253 hl (by decide) rfl (fun ls hl => ?_)
  refine lv_iload hx hb dX2_foresight_255 (lv_at hl 0 rfl) ?_
  refine lv_iload hx hb dX2_foresight_257 (lv_at hl 3 rfl) ?_
  refine lv_icmp_le (tgt := 267) hx hb dX2_foresight_259 (by decide) (fun b2 => ?_) (fun b2 => ?_)
  · replace hf := hf.1 b2
    refine lv_iload hx hb dX2_foresight_267 (lv_at hl 3 rfl) ?_
    exact w_X2_foresight_269 K hr H192 _ _ _ _ _ hf _ _ _ hM (lv_sub hl [1, 2, 4, 5] rfl)
  · replace hf := hf.2 b2
    refine lv_iload hx hb dX2_foresight_262 (lv_at hl 0 rfl) ?_
    refine lv_goto (tgt := 269) hx hb dX2_foresight_264 (by decide) ?_
    exact w_X2_foresight_269 K hr H192 _ _ _ _ _ hf _ _ _ hM (lv_sub hl [1, 2, 4, 5] rfl)
theorem w_X2_foresight_192 {p : Program} {l : Launch} {e : Env} {s : State} {m : MethodId} {args : Array Value} {below : List Frame} {meth : Method} {c : Code} {r : GR} {A : Nat → Prop} {P : GS → Int32 → Prop} (K : gC p s m args meth c cX2_foresight 9 RX2 r A) (hr : meth.sig.returnType = (some .int)) : ∀ (n : Nat) (σ : GS) (x3 : Int32) (x4 : Int32) (x5 : Int32) (x6 : Int32), f_X2_foresight_192 P n σ x3 x4 x5 x6 → gW dM p l e (gRm 69 2663 0 0) s m args below meth c r A (zI P) 0 0 9 192 [(0, .ref r.2.1), (3, .int x3), (4, .int x4), (5, .int x5), (6, .int x6)] [] 0 0 σ := by
  obtain ⟨hx, hb, hml, hown, hts, hlk, hKK, hA⟩ := id K
  intro n
  induction n with
  | zero =>
    intro σ x3 x4 x5 x6 hf
    exact absurd hf (fun h => h)
  | succ n ih =>
    intro σ x3 x4 x5 x6 hf H locs ls hM hl
    rw [f_X2_foresight_192] at hf
    refine lv_iload hx hb dX2_foresight_192 (lv_at hl 4 rfl) ?_
    refine lv_iload hx hb dX2_foresight_194 (lv_at hl 3 rfl) ?_
    refine lv_icmp_gt (tgt := 277) hx hb dX2_foresight_196 (by decide) (fun b1 => ?_) (fun b1 => ?_)
    · replace hf := hf.1 b1
      exact w_X2_foresight_277 K hr _ _ _ hf _ _ _ hM (lv_sub hl [1, 2] rfl)
    · replace hf := hf.2 b1
      refine lv_iload hx hb dX2_foresight_199 (lv_at hl 4 rfl) ?_
      refine lv_aload_n hx hb dX2_foresight_201 rfl (lv_at hl 0 rfl) ?_
      refine g_geta K kM hM 44 rfl q1497 rfl dX2_foresight_202 rfl ?_
      refine g_alen K hM 44 rfl rfl rfl (v := 1783) rfl dX2_foresight_205 ?_
      refine lv_icmp_ge (tgt := 277) hx hb dX2_foresight_206 (by decide) (fun b2 => ?_) (fun b2 => ?_)
      · replace hf := hf.1 b2
        exact w_X2_foresight_277 K hr _ _ _ hf _ _ _ hM (lv_sub hl [1, 2] rfl)
      · replace hf := hf.2 b2
        refine lv_iconst (v := 2) hx hb dX2_foresight_209 rfl ?_
        refine lv_iload hx hb dX2_foresight_210 (lv_at hl 3 rfl) ?_
        refine lv_imul hx hb dX2_foresight_212 ?_
        refine lv_iload hx hb dX2_foresight_213 (lv_at hl 4 rfl) ?_
        refine lv_isub hx hb dX2_foresight_215 ?_
        refine lv_istore (lv' := [(7, .int (((2 : Int32) * x5) - x6)), (0, .ref r.2.1), (3, .int x3), (4, .int x4), (5, .int x5), (6, .int x6)]) hx hb dX2_foresight_216 hl (by decide) rfl (fun ls hl => ?_)
        refine lv_aload_n hx hb dX2_foresight_218 rfl (lv_at hl 1 rfl) ?_
        refine g_geta K kM hM 44 rfl q1497 rfl dX2_foresight_219 rfl ?_
        refine lv_iload hx hb dX2_foresight_222 (lv_at hl 5 rfl) ?_
        obtain ⟨g3, hf⟩ := hf
        refine g_iald K hM 44 rfl rfl rfl g3 dX2_foresight_224 ?_
        refine lv_aload_n hx hb dX2_foresight_225 rfl (lv_at hl 1 rfl) ?_
        refine g_geta K kM hM 44 rfl q1497 rfl dX2_foresight_226 rfl ?_
        refine lv_iload hx hb dX2_foresight_229 (lv_at hl 0 rfl) ?_
        refine lv_aload_n hx hb dX2_foresight_231 rfl (lv_at hl 1 rfl) ?_
        refine g_geta K kM hM 44 rfl q1497 rfl dX2_foresight_232 rfl ?_
        refine g_alen K hM 44 rfl rfl rfl (v := 1783) rfl dX2_foresight_235 ?_
        refine lv_icmp_ge (tgt := 244) hx hb dX2_foresight_236 (by decide) (fun b4 => ?_) (fun b4 => ?_)
        · replace hf := hf.1 b4
          refine lv_aload_n hx hb dX2_foresight_244 rfl (lv_at hl 1 rfl) ?_
          refine g_geta K kM hM 44 rfl q1497 rfl dX2_foresight_245 rfl ?_
          refine g_alen K hM 44 rfl rfl rfl (v := 1783) rfl dX2_foresight_248 ?_
          refine lv_iconst (v := 1) hx hb dX2_foresight_249 rfl ?_
          refine lv_isub hx hb dX2_foresight_250 ?_
          exact w_X2_foresight_251 K hr ih _ _ _ _ _ _ _ hf _ _ _ hM (lv_sub hl [1, 2, 3, 4, 5] rfl)
        · replace hf := hf.2 b4
          refine lv_iload hx hb dX2_foresight_239 (lv_at hl 0 rfl) ?_
          refine lv_goto (tgt := 251) hx hb dX2_foresight_241 (by decide) ?_
          exact w_X2_foresight_251 K hr ih _ _ _ _ _ _ _ hf _ _ _ hM (lv_sub hl [1, 2, 3, 4, 5] rfl)
theorem w_X2_foresight_172 {p : Program} {l : Launch} {e : Env} {s : State} {m : MethodId} {args : Array Value} {below : List Frame} {meth : Method} {c : Code} {r : GR} {A : Nat → Prop} {P : GS → Int32 → Prop} {k118 : GS → Int32 → Int32 → Int32 → Prop} (K : gC p s m args meth c cX2_foresight 9 RX2 r A) (hr : meth.sig.returnType = (some .int)) (H118 : ∀ (σ : GS) (x1 : Int32) (x3 : Int32) (x4 : Int32), k118 σ x1 x3 x4 → gW dM p l e (gRm 69 2663 0 0) s m args below meth c r A (zI P) 0 0 9 118 [(0, .ref r.2.1), (1, .int x1), (3, .int x3), (4, .int x4)] [] 0 0 σ) : ∀ (σ : GS) (x1 : Int32) (x3 : Int32) (x4 : Int32) (t2 : Int32) (t1 : Int32), f_X2_foresight_172 k118 P σ x1 x3 x4 t2 t1 → gW dM p l e (gRm 69 2663 0 0) s m args below meth c r A (zI P) 0 0 9 172 [(0, .ref r.2.1), (1, .int x1), (3, .int x3), (4, .int x4)] [.int t2, .int t1, .ref (r.2.2.1 44)] 0 0 σ := by
  obtain ⟨hx, hb, hml, hown, hts, hlk, hKK, hA⟩ := id K
  intro σ x1 x3 x4 t2 t1 hf H locs ls hM hl
  unfold f_X2_foresight_172 at hf
  obtain ⟨g1, hf⟩ := hf
  refine g_iastN K hM 44 rfl rfl rfl g1 dX2_foresight_172 (fun H locs σ2 hσ2 hM => ?_)
  have hf := hf σ2 hσ2
  refine lv_iinc (v := x4 + 1) (lv' := [(4, .int (x4 + 1)), (0, .ref r.2.1), (1, .int x1), (3, .int x3)]) hx hb dX2_foresight_173 hl (k := 3) rfl rfl (by decide) rfl (fun ls hl => ?_)
  refine lv_goto (tgt := 118) hx hb dX2_foresight_176 (by decide) ?_
  exact H118 _ _ _ _ hf _ _ _ hM (lv_sub hl [1, 2, 3, 0] rfl)
theorem w_X2_foresight_118 {p : Program} {l : Launch} {e : Env} {s : State} {m : MethodId} {args : Array Value} {below : List Frame} {meth : Method} {c : Code} {r : GR} {A : Nat → Prop} {P : GS → Int32 → Prop} (K : gC p s m args meth c cX2_foresight 9 RX2 r A) (hr : meth.sig.returnType = (some .int)) : ∀ (n : Nat) (σ : GS) (x1 : Int32) (x3 : Int32) (x4 : Int32), f_X2_foresight_118 P n σ x1 x3 x4 → gW dM p l e (gRm 69 2663 0 0) s m args below meth c r A (zI P) 0 0 9 118 [(0, .ref r.2.1), (1, .int x1), (3, .int x3), (4, .int x4)] [] 0 0 σ := by
  obtain ⟨hx, hb, hml, hown, hts, hlk, hKK, hA⟩ := id K
  intro n
  induction n with
  | zero =>
    intro σ x1 x3 x4 hf
    exact absurd hf (fun h => h)
  | succ n ih =>
    intro σ x1 x3 x4 hf H locs ls hM hl
    rw [f_X2_foresight_118] at hf
    refine lv_iload hx hb dX2_foresight_118 (lv_at hl 3 rfl) ?_
    refine lv_aload_n hx hb dX2_foresight_120 rfl (lv_at hl 0 rfl) ?_
    refine g_geta K kM hM 44 rfl q1497 rfl dX2_foresight_121 rfl ?_
    refine g_alen K hM 44 rfl rfl rfl (v := 1783) rfl dX2_foresight_124 ?_
    refine lv_icmp_ge (tgt := 179) hx hb dX2_foresight_125 (by decide) (fun b1 => ?_) (fun b1 => ?_)
    · replace hf := hf.1 b1
      refine lv_iconst (v := 0) hx hb dX2_foresight_179 rfl ?_
      refine lv_istore (lv' := [(4, .int (0 : Int32)), (0, .ref r.2.1), (1, .int x1), (3, .int x3)]) hx hb dX2_foresight_180 hl (by decide) rfl (fun ls hl => ?_)
      refine lv_aload_n hx hb dX2_foresight_182 rfl (lv_at hl 1 rfl) ?_
      refine lv_iload_n hx hb dX2_foresight_183 rfl (lv_at hl 2 rfl) ?_
      refine g_cVi [.int x1] [] K kM hM hl (c_X2_pointsInAll l r A _ _ _ hf) q1687 q1689 qs45 q84 q1690 hdX2_pointsInAll ⟨Nat.le_of_ble_eq_true rfl, Nat.le_of_ble_eq_true rfl⟩ ⟨Nat.le_refl _, Nat.le_refl _⟩ rfl (Nat.le_of_ble_eq_true rfl) dX2_foresight_184 (fun σ2 v3 H locs hf hM => ?_)
      refine lv_istore (lv' := [(5, .int v3), (4, .int (0 : Int32)), (0, .ref r.2.1), (1, .int x1), (3, .int x3)]) hx hb dX2_foresight_187 hl (by decide) rfl (fun ls hl => ?_)
      refine lv_iconst (v := 0) hx hb dX2_foresight_189 rfl ?_
      refine lv_istore (lv' := [(6, .int (0 : Int32)), (5, .int v3), (4, .int (0 : Int32)), (0, .ref r.2.1), (1, .int x1), (3, .int x3)]) hx hb dX2_foresight_190 hl (by decide) rfl (fun ls hl => ?_)
      obtain ⟨n_, hf⟩ := hf
      exact w_X2_foresight_192 K hr n_ _ _ _ _ _ hf _ _ _ hM (lv_sub hl [3, 5, 2, 1, 0] rfl)
    · replace hf := hf.2 b1
      refine lv_aload_n hx hb dX2_foresight_128 rfl (lv_at hl 0 rfl) ?_
      refine g_geta K kM hM 44 rfl q1497 rfl dX2_foresight_129 rfl ?_
      refine lv_iload hx hb dX2_foresight_132 (lv_at hl 3 rfl) ?_
      refine lv_aload_n hx hb dX2_foresight_134 rfl (lv_at hl 0 rfl) ?_
      refine g_geta K kM hM 44 rfl q1497 rfl dX2_foresight_135 rfl ?_
      refine lv_iload hx hb dX2_foresight_138 (lv_at hl 3 rfl) ?_
      refine lv_iconst (v := 1) hx hb dX2_foresight_140 rfl ?_
      refine lv_isub hx hb dX2_foresight_141 ?_
      obtain ⟨g4, hf⟩ := hf
      refine g_iald K hM 44 rfl rfl rfl g4 dX2_foresight_142 ?_
      refine lv_aload_n hx hb dX2_foresight_143 rfl (lv_at hl 0 rfl) ?_
      refine g_geta K kM hM 44 rfl q1497 rfl dX2_foresight_144 rfl ?_
      refine lv_iload hx hb dX2_foresight_147 (lv_at hl 3 rfl) ?_
      obtain ⟨g5, hf⟩ := hf
      refine g_iald K hM 44 rfl rfl rfl g5 dX2_foresight_149 ?_
      refine lv_icmp_le (tgt := 165) hx hb dX2_foresight_150 (by decide) (fun b6 => ?_) (fun b6 => ?_)
      · replace hf := hf.1 b6
        refine lv_aload_n hx hb dX2_foresight_165 rfl (lv_at hl 0 rfl) ?_
        refine g_geta K kM hM 44 rfl q1497 rfl dX2_foresight_166 rfl ?_
        refine lv_iload hx hb dX2_foresight_169 (lv_at hl 3 rfl) ?_
        obtain ⟨g7, hf⟩ := hf
        refine g_iald K hM 44 rfl rfl rfl g7 dX2_foresight_171 ?_
        exact w_X2_foresight_172 K hr ih _ _ _ _ _ _ hf _ _ _ hM (lv_sub hl [0, 1, 2, 3] rfl)
      · replace hf := hf.2 b6
        refine lv_aload_n hx hb dX2_foresight_153 rfl (lv_at hl 0 rfl) ?_
        refine g_geta K kM hM 44 rfl q1497 rfl dX2_foresight_154 rfl ?_
        refine lv_iload hx hb dX2_foresight_157 (lv_at hl 3 rfl) ?_
        refine lv_iconst (v := 1) hx hb dX2_foresight_159 rfl ?_
        refine lv_isub hx hb dX2_foresight_160 ?_
        obtain ⟨g8, hf⟩ := hf
        refine g_iald K hM 44 rfl rfl rfl g8 dX2_foresight_161 ?_
        refine lv_goto (tgt := 172) hx hb dX2_foresight_162 (by decide) ?_
        exact w_X2_foresight_172 K hr ih _ _ _ _ _ _ hf _ _ _ hM (lv_sub hl [0, 1, 2, 3] rfl)
theorem w_X2_foresight_109 {p : Program} {l : Launch} {e : Env} {s : State} {m : MethodId} {args : Array Value} {below : List Frame} {meth : Method} {c : Code} {r : GR} {A : Nat → Prop} {P : GS → Int32 → Prop} {k53 : GS → Int32 → Int32 → Int32 → Prop} (K : gC p s m args meth c cX2_foresight 9 RX2 r A) (hr : meth.sig.returnType = (some .int)) (H53 : ∀ (σ : GS) (x1 : Int32) (x3 : Int32) (x4 : Int32), k53 σ x1 x3 x4 → gW dM p l e (gRm 69 2663 0 0) s m args below meth c r A (zI P) 0 0 9 53 [(0, .ref r.2.1), (1, .int x1), (3, .int x3), (4, .int x4)] [] 0 0 σ) : ∀ (σ : GS) (x1 : Int32) (x3 : Int32) (x4 : Int32), f_X2_foresight_109 k53 P σ x1 x3 x4 → gW dM p l e (gRm 69 2663 0 0) s m args below meth c r A (zI P) 0 0 9 109 [(0, .ref r.2.1), (1, .int x1), (3, .int x3), (4, .int x4)] [] 0 0 σ := by
  obtain ⟨hx, hb, hml, hown, hts, hlk, hKK, hA⟩ := id K
  intro σ x1 x3 x4 hf H locs ls hM hl
  unfold f_X2_foresight_109 at hf
  refine lv_iinc (v := x4 + 1) (lv' := [(4, .int (x4 + 1)), (0, .ref r.2.1), (1, .int x1), (3, .int x3)]) hx hb dX2_foresight_109 hl (k := 3) rfl rfl (by decide) rfl (fun ls hl => ?_)
  refine lv_goto (tgt := 53) hx hb dX2_foresight_112 (by decide) ?_
  exact H53 _ _ _ _ hf _ _ _ hM (lv_sub hl [1, 2, 3, 0] rfl)
theorem w_X2_foresight_53 {p : Program} {l : Launch} {e : Env} {s : State} {m : MethodId} {args : Array Value} {below : List Frame} {meth : Method} {c : Code} {r : GR} {A : Nat → Prop} {P : GS → Int32 → Prop} (K : gC p s m args meth c cX2_foresight 9 RX2 r A) (hr : meth.sig.returnType = (some .int)) : ∀ (n : Nat) (σ : GS) (x1 : Int32) (x3 : Int32) (x4 : Int32), f_X2_foresight_53 P n σ x1 x3 x4 → gW dM p l e (gRm 69 2663 0 0) s m args below meth c r A (zI P) 0 0 9 53 [(0, .ref r.2.1), (1, .int x1), (3, .int x3), (4, .int x4)] [] 0 0 σ := by
  obtain ⟨hx, hb, hml, hown, hts, hlk, hKK, hA⟩ := id K
  intro n
  induction n with
  | zero =>
    intro σ x1 x3 x4 hf
    exact absurd hf (fun h => h)
  | succ n ih =>
    intro σ x1 x3 x4 hf H locs ls hM hl
    rw [f_X2_foresight_53] at hf
    refine lv_iload hx hb dX2_foresight_53 (lv_at hl 3 rfl) ?_
    refine lv_aload_n hx hb dX2_foresight_55 rfl (lv_at hl 0 rfl) ?_
    refine g_cVi [] [.int x4] K kM hM hl (c_X2_baskets l r A _ _ hf) q1767 q1769 qs60 q84 q1770 hdX2_baskets ⟨Nat.le_of_ble_eq_true rfl, Nat.le_of_ble_eq_true rfl⟩ ⟨Nat.le_refl _, Nat.le_refl _⟩ rfl (Nat.le_of_ble_eq_true rfl) dX2_foresight_56 (fun σ1 v2 H locs hf hM => ?_)
    refine lv_icmp_ge (tgt := 115) hx hb dX2_foresight_59 (by decide) (fun b3 => ?_) (fun b3 => ?_)
    · replace hf := hf.1 b3
      refine lv_iconst (v := 1) hx hb dX2_foresight_115 rfl ?_
      refine lv_istore (lv' := [(4, .int (1 : Int32)), (0, .ref r.2.1), (1, .int x1), (3, .int x3)]) hx hb dX2_foresight_116 hl (by decide) rfl (fun ls hl => ?_)
      obtain ⟨n_, hf⟩ := hf
      exact w_X2_foresight_118 K hr n_ _ _ _ _ hf _ _ _ hM (lv_sub hl [1, 2, 3, 0] rfl)
    · replace hf := hf.2 b3
      refine lv_aload_n hx hb dX2_foresight_62 rfl (lv_at hl 0 rfl) ?_
      refine lv_iload hx hb dX2_foresight_63 (lv_at hl 3 rfl) ?_
      refine g_cVv [.int x4] [] K kM hM hl (c_X2_unpack l r A _ _ _ hf) q1771 q1773 qs61 q84 q1774 hdX2_unpack ⟨Nat.le_of_ble_eq_true rfl, Nat.le_of_ble_eq_true rfl⟩ ⟨Nat.le_refl _, Nat.le_refl _⟩ rfl (Nat.le_of_ble_eq_true rfl) dX2_foresight_65 (fun σ4 H locs hf hM => ?_)
      refine lv_aload_n hx hb dX2_foresight_68 rfl (lv_at hl 0 rfl) ?_
      refine g_geti K kM hM 27 rfl q1480 rfl dX2_foresight_69 rfl ?_
      refine lv_aload_n hx hb dX2_foresight_72 rfl (lv_at hl 0 rfl) ?_
      refine lv_iload_n hx hb dX2_foresight_73 rfl (lv_at hl 1 rfl) ?_
      refine g_cVi [.int x1] [.int (gI σ4 27)] K kM hM hl (c_X2_purseOf l r A _ _ _ hf) q1683 q1685 qs44 q84 q1686 hdX2_purseOf ⟨Nat.le_of_ble_eq_true rfl, Nat.le_of_ble_eq_true rfl⟩ ⟨Nat.le_refl _, Nat.le_refl _⟩ rfl (Nat.le_of_ble_eq_true rfl) dX2_foresight_74 (fun σ6 v7 H locs hf hM => ?_)
      refine lv_icmp_gt (tgt := 109) hx hb dX2_foresight_77 (by decide) (fun b8 => ?_) (fun b8 => ?_)
      · replace hf := hf.1 b8
        exact w_X2_foresight_109 K hr ih _ _ _ _ hf _ _ _ hM (lv_sub hl [0, 1, 2, 3] rfl)
      · replace hf := hf.2 b8
        refine lv_aload_n hx hb dX2_foresight_80 rfl (lv_at hl 0 rfl) ?_
        refine g_geti K kM hM 26 rfl q1479 rfl dX2_foresight_81 rfl ?_
        refine lv_aload_n hx hb dX2_foresight_84 rfl (lv_at hl 0 rfl) ?_
        refine g_geta K kM hM 44 rfl q1497 rfl dX2_foresight_85 rfl ?_
        refine lv_aload_n hx hb dX2_foresight_88 rfl (lv_at hl 0 rfl) ?_
        refine g_geti K kM hM 28 rfl q1481 rfl dX2_foresight_89 rfl ?_
        obtain ⟨g9, hf⟩ := hf
        refine g_iald K hM 44 rfl rfl rfl g9 dX2_foresight_92 ?_
        refine lv_icmp_le (tgt := 109) hx hb dX2_foresight_93 (by decide) (fun b10 => ?_) (fun b10 => ?_)
        · replace hf := hf.1 b10
          exact w_X2_foresight_109 K hr ih _ _ _ _ hf _ _ _ hM (lv_sub hl [0, 1, 2, 3] rfl)
        · replace hf := hf.2 b10
          refine lv_aload_n hx hb dX2_foresight_96 rfl (lv_at hl 0 rfl) ?_
          refine g_geta K kM hM 44 rfl q1497 rfl dX2_foresight_97 rfl ?_
          refine lv_aload_n hx hb dX2_foresight_100 rfl (lv_at hl 0 rfl) ?_
          refine g_geti K kM hM 28 rfl q1481 rfl dX2_foresight_101 rfl ?_
          refine lv_aload_n hx hb dX2_foresight_104 rfl (lv_at hl 0 rfl) ?_
          refine g_geti K kM hM 26 rfl q1479 rfl dX2_foresight_105 rfl ?_
          obtain ⟨g11, hf⟩ := hf
          refine g_iastN K hM 44 rfl rfl rfl g11 dX2_foresight_108 (fun H locs σ12 hσ12 hM => ?_)
          have hf := hf σ12 hσ12
          exact w_X2_foresight_109 K hr ih _ _ _ _ hf _ _ _ hM (lv_sub hl [0, 1, 2, 3] rfl)
theorem w_X2_foresight_26 {p : Program} {l : Launch} {e : Env} {s : State} {m : MethodId} {args : Array Value} {below : List Frame} {meth : Method} {c : Code} {r : GR} {A : Nat → Prop} {P : GS → Int32 → Prop} (K : gC p s m args meth c cX2_foresight 9 RX2 r A) (hr : meth.sig.returnType = (some .int)) : ∀ (n : Nat) (σ : GS) (x1 : Int32) (x3 : Int32) (x4 : Int32), f_X2_foresight_26 P n σ x1 x3 x4 → gW dM p l e (gRm 69 2663 0 0) s m args below meth c r A (zI P) 0 0 9 26 [(0, .ref r.2.1), (1, .int x1), (3, .int x3), (4, .int x4)] [] 0 0 σ := by
  obtain ⟨hx, hb, hml, hown, hts, hlk, hKK, hA⟩ := id K
  intro n
  induction n with
  | zero =>
    intro σ x1 x3 x4 hf
    exact absurd hf (fun h => h)
  | succ n ih =>
    intro σ x1 x3 x4 hf H locs ls hM hl
    rw [f_X2_foresight_26] at hf
    refine lv_iload hx hb dX2_foresight_26 (lv_at hl 3 rfl) ?_
    refine lv_aload_n hx hb dX2_foresight_28 rfl (lv_at hl 0 rfl) ?_
    refine g_geta K kM hM 44 rfl q1497 rfl dX2_foresight_29 rfl ?_
    refine g_alen K hM 44 rfl rfl rfl (v := 1783) rfl dX2_foresight_32 ?_
    refine lv_icmp_ge (tgt := 50) hx hb dX2_foresight_33 (by decide) (fun b1 => ?_) (fun b1 => ?_)
    · replace hf := hf.1 b1
      refine lv_iconst (v := 0) hx hb dX2_foresight_50 rfl ?_
      refine lv_istore (lv' := [(4, .int (0 : Int32)), (0, .ref r.2.1), (1, .int x1), (3, .int x3)]) hx hb dX2_foresight_51 hl (by decide) rfl (fun ls hl => ?_)
      obtain ⟨n_, hf⟩ := hf
      exact w_X2_foresight_53 K hr n_ _ _ _ _ hf _ _ _ hM (lv_sub hl [1, 2, 3, 0] rfl)
    · replace hf := hf.2 b1
      refine lv_aload_n hx hb dX2_foresight_36 rfl (lv_at hl 0 rfl) ?_
      refine g_geta K kM hM 44 rfl q1497 rfl dX2_foresight_37 rfl ?_
      refine lv_iload hx hb dX2_foresight_40 (lv_at hl 3 rfl) ?_
      refine lv_iconst (v := 0) hx hb dX2_foresight_42 rfl ?_
      obtain ⟨g2, hf⟩ := hf
      refine g_iastN K hM 44 rfl rfl rfl g2 dX2_foresight_43 (fun H locs σ3 hσ3 hM => ?_)
      have hf := hf σ3 hσ3
      refine lv_iinc (v := x4 + 1) (lv' := [(4, .int (x4 + 1)), (0, .ref r.2.1), (1, .int x1), (3, .int x3)]) hx hb dX2_foresight_44 hl (k := 3) rfl rfl (by decide) rfl (fun ls hl => ?_)
      refine lv_goto (tgt := 26) hx hb dX2_foresight_47 (by decide) ?_
      exact ih _ _ _ _ hf _ _ _ hM (lv_sub hl [1, 2, 3, 0] rfl)
theorem c_X2_foresight (l : Launch) (r : GR) (A : Nat → Prop) (σ : GS) (x1 : Int32) (P : GS → Int32 → Prop) (hf : f_X2_foresight σ x1 P) : gMet dM l yX2_foresight cX2_foresight 9 (some .int) 69 2663 0 0 r A σ [.ref r.2.1, .int x1] (zI P) := by
  refine g_enter (lv := [(0, .ref r.2.1), (1, .int x1)]) (by decide) (Nat.le_of_ble_eq_true rfl) rfl ?_
  intro p e s m below meth c ls K hr hM hl _
  obtain ⟨hx, hb, hml, hown, hts, hlk, hKK, hA⟩ := id K
  unfold f_X2_foresight at hf
  refine lv_aload_n hx hb dX2_foresight_0 rfl (lv_at hl 0 rfl) ?_
  refine lv_iload_n hx hb dX2_foresight_1 rfl (lv_at hl 1 rfl) ?_
  refine g_cVi [.int x1] [] K kM hM hl (c_X2_isSort l r A _ _ _ hf) q1674 q1676 qs43 q84 q1677 hdX2_isSort ⟨Nat.le_of_ble_eq_true rfl, Nat.le_of_ble_eq_true rfl⟩ ⟨Nat.le_refl _, Nat.le_refl _⟩ rfl (Nat.le_of_ble_eq_true rfl) dX2_foresight_2 (fun σ1 v2 H locs hf hM => ?_)
  refine lv_if_ne (tgt := 10) hx hb dX2_foresight_5 (by decide) (fun b3 => ?_) (fun b3 => ?_)
  · replace hf := hf.2 b3
    refine lv_aload_n hx hb dX2_foresight_10 rfl (lv_at hl 0 rfl) ?_
    refine lv_iload_n hx hb dX2_foresight_11 rfl (lv_at hl 1 rfl) ?_
    refine g_cVi [.int x1] [] K kM hM hl (c_X2_bestOf l r A _ _ _ hf) q1755 q1757 qs57 q84 q1758 hdX2_bestOf ⟨Nat.le_of_ble_eq_true rfl, Nat.le_of_ble_eq_true rfl⟩ ⟨Nat.le_refl _, Nat.le_refl _⟩ rfl (Nat.le_of_ble_eq_true rfl) dX2_foresight_12 (fun σ4 v5 H locs hf hM => ?_)
    refine lv_istore_n (lv' := [(2, .int v5), (0, .ref r.2.1), (1, .int x1)]) hx hb dX2_foresight_15 rfl hl (by decide) rfl (fun ls hl => ?_)
    refine lv_iconst (v := 2) hx hb dX2_foresight_16 rfl ?_
    refine lv_aload_n hx hb dX2_foresight_17 rfl (lv_at hl 1 rfl) ?_
    refine g_geti K kM hM 30 rfl q1483 rfl dX2_foresight_18 rfl ?_
    refine lv_imul hx hb dX2_foresight_21 ?_
    refine lv_istore_n (lv' := [(3, .int ((2 : Int32) * (gI σ4 30))), (2, .int v5), (0, .ref r.2.1), (1, .int x1)]) hx hb dX2_foresight_22 rfl hl (by decide) rfl (fun ls hl => ?_)
    refine lv_iconst (v := 0) hx hb dX2_foresight_23 rfl ?_
    refine lv_istore (lv' := [(4, .int (0 : Int32)), (3, .int ((2 : Int32) * (gI σ4 30))), (2, .int v5), (0, .ref r.2.1), (1, .int x1)]) hx hb dX2_foresight_24 hl (by decide) rfl (fun ls hl => ?_)
    obtain ⟨n_, hf⟩ := hf
    exact w_X2_foresight_26 K hr n_ _ _ _ _ hf _ _ _ hM (lv_sub hl [3, 4, 1, 0] rfl)
  · replace hf := hf.1 b3
    refine lv_iconst (v := -1) hx hb dX2_foresight_8 rfl ?_
    exact g_reti K hr hM ⟨Nat.le_refl _, Nat.le_refl _⟩ hf dX2_foresight_9
theorem w_X2_cheap_70 {p : Program} {l : Launch} {e : Env} {s : State} {m : MethodId} {args : Array Value} {below : List Frame} {meth : Method} {c : Code} {r : GR} {A : Nat → Prop} {P : GS → Int32 → Prop} {k15 : GS → Int32 → Int32 → Int32 → Prop} (K : gC p s m args meth c cX2_cheap 4 RX2 r A) (hr : meth.sig.returnType = (some .int)) (H15 : ∀ (σ : GS) (x1 : Int32) (x2 : Int32) (x3 : Int32), k15 σ x1 x2 x3 → gW dM p l e (gRm 2 46 0 0) s m args below meth c r A (zI P) 0 0 4 15 [(0, .ref r.2.1), (1, .int x1), (2, .int x2), (3, .int x3)] [] 0 0 σ) : ∀ (σ : GS) (x1 : Int32) (x2 : Int32) (x3 : Int32), f_X2_cheap_70 k15 P σ x1 x2 x3 → gW dM p l e (gRm 2 46 0 0) s m args below meth c r A (zI P) 0 0 4 70 [(0, .ref r.2.1), (1, .int x1), (2, .int x2), (3, .int x3)] [] 0 0 σ := by
  obtain ⟨hx, hb, hml, hown, hts, hlk, hKK, hA⟩ := id K
  intro σ x1 x2 x3 hf H locs ls hM hl
  unfold f_X2_cheap_70 at hf
  refine lv_iinc (v := x3 + 1) (lv' := [(3, .int (x3 + 1)), (0, .ref r.2.1), (1, .int x1), (2, .int x2)]) hx hb dX2_cheap_70 hl (k := 3) rfl rfl (by decide) rfl (fun ls hl => ?_)
  refine lv_goto (tgt := 15) hx hb dX2_cheap_73 (by decide) ?_
  exact H15 _ _ _ _ hf _ _ _ hM (lv_sub hl [1, 2, 3, 0] rfl)
theorem w_X2_cheap_68 {p : Program} {l : Launch} {e : Env} {s : State} {m : MethodId} {args : Array Value} {below : List Frame} {meth : Method} {c : Code} {r : GR} {A : Nat → Prop} {P : GS → Int32 → Prop} {k15 : GS → Int32 → Int32 → Int32 → Prop} (K : gC p s m args meth c cX2_cheap 4 RX2 r A) (hr : meth.sig.returnType = (some .int)) (H15 : ∀ (σ : GS) (x1 : Int32) (x2 : Int32) (x3 : Int32), k15 σ x1 x2 x3 → gW dM p l e (gRm 2 46 0 0) s m args below meth c r A (zI P) 0 0 4 15 [(0, .ref r.2.1), (1, .int x1), (2, .int x2), (3, .int x3)] [] 0 0 σ) : ∀ (σ : GS) (x1 : Int32) (x3 : Int32), f_X2_cheap_68 k15 P σ x1 x3 → gW dM p l e (gRm 2 46 0 0) s m args below meth c r A (zI P) 0 0 4 68 [(0, .ref r.2.1), (1, .int x1), (3, .int x3)] [] 0 0 σ := by
  obtain ⟨hx, hb, hml, hown, hts, hlk, hKK, hA⟩ := id K
  intro σ x1 x3 hf H locs ls hM hl
  unfold f_X2_cheap_68 at hf
  refine lv_iload_n hx hb dX2_cheap_68 rfl (lv_at hl 2 rfl) ?_
  refine lv_istore_n (lv' := [(2, .int x3), (0, .ref r.2.1), (1, .int x1), (3, .int x3)]) hx hb dX2_cheap_69 rfl hl (by decide) rfl (fun ls hl => ?_)
  exact w_X2_cheap_70 K hr H15 _ _ _ _ hf _ _ _ hM (lv_sub hl [1, 2, 0, 3] rfl)
theorem w_X2_cheap_15 {p : Program} {l : Launch} {e : Env} {s : State} {m : MethodId} {args : Array Value} {below : List Frame} {meth : Method} {c : Code} {r : GR} {A : Nat → Prop} {P : GS → Int32 → Prop} (K : gC p s m args meth c cX2_cheap 4 RX2 r A) (hr : meth.sig.returnType = (some .int)) : ∀ (n : Nat) (σ : GS) (x1 : Int32) (x2 : Int32) (x3 : Int32), f_X2_cheap_15 P n σ x1 x2 x3 → gW dM p l e (gRm 2 46 0 0) s m args below meth c r A (zI P) 0 0 4 15 [(0, .ref r.2.1), (1, .int x1), (2, .int x2), (3, .int x3)] [] 0 0 σ := by
  obtain ⟨hx, hb, hml, hown, hts, hlk, hKK, hA⟩ := id K
  intro n
  induction n with
  | zero =>
    intro σ x1 x2 x3 hf
    exact absurd hf (fun h => h)
  | succ n ih =>
    intro σ x1 x2 x3 hf H locs ls hM hl
    rw [f_X2_cheap_15] at hf
    refine lv_iload_n hx hb dX2_cheap_15 rfl (lv_at hl 3 rfl) ?_
    refine lv_aload_n hx hb dX2_cheap_16 rfl (lv_at hl 0 rfl) ?_
    refine g_geti K kM hM 6 rfl q1459 rfl dX2_cheap_17 rfl ?_
    refine lv_icmp_ge (tgt := 76) hx hb dX2_cheap_20 (by decide) (fun b1 => ?_) (fun b1 => ?_)
    · replace hf := hf.1 b1
      refine lv_iload_n hx hb dX2_cheap_76 rfl (lv_at hl 2 rfl) ?_
      exact g_reti K hr hM ⟨Nat.le_refl _, Nat.le_refl _⟩ hf dX2_cheap_77
    · replace hf := hf.2 b1
      refine lv_aload_n hx hb dX2_cheap_23 rfl (lv_at hl 0 rfl) ?_
      refine g_geta K kM hM 7 rfl q1460 rfl dX2_cheap_24 rfl ?_
      refine lv_iload_n hx hb dX2_cheap_27 rfl (lv_at hl 3 rfl) ?_
      obtain ⟨g2, hf⟩ := hf
      refine g_iald K hM 7 rfl rfl rfl g2 dX2_cheap_28 ?_
      refine lv_aload_n hx hb dX2_cheap_29 rfl (lv_at hl 0 rfl) ?_
      refine g_geta K kM hM 0 rfl q1453 rfl dX2_cheap_30 rfl ?_
      refine lv_bipush (v := 6) hx hb dX2_cheap_33 rfl ?_
      refine lv_iload_n hx hb dX2_cheap_35 rfl (lv_at hl 3 rfl) ?_
      refine lv_iadd hx hb dX2_cheap_36 ?_
      obtain ⟨g3, hf⟩ := hf
      refine g_iald K hM 0 rfl rfl rfl g3 dX2_cheap_37 ?_
      refine lv_iload_n hx hb dX2_cheap_38 rfl (lv_at hl 1 rfl) ?_
      refine lv_isub hx hb dX2_cheap_39 ?_
      refine lv_icmp_gt (tgt := 70) hx hb dX2_cheap_40 (by decide) (fun b4 => ?_) (fun b4 => ?_)
      · replace hf := hf.1 b4
        exact w_X2_cheap_70 K hr ih _ _ _ _ hf _ _ _ hM (lv_sub hl [0, 1, 2, 3] rfl)
      · replace hf := hf.2 b4
        refine lv_iload_n hx hb dX2_cheap_43 rfl (lv_at hl 2 rfl) ?_
        refine lv_if_lt (tgt := 68) hx hb dX2_cheap_44 (by decide) (fun b5 => ?_) (fun b5 => ?_)
        · replace hf := hf.1 b5
          exact w_X2_cheap_68 K hr ih _ _ _ hf _ _ _ hM (lv_sub hl [0, 1, 3] rfl)
        · replace hf := hf.2 b5
          refine lv_aload_n hx hb dX2_cheap_47 rfl (lv_at hl 0 rfl) ?_
          refine g_geta K kM hM 0 rfl q1453 rfl dX2_cheap_48 rfl ?_
          refine lv_bipush (v := 12) hx hb dX2_cheap_51 rfl ?_
          refine lv_iload_n hx hb dX2_cheap_53 rfl (lv_at hl 3 rfl) ?_
          refine lv_iadd hx hb dX2_cheap_54 ?_
          obtain ⟨g6, hf⟩ := hf
          refine g_iald K hM 0 rfl rfl rfl g6 dX2_cheap_55 ?_
          refine lv_aload_n hx hb dX2_cheap_56 rfl (lv_at hl 0 rfl) ?_
          refine g_geta K kM hM 0 rfl q1453 rfl dX2_cheap_57 rfl ?_
          refine lv_bipush (v := 12) hx hb dX2_cheap_60 rfl ?_
          refine lv_iload_n hx hb dX2_cheap_62 rfl (lv_at hl 2 rfl) ?_
          refine lv_iadd hx hb dX2_cheap_63 ?_
          obtain ⟨g7, hf⟩ := hf
          refine g_iald K hM 0 rfl rfl rfl g7 dX2_cheap_64 ?_
          refine lv_icmp_ge (tgt := 70) hx hb dX2_cheap_65 (by decide) (fun b8 => ?_) (fun b8 => ?_)
          · replace hf := hf.1 b8
            exact w_X2_cheap_70 K hr ih _ _ _ _ hf _ _ _ hM (lv_sub hl [0, 1, 2, 3] rfl)
          · replace hf := hf.2 b8
            exact w_X2_cheap_68 K hr ih _ _ _ hf _ _ _ hM (lv_sub hl [0, 1, 3] rfl)
theorem c_X2_cheap (l : Launch) (r : GR) (A : Nat → Prop) (σ : GS) (x1 : Int32) (P : GS → Int32 → Prop) (hf : f_X2_cheap σ x1 P) : gMet dM l yX2_cheap cX2_cheap 4 (some .int) 2 46 0 0 r A σ [.ref r.2.1, .int x1] (zI P) := by
  refine g_enter (lv := [(0, .ref r.2.1), (1, .int x1)]) (by decide) (Nat.le_of_ble_eq_true rfl) rfl ?_
  intro p e s m below meth c ls K hr hM hl _
  obtain ⟨hx, hb, hml, hown, hts, hlk, hKK, hA⟩ := id K
  unfold f_X2_cheap at hf
  refine lv_iload_n hx hb dX2_cheap_0 rfl (lv_at hl 1 rfl) ?_
  refine lv_i2l hx hb dX2_cheap_1 rfl ?_
  refine g_cSi [.long x1.toInt64] [] K hM hl (c_X2_isTwo l r A _ _ _ hf) q1636 q1637 q84 q1638 hdX2_isTwo ⟨Nat.le_of_ble_eq_true rfl, Nat.le_of_ble_eq_true rfl⟩ ⟨Nat.le_refl _, Nat.le_refl _⟩ rfl (Nat.le_of_ble_eq_true rfl) dX2_cheap_2 (fun σ1 v2 H locs hf hM => ?_)
  refine lv_if_ne (tgt := 10) hx hb dX2_cheap_5 (by decide) (fun b3 => ?_) (fun b3 => ?_)
  · replace hf := hf.2 b3
    refine lv_bipush (v := -2) hx hb dX2_cheap_10 rfl ?_
    refine lv_istore_n (lv' := [(2, .int (-2 : Int32)), (0, .ref r.2.1), (1, .int x1)]) hx hb dX2_cheap_12 rfl hl (by decide) rfl (fun ls hl => ?_)
    refine lv_iconst (v := 0) hx hb dX2_cheap_13 rfl ?_
    refine lv_istore_n (lv' := [(3, .int (0 : Int32)), (2, .int (-2 : Int32)), (0, .ref r.2.1), (1, .int x1)]) hx hb dX2_cheap_14 rfl hl (by decide) rfl (fun ls hl => ?_)
    obtain ⟨n_, hf⟩ := hf
    exact w_X2_cheap_15 K hr n_ _ _ _ _ hf _ _ _ hM (lv_sub hl [2, 3, 1, 0] rfl)
  · replace hf := hf.1 b3
    refine lv_iconst (v := -1) hx hb dX2_cheap_8 rfl ?_
    exact g_reti K hr hM ⟨Nat.le_refl _, Nat.le_refl _⟩ hf dX2_cheap_9
theorem w_X2_wrong_95 {p : Program} {l : Launch} {e : Env} {s : State} {m : MethodId} {args : Array Value} {below : List Frame} {meth : Method} {c : Code} {r : GR} {A : Nat → Prop} {P : GS → Int32 → Prop} {k28 : GS → Int32 → Int32 → Int32 → Int32 → Prop} (K : gC p s m args meth c cX2_wrong 6 RX2 r A) (hr : meth.sig.returnType = (some .int)) (H28 : ∀ (σ : GS) (x1 : Int32) (x2 : Int32) (x3 : Int32) (x4 : Int32), k28 σ x1 x2 x3 x4 → gW dM p l e (gRm 70 2686 0 0) s m args below meth c r A (zI P) 0 0 6 28 [(0, .ref r.2.1), (1, .int x1), (2, .int x2), (3, .int x3), (4, .int x4)] [] 0 0 σ) : ∀ (σ : GS) (x1 : Int32) (x2 : Int32) (x3 : Int32) (x4 : Int32), f_X2_wrong_95 k28 P σ x1 x2 x3 x4 → gW dM p l e (gRm 70 2686 0 0) s m args below meth c r A (zI P) 0 0 6 95 [(0, .ref r.2.1), (1, .int x1), (2, .int x2), (3, .int x3), (4, .int x4)] [] 0 0 σ := by
  obtain ⟨hx, hb, hml, hown, hts, hlk, hKK, hA⟩ := id K
  intro σ x1 x2 x3 x4 hf H locs ls hM hl
  unfold f_X2_wrong_95 at hf
  refine lv_iinc (v := x4 + 1) (lv' := [(4, .int (x4 + 1)), (0, .ref r.2.1), (1, .int x1), (2, .int x2), (3, .int x3)]) hx hb dX2_wrong_95 hl (k := 4) rfl rfl (by decide) rfl (fun ls hl => ?_)
  refine lv_goto (tgt := 28) hx hb dX2_wrong_98 (by decide) ?_
  exact H28 _ _ _ _ _ hf _ _ _ hM (lv_sub hl [1, 2, 3, 4, 0] rfl)
theorem w_X2_wrong_89 {p : Program} {l : Launch} {e : Env} {s : State} {m : MethodId} {args : Array Value} {below : List Frame} {meth : Method} {c : Code} {r : GR} {A : Nat → Prop} {P : GS → Int32 → Prop} {k28 : GS → Int32 → Int32 → Int32 → Int32 → Prop} (K : gC p s m args meth c cX2_wrong 6 RX2 r A) (hr : meth.sig.returnType = (some .int)) (H28 : ∀ (σ : GS) (x1 : Int32) (x2 : Int32) (x3 : Int32) (x4 : Int32), k28 σ x1 x2 x3 x4 → gW dM p l e (gRm 70 2686 0 0) s m args below meth c r A (zI P) 0 0 6 28 [(0, .ref r.2.1), (1, .int x1), (2, .int x2), (3, .int x3), (4, .int x4)] [] 0 0 σ) : ∀ (σ : GS) (x1 : Int32) (x4 : Int32) (x5 : Int32), f_X2_wrong_89 k28 P σ x1 x4 x5 → gW dM p l e (gRm 70 2686 0 0) s m args below meth c r A (zI P) 0 0 6 89 [(0, .ref r.2.1), (1, .int x1), (4, .int x4), (5, .int x5)] [] 0 0 σ := by
  obtain ⟨hx, hb, hml, hown, hts, hlk, hKK, hA⟩ := id K
  intro σ x1 x4 x5 hf H locs ls hM hl
  unfold f_X2_wrong_89 at hf
  refine lv_iload hx hb dX2_wrong_89 (lv_at hl 2 rfl) ?_
  refine lv_istore_n (lv' := [(2, .int x4), (0, .ref r.2.1), (1, .int x1), (4, .int x4), (5, .int x5)]) hx hb dX2_wrong_91 rfl hl (by decide) rfl (fun ls hl => ?_)
  refine lv_iload hx hb dX2_wrong_92 (lv_at hl 4 rfl) ?_
  refine lv_istore_n (lv' := [(3, .int x5), (2, .int x4), (0, .ref r.2.1), (1, .int x1), (4, .int x4), (5, .int x5)]) hx hb dX2_wrong_94 rfl hl (by decide) rfl (fun ls hl => ?_)
  exact w_X2_wrong_95 K hr H28 _ _ _ _ _ hf _ _ _ hM (lv_sub hl [2, 3, 1, 0, 4] rfl)
theorem w_X2_wrong_72 {p : Program} {l : Launch} {e : Env} {s : State} {m : MethodId} {args : Array Value} {below : List Frame} {meth : Method} {c : Code} {r : GR} {A : Nat → Prop} {P : GS → Int32 → Prop} {k28 : GS → Int32 → Int32 → Int32 → Int32 → Prop} (K : gC p s m args meth c cX2_wrong 6 RX2 r A) (hr : meth.sig.returnType = (some .int)) (H28 : ∀ (σ : GS) (x1 : Int32) (x2 : Int32) (x3 : Int32) (x4 : Int32), k28 σ x1 x2 x3 x4 → gW dM p l e (gRm 70 2686 0 0) s m args below meth c r A (zI P) 0 0 6 28 [(0, .ref r.2.1), (1, .int x1), (2, .int x2), (3, .int x3), (4, .int x4)] [] 0 0 σ) : ∀ (σ : GS) (x1 : Int32) (x2 : Int32) (x3 : Int32) (x4 : Int32) (t0 : Int32), f_X2_wrong_72 k28 P σ x1 x2 x3 x4 t0 → gW dM p l e (gRm 70 2686 0 0) s m args below meth c r A (zI P) 0 0 6 72 [(0, .ref r.2.1), (1, .int x1), (2, .int x2), (3, .int x3), (4, .int x4)] [.int t0] 0 0 σ := by
  obtain ⟨hx, hb, hml, hown, hts, hlk, hKK, hA⟩ := id K
  intro σ x1 x2 x3 x4 t0 hf H locs ls hM hl
  unfold f_X2_wrong_72 at hf
  refine lv_istore (lv' := [(5, .int t0), (0, .ref r.2.1), (1, .int x1), (2, .int x2), (3, .int x3), (4, .int x4)]) hx hb dX2_wrong_72 hl (by decide) rfl (fun ls hl => ?_)
  refine lv_iload hx hb dX2_wrong_74 (lv_at hl 0 rfl) ?_
  refine lv_if_lt (tgt := 95) hx hb dX2_wrong_76 (by decide) (fun b1 => ?_) (fun b1 => ?_)
  · replace hf := hf.1 b1
    exact w_X2_wrong_95 K hr H28 _ _ _ _ _ hf _ _ _ hM (lv_sub hl [1, 2, 3, 4, 5] rfl)
  · replace hf := hf.2 b1
    refine lv_iload_n hx hb dX2_wrong_79 rfl (lv_at hl 3 rfl) ?_
    refine lv_if_lt (tgt := 89) hx hb dX2_wrong_80 (by decide) (fun b2 => ?_) (fun b2 => ?_)
    · replace hf := hf.1 b2
      exact w_X2_wrong_89 K hr H28 _ _ _ _ hf _ _ _ hM (lv_sub hl [1, 2, 5, 0] rfl)
    · replace hf := hf.2 b2
      refine lv_iload hx hb dX2_wrong_83 (lv_at hl 0 rfl) ?_
      refine lv_iload_n hx hb dX2_wrong_85 rfl (lv_at hl 4 rfl) ?_
      refine lv_icmp_le (tgt := 95) hx hb dX2_wrong_86 (by decide) (fun b3 => ?_) (fun b3 => ?_)
      · replace hf := hf.1 b3
        exact w_X2_wrong_95 K hr H28 _ _ _ _ _ hf _ _ _ hM (lv_sub hl [1, 2, 3, 4, 5] rfl)
      · replace hf := hf.2 b3
        exact w_X2_wrong_89 K hr H28 _ _ _ _ hf _ _ _ hM (lv_sub hl [1, 2, 5, 0] rfl)
theorem w_X2_wrong_28 {p : Program} {l : Launch} {e : Env} {s : State} {m : MethodId} {args : Array Value} {below : List Frame} {meth : Method} {c : Code} {r : GR} {A : Nat → Prop} {P : GS → Int32 → Prop} (K : gC p s m args meth c cX2_wrong 6 RX2 r A) (hr : meth.sig.returnType = (some .int)) : ∀ (n : Nat) (σ : GS) (x1 : Int32) (x2 : Int32) (x3 : Int32) (x4 : Int32), f_X2_wrong_28 P n σ x1 x2 x3 x4 → gW dM p l e (gRm 70 2686 0 0) s m args below meth c r A (zI P) 0 0 6 28 [(0, .ref r.2.1), (1, .int x1), (2, .int x2), (3, .int x3), (4, .int x4)] [] 0 0 σ := by
  obtain ⟨hx, hb, hml, hown, hts, hlk, hKK, hA⟩ := id K
  intro n
  induction n with
  | zero =>
    intro σ x1 x2 x3 x4 hf
    exact absurd hf (fun h => h)
  | succ n ih =>
    intro σ x1 x2 x3 x4 hf H locs ls hM hl
    rw [f_X2_wrong_28] at hf
    refine lv_iload hx hb dX2_wrong_28 (lv_at hl 4 rfl) ?_
    refine lv_aload_n hx hb dX2_wrong_30 rfl (lv_at hl 0 rfl) ?_
    refine g_geti K kM hM 6 rfl q1459 rfl dX2_wrong_31 rfl ?_
    refine lv_icmp_ge (tgt := 101) hx hb dX2_wrong_34 (by decide) (fun b1 => ?_) (fun b1 => ?_)
    · replace hf := hf.1 b1
      refine lv_iload_n hx hb dX2_wrong_101 rfl (lv_at hl 2 rfl) ?_
      refine lv_if_ge (tgt := 108) hx hb dX2_wrong_102 (by decide) (fun b2 => ?_) (fun b2 => ?_)
      · replace hf := hf.1 b2
        refine lv_iload_n hx hb dX2_wrong_108 rfl (lv_at hl 1 rfl) ?_
        refine lv_if_ne (tgt := 116) hx hb dX2_wrong_109 (by decide) (fun b3 => ?_) (fun b3 => ?_)
        · replace hf := hf.2 b3
          refine lv_iload_n hx hb dX2_wrong_116 rfl (lv_at hl 1 rfl) ?_
          refine lv_iconst (v := 1) hx hb dX2_wrong_117 rfl ?_
          refine lv_icmp_ne (tgt := 125) hx hb dX2_wrong_118 (by decide) (fun b4 => ?_) (fun b4 => ?_)
          · replace hf := hf.2 b4
            refine lv_aload_n hx hb dX2_wrong_125 rfl (lv_at hl 0 rfl) ?_
            refine lv_iload_n hx hb dX2_wrong_126 rfl (lv_at hl 2 rfl) ?_
            refine g_cVi [.int x2] [] K kM hM hl (c_X2_over l r A _ _ _ hf) q1792 q1794 qs65 q84 q1795 hdX2_over ⟨Nat.le_of_ble_eq_true rfl, Nat.le_of_ble_eq_true rfl⟩ ⟨Nat.le_refl _, Nat.le_refl _⟩ rfl (Nat.le_of_ble_eq_true rfl) dX2_wrong_127 (fun σ5 v6 H locs hf hM => ?_)
            refine lv_if_ge (tgt := 137) hx hb dX2_wrong_130 (by decide) (fun b7 => ?_) (fun b7 => ?_)
            · replace hf := hf.1 b7
              refine lv_aload_n hx hb dX2_wrong_137 rfl (lv_at hl 0 rfl) ?_
              refine lv_iload_n hx hb dX2_wrong_138 rfl (lv_at hl 2 rfl) ?_
              refine g_cVi [.int x2] [] K kM hM hl (c_X2_over l r A _ _ _ hf) q1792 q1794 qs65 q84 q1795 hdX2_over ⟨Nat.le_of_ble_eq_true rfl, Nat.le_of_ble_eq_true rfl⟩ ⟨Nat.le_refl _, Nat.le_refl _⟩ rfl (Nat.le_of_ble_eq_true rfl) dX2_wrong_139 (fun σ8 v9 H locs hf hM => ?_)
              refine lv_if_le (tgt := 149) hx hb dX2_wrong_142 (by decide) (fun b10 => ?_) (fun b10 => ?_)
              · replace hf := hf.1 b10
                refine lv_iconst (v := 0) hx hb dX2_wrong_149 rfl ?_
                exact g_reti K hr hM ⟨Nat.le_refl _, Nat.le_refl _⟩ hf dX2_wrong_150
              · replace hf := hf.2 b10
                refine lv_iconst (v := -1) hx hb dX2_wrong_145 rfl ?_
                refine lv_goto (tgt := 150) hx hb dX2_wrong_146 (by decide) ?_
                exact g_reti K hr hM ⟨Nat.le_refl _, Nat.le_refl _⟩ hf dX2_wrong_150
            · replace hf := hf.2 b7
              refine lv_iconst (v := 1) hx hb dX2_wrong_133 rfl ?_
              refine lv_goto (tgt := 150) hx hb dX2_wrong_134 (by decide) ?_
              exact g_reti K hr hM ⟨Nat.le_refl _, Nat.le_refl _⟩ hf dX2_wrong_150
          · replace hf := hf.1 b4
            refine lv_iload_n hx hb dX2_wrong_121 rfl (lv_at hl 3 rfl) ?_
            refine lv_goto (tgt := 150) hx hb dX2_wrong_122 (by decide) ?_
            exact g_reti K hr hM ⟨Nat.le_refl _, Nat.le_refl _⟩ hf dX2_wrong_150
        · replace hf := hf.1 b3
          refine lv_iload_n hx hb dX2_wrong_112 rfl (lv_at hl 2 rfl) ?_
          refine lv_goto (tgt := 150) hx hb dX2_wrong_113 (by decide) ?_
          exact g_reti K hr hM ⟨Nat.le_refl _, Nat.le_refl _⟩ hf dX2_wrong_150
      · replace hf := hf.2 b2
        refine lv_bipush (v := -2) hx hb dX2_wrong_105 rfl ?_
        exact g_reti K hr hM ⟨Nat.le_refl _, Nat.le_refl _⟩ hf dX2_wrong_107
    · replace hf := hf.2 b1
      refine lv_aload_n hx hb dX2_wrong_37 rfl (lv_at hl 0 rfl) ?_
      refine g_geta K kM hM 0 rfl q1453 rfl dX2_wrong_38 rfl ?_
      refine lv_iload hx hb dX2_wrong_41 (lv_at hl 4 rfl) ?_
      obtain ⟨g11, hf⟩ := hf
      refine g_iald K hM 0 rfl rfl rfl g11 dX2_wrong_43 ?_
      refine lv_if_ne (tgt := 51) hx hb dX2_wrong_44 (by decide) (fun b12 => ?_) (fun b12 => ?_)
      · replace hf := hf.2 b12
        refine lv_aload_n hx hb dX2_wrong_51 rfl (lv_at hl 0 rfl) ?_
        refine lv_iload hx hb dX2_wrong_52 (lv_at hl 4 rfl) ?_
        refine g_cVi [.int x4] [] K kM hM hl (c_X2_over l r A _ _ _ hf) q1792 q1794 qs65 q84 q1795 hdX2_over ⟨Nat.le_of_ble_eq_true rfl, Nat.le_of_ble_eq_true rfl⟩ ⟨Nat.le_refl _, Nat.le_refl _⟩ rfl (Nat.le_of_ble_eq_true rfl) dX2_wrong_54 (fun σ13 v14 H locs hf hM => ?_)
        refine g_cSi [.int v14] [] K hM hl (c_X2_size l r A _ _ _ hf) q1796 q1797 q84 q1798 hdX2_size ⟨Nat.le_of_ble_eq_true rfl, Nat.le_of_ble_eq_true rfl⟩ ⟨Nat.le_refl _, Nat.le_refl _⟩ rfl (Nat.le_of_ble_eq_true rfl) dX2_wrong_57 (fun σ15 v16 H locs hf hM => ?_)
        refine lv_sipush (v := 1000) hx hb dX2_wrong_60 rfl ?_
        refine lv_imul hx hb dX2_wrong_63 ?_
        refine lv_aload_n hx hb dX2_wrong_64 rfl (lv_at hl 0 rfl) ?_
        refine g_geta K kM hM 0 rfl q1453 rfl dX2_wrong_65 rfl ?_
        refine lv_iload hx hb dX2_wrong_68 (lv_at hl 4 rfl) ?_
        obtain ⟨g17, hf⟩ := hf
        refine g_iald K hM 0 rfl rfl rfl g17 dX2_wrong_70 ?_
        obtain ⟨g18, hf⟩ := hf
        refine lv_idiv hx hb dX2_wrong_71 g18 ?_
        exact w_X2_wrong_72 K hr ih _ _ _ _ _ _ hf _ _ _ hM (lv_sub hl [0, 1, 2, 3, 4] rfl)
      · replace hf := hf.1 b12
        refine lv_iconst (v := -1) hx hb dX2_wrong_47 rfl ?_
        refine lv_goto (tgt := 72) hx hb dX2_wrong_48 (by decide) ?_
        exact w_X2_wrong_72 K hr ih _ _ _ _ _ _ hf _ _ _ hM (lv_sub hl [0, 1, 2, 3, 4] rfl)
theorem c_X2_wrong (l : Launch) (r : GR) (A : Nat → Prop) (σ : GS) (x1 : Int32) (P : GS → Int32 → Prop) (hf : f_X2_wrong σ x1 P) : gMet dM l yX2_wrong cX2_wrong 6 (some .int) 70 2686 0 0 r A σ [.ref r.2.1, .int x1] (zI P) := by
  refine g_enter (lv := [(0, .ref r.2.1), (1, .int x1)]) (by decide) (Nat.le_of_ble_eq_true rfl) rfl ?_
  intro p e s m below meth c ls K hr hM hl _
  obtain ⟨hx, hb, hml, hown, hts, hlk, hKK, hA⟩ := id K
  unfold f_X2_wrong at hf
  refine lv_iload_n hx hb dX2_wrong_0 rfl (lv_at hl 1 rfl) ?_
  refine lv_i2l hx hb dX2_wrong_1 rfl ?_
  refine lv_lconst (v := 0) hx hb dX2_wrong_2 rfl ?_
  refine lv_ldc2 hx hb hown (hts _ q1661) dX2_wrong_3 ?_
  refine g_cSi [.long x1.toInt64, .long (0 : Int64), .long (2 : Int64)] [] K hM hl (c_X2_within l r A _ _ _ _ _ hf) q1632 q1633 q84 q1634 hdX2_within ⟨Nat.le_of_ble_eq_true rfl, Nat.le_of_ble_eq_true rfl⟩ ⟨Nat.le_refl _, Nat.le_refl _⟩ rfl (Nat.le_of_ble_eq_true rfl) dX2_wrong_6 (fun σ1 v2 H locs hf hM => ?_)
  refine lv_if_ne (tgt := 16) hx hb dX2_wrong_9 (by decide) (fun b3 => ?_) (fun b3 => ?_)
  · replace hf := hf.2 b3
    refine lv_aload_n hx hb dX2_wrong_16 rfl (lv_at hl 0 rfl) ?_
    refine g_cVv [] [] K kM hM hl (c_X2_findWanted l r A _ _ hf) q1784 q1786 qs63 q84 q1787 hdX2_findWanted ⟨Nat.le_of_ble_eq_true rfl, Nat.le_of_ble_eq_true rfl⟩ ⟨Nat.le_refl _, Nat.le_refl _⟩ rfl (Nat.le_of_ble_eq_true rfl) dX2_wrong_17 (fun σ4 H locs hf hM => ?_)
    refine lv_bipush (v := -2) hx hb dX2_wrong_20 rfl ?_
    refine lv_istore_n (lv' := [(2, .int (-2 : Int32)), (0, .ref r.2.1), (1, .int x1)]) hx hb dX2_wrong_22 rfl hl (by decide) rfl (fun ls hl => ?_)
    refine lv_iconst (v := 0) hx hb dX2_wrong_23 rfl ?_
    refine lv_istore_n (lv' := [(3, .int (0 : Int32)), (2, .int (-2 : Int32)), (0, .ref r.2.1), (1, .int x1)]) hx hb dX2_wrong_24 rfl hl (by decide) rfl (fun ls hl => ?_)
    refine lv_iconst (v := 0) hx hb dX2_wrong_25 rfl ?_
    refine lv_istore (lv' := [(4, .int (0 : Int32)), (3, .int (0 : Int32)), (2, .int (-2 : Int32)), (0, .ref r.2.1), (1, .int x1)]) hx hb dX2_wrong_26 hl (by decide) rfl (fun ls hl => ?_)
    obtain ⟨n_, hf⟩ := hf
    exact w_X2_wrong_28 K hr n_ _ _ _ _ _ hf _ _ _ hM (lv_sub hl [3, 4, 2, 1, 0] rfl)
  · replace hf := hf.1 b3
    refine lv_ldcw hx hb hown (hts _ q1783) dX2_wrong_12 ?_
    exact g_reti K hr hM ⟨Nat.le_refl _, Nat.le_refl _⟩ hf dX2_wrong_15
theorem c_X2_body (l : Launch) (r : GR) (A : Nat → Prop) (σ : GS) (x1 : Int32) (P : GS → Int32 → Prop) (hf : f_X2_body σ x1 P) : gMet dM l yX2_body cX2_body 2 (some .int) 1 25 0 0 r A σ [.ref r.2.1, .int x1] (zI P) := by
  refine g_enter (lv := [(0, .ref r.2.1), (1, .int x1)]) (by decide) (Nat.le_of_ble_eq_true rfl) rfl ?_
  intro p e s m below meth c ls K hr hM hl _
  obtain ⟨hx, hb, hml, hown, hts, hlk, hKK, hA⟩ := id K
  unfold f_X2_body at hf
  refine lv_iload_n hx hb dX2_body_0 rfl (lv_at hl 1 rfl) ?_
  refine lv_i2l hx hb dX2_body_1 rfl ?_
  refine lv_lconst (v := 0) hx hb dX2_body_2 rfl ?_
  refine lv_ldc2 hx hb hown (hts _ q1913) dX2_body_3 ?_
  refine g_cSi [.long x1.toInt64, .long (0 : Int64), .long (7 : Int64)] [] K hM hl (c_X2_within l r A _ _ _ _ _ hf) q1632 q1633 q84 q1634 hdX2_within ⟨Nat.le_of_ble_eq_true rfl, Nat.le_of_ble_eq_true rfl⟩ ⟨Nat.le_refl _, Nat.le_refl _⟩ rfl (Nat.le_of_ble_eq_true rfl) dX2_body_6 (fun σ1 v2 H locs hf hM => ?_)
  refine lv_if_ne (tgt := 14) hx hb dX2_body_9 (by decide) (fun b3 => ?_) (fun b3 => ?_)
  · replace hf := hf.2 b3
    refine lv_aload_n hx hb dX2_body_14 rfl (lv_at hl 0 rfl) ?_
    refine g_geti K kM hM 45 rfl q1498 rfl dX2_body_15 rfl ?_
    refine lv_bipush (v := 50) hx hb dX2_body_18 rfl ?_
    refine lv_icmp_ne (tgt := 26) hx hb dX2_body_20 (by decide) (fun b4 => ?_) (fun b4 => ?_)
    · replace hf := hf.2 b4
      refine lv_aload_n hx hb dX2_body_26 rfl (lv_at hl 0 rfl) ?_
      refine g_geta K kM hM 46 rfl q1499 rfl dX2_body_27 rfl ?_
      refine lv_aload_n hx hb dX2_body_30 rfl (lv_at hl 0 rfl) ?_
      refine g_geti K kM hM 45 rfl q1498 rfl dX2_body_31 rfl ?_
      refine lv_iload_n hx hb dX2_body_34 rfl (lv_at hl 1 rfl) ?_
      obtain ⟨g5, hf⟩ := hf
      refine g_iastN K hM 46 rfl rfl rfl g5 dX2_body_35 (fun H locs σ6 hσ6 hM => ?_)
      have hf := hf σ6 hσ6
      refine lv_aload_n hx hb dX2_body_36 rfl (lv_at hl 0 rfl) ?_
      refine lv_dup hx hb dX2_body_37 rfl ?_
      refine g_geti K kM hM 45 rfl q1498 rfl dX2_body_38 rfl ?_
      refine lv_iconst (v := 1) hx hb dX2_body_41 rfl ?_
      refine lv_iadd hx hb dX2_body_42 ?_
      refine g_putiN K kM hM 45 rfl q1498 rfl dX2_body_43 rfl rfl rfl (fun H locs σ7 hσ7 hM => ?_)
      have hf := hf σ7 hσ7
      refine lv_aload_n hx hb dX2_body_46 rfl (lv_at hl 0 rfl) ?_
      refine g_geti K kM hM 45 rfl q1498 rfl dX2_body_47 rfl ?_
      refine lv_iconst (v := 1) hx hb dX2_body_50 rfl ?_
      refine lv_isub hx hb dX2_body_51 ?_
      exact g_reti K hr hM ⟨Nat.le_refl _, Nat.le_refl _⟩ hf dX2_body_52
    · replace hf := hf.1 b4
      refine lv_bipush (v := -3) hx hb dX2_body_23 rfl ?_
      exact g_reti K hr hM ⟨Nat.le_refl _, Nat.le_refl _⟩ hf dX2_body_25
  · replace hf := hf.1 b3
    refine lv_iconst (v := -1) hx hb dX2_body_12 rfl ?_
    exact g_reti K hr hM ⟨Nat.le_refl _, Nat.le_refl _⟩ hf dX2_body_13
theorem w_X2_begins_19 {p : Program} {l : Launch} {e : Env} {s : State} {m : MethodId} {args : Array Value} {below : List Frame} {meth : Method} {c : Code} {r : GR} {A : Nat → Prop} {P : GS → Prop} (K : gC p s m args meth c cX2_begins 2 RX2 r A) (hr : meth.sig.returnType = none) : ∀ (σ : GS), f_X2_begins_19 P σ → gW dM p l e (gRm 0 0 0 0) s m args below meth c r A (zV P) 0 0 2 19 [(0, .ref r.2.1)] [] 0 0 σ := by
  obtain ⟨hx, hb, hml, hown, hts, hlk, hKK, hA⟩ := id K
  intro σ hf H locs ls hM hl
  unfold f_X2_begins_19 at hf
  refine lv_aload_n hx hb dX2_begins_19 rfl (lv_at hl 0 rfl) ?_
  refine lv_dup hx hb dX2_begins_20 rfl ?_
  refine g_geti K kM hM 48 rfl q1501 rfl dX2_begins_21 rfl ?_
  refine lv_iconst (v := 1) hx hb dX2_begins_24 rfl ?_
  refine lv_iadd hx hb dX2_begins_25 ?_
  refine g_putiN K kM hM 48 rfl q1501 rfl dX2_begins_26 rfl rfl rfl (fun H locs σ1 hσ1 hM => ?_)
  have hf := hf σ1 hσ1
  exact g_retv K hr hM ⟨Nat.le_refl _, Nat.le_refl _⟩ hf dX2_begins_29
theorem c_X2_begins (l : Launch) (r : GR) (A : Nat → Prop) (σ : GS) (x1 : Int32) (P : GS → Prop) (hf : f_X2_begins σ x1 P) : gMet dM l yX2_begins cX2_begins 2 none 0 0 0 0 r A σ [.ref r.2.1, .int x1] (zV P) := by
  refine g_enter (lv := [(0, .ref r.2.1), (1, .int x1)]) (by decide) (Nat.le_of_ble_eq_true rfl) rfl ?_
  intro p e s m below meth c ls K hr hM hl _
  obtain ⟨hx, hb, hml, hown, hts, hlk, hKK, hA⟩ := id K
  unfold f_X2_begins at hf
  refine lv_aload_n hx hb dX2_begins_0 rfl (lv_at hl 0 rfl) ?_
  refine g_geti K kM hM 48 rfl q1501 rfl dX2_begins_1 rfl ?_
  refine lv_bipush (v := 24) hx hb dX2_begins_4 rfl ?_
  refine lv_icmp_ge (tgt := 19) hx hb dX2_begins_6 (by decide) (fun b1 => ?_) (fun b1 => ?_)
  · replace hf := hf.1 b1
    exact w_X2_begins_19 K hr _ hf _ _ _ hM (lv_sub hl [0] rfl)
  · replace hf := hf.2 b1
    refine lv_aload_n hx hb dX2_begins_9 rfl (lv_at hl 0 rfl) ?_
    refine g_geta K kM hM 47 rfl q1500 rfl dX2_begins_10 rfl ?_
    refine lv_aload_n hx hb dX2_begins_13 rfl (lv_at hl 0 rfl) ?_
    refine g_geti K kM hM 48 rfl q1501 rfl dX2_begins_14 rfl ?_
    refine lv_iload_n hx hb dX2_begins_17 rfl (lv_at hl 1 rfl) ?_
    obtain ⟨g2, hf⟩ := hf
    refine g_iastN K hM 47 rfl rfl rfl g2 dX2_begins_18 (fun H locs σ3 hσ3 hM => ?_)
    have hf := hf σ3 hσ3
    exact w_X2_begins_19 K hr _ hf _ _ _ hM (lv_sub hl [0] rfl)
theorem co_X2_buysAs (l : Launch) (r : GR) (A : Nat → Prop) {fr lo : Nat} {c_buysAs : GS → Int32 → Int32 → (GS → Int32 → Prop) → Prop} (hB : 1 ≤ fr ∧ 21 ≤ lo) {f_buysAs_ l_buysAs_ : Nat} (H_buysAs : ∀ (σ : GS) (x1 : Int32) (x2 : Int32) (P : GS → Int32 → Prop), c_buysAs σ x1 x2 P → gMet dM l yX2_buysAs cX2_buysAs 3 (some .int) f_buysAs_ l_buysAs_ 0 0 r A σ [.ref r.2.1, .int x1, .int x2] (zI P)) (hR_buysAs : f_buysAs_ + 1 ≤ fr ∧ 8 + (3 + 11) + l_buysAs_ ≤ lo) (σ : GS) (x1 : Int32) (x2 : Int32) (P : GS → Int32 → Prop) (hf : o_X2_buysAs c_buysAs σ x1 x2 P) : gMet dM l yX2_buysAs cX2_buysAs 3 (some .int) fr lo 0 0 r A σ [.ref r.2.1, .int x1, .int x2] (zI P) := by
  refine g_enter (lv := [(0, .ref r.2.1), (1, .int x1), (2, .int x2)]) (by decide) (Nat.le_of_ble_eq_true rfl) rfl ?_
  intro p e s m below meth c ls K hr hM hl _
  obtain ⟨hx, hb, hml, hown, hts, hlk, hKK, hA⟩ := id K
  unfold o_X2_buysAs at hf
  refine lv_iload_n hx hb dX2_buysAs_0 rfl (lv_at hl 1 rfl) ?_
  refine lv_iconst (v := 1) hx hb dX2_buysAs_1 rfl ?_
  refine lv_icmp_ne (tgt := 20) hx hb dX2_buysAs_2 (by decide) (fun b1 => ?_) (fun b1 => ?_)
  · replace hf := hf.2 b1
    refine lv_iload_n hx hb dX2_buysAs_20 rfl (lv_at hl 1 rfl) ?_
    refine lv_iconst (v := 5) hx hb dX2_buysAs_21 rfl ?_
    refine lv_icmp_ne (tgt := 40) hx hb dX2_buysAs_22 (by decide) (fun b2 => ?_) (fun b2 => ?_)
    · replace hf := hf.2 b2
      refine lv_iload_n hx hb dX2_buysAs_40 rfl (lv_at hl 1 rfl) ?_
      refine lv_bipush (v := 6) hx hb dX2_buysAs_41 rfl ?_
      refine lv_icmp_ne (tgt := 61) hx hb dX2_buysAs_43 (by decide) (fun b3 => ?_) (fun b3 => ?_)
      · replace hf := hf.2 b3
        refine lv_aload_n hx hb dX2_buysAs_61 rfl (lv_at hl 0 rfl) ?_
        refine lv_iconst (v := 1) hx hb dX2_buysAs_62 rfl ?_
        refine g_cVv [.int (1 : Int32)] [] K kM hM hl (c_X2_begins l r A _ _ _ hf) q1926 q1928 qs75 q84 q1929 hdX2_begins ⟨Nat.le_trans (Nat.le_of_ble_eq_true rfl) hB.1, Nat.le_trans (Nat.le_of_ble_eq_true rfl) hB.2⟩ ⟨Nat.le_refl _, Nat.le_refl _⟩ rfl (Nat.le_of_ble_eq_true rfl) dX2_buysAs_63 (fun σ4 H locs hf hM => ?_)
        refine lv_iload_n hx hb dX2_buysAs_66 rfl (lv_at hl 2 rfl) ?_
        refine lv_aload_n hx hb dX2_buysAs_67 rfl (lv_at hl 0 rfl) ?_
        refine g_geti K kM hM 50 rfl q1503 rfl dX2_buysAs_68 rfl ?_
        refine lv_iadd hx hb dX2_buysAs_71 ?_
        exact g_reti K hr hM ⟨Nat.le_refl _, Nat.le_refl _⟩ hf dX2_buysAs_72
      · replace hf := hf.1 b3
        refine lv_aload_n hx hb dX2_buysAs_46 rfl (lv_at hl 0 rfl) ?_
        refine lv_bipush (v := 70) hx hb dX2_buysAs_47 rfl ?_
        refine g_cVv [.int (70 : Int32)] [] K kM hM hl (c_X2_begins l r A _ _ _ hf) q1926 q1928 qs75 q84 q1929 hdX2_begins ⟨Nat.le_trans (Nat.le_of_ble_eq_true rfl) hB.1, Nat.le_trans (Nat.le_of_ble_eq_true rfl) hB.2⟩ ⟨Nat.le_refl _, Nat.le_refl _⟩ rfl (Nat.le_of_ble_eq_true rfl) dX2_buysAs_49 (fun σ6 H locs hf hM => ?_)
        refine lv_aload_n hx hb dX2_buysAs_52 rfl (lv_at hl 0 rfl) ?_
        refine lv_iconst (v := 0) hx hb dX2_buysAs_53 rfl ?_
        refine lv_iload_n hx hb dX2_buysAs_54 rfl (lv_at hl 2 rfl) ?_
        refine g_cVi [.int (0 : Int32), .int x2] [] K kM hM hl (H_buysAs _ _ _ _ hf) q1922 q1924 qs74 q84 q1925 hdX2_buysAs ⟨hR_buysAs.1, hR_buysAs.2⟩ ⟨Nat.le_refl _, Nat.le_refl _⟩ rfl (Nat.le_of_ble_eq_true rfl) dX2_buysAs_55 (fun σ8 v9 H locs hf hM => ?_)
        refine lv_iconst (v := 2) hx hb dX2_buysAs_58 rfl ?_
        refine lv_imul hx hb dX2_buysAs_59 ?_
        exact g_reti K hr hM ⟨Nat.le_refl _, Nat.le_refl _⟩ hf dX2_buysAs_60
    · replace hf := hf.1 b2
      refine lv_aload_n hx hb dX2_buysAs_25 rfl (lv_at hl 0 rfl) ?_
      refine lv_bipush (v := 60) hx hb dX2_buysAs_26 rfl ?_
      refine g_cVv [.int (60 : Int32)] [] K kM hM hl (c_X2_begins l r A _ _ _ hf) q1926 q1928 qs75 q84 q1929 hdX2_begins ⟨Nat.le_trans (Nat.le_of_ble_eq_true rfl) hB.1, Nat.le_trans (Nat.le_of_ble_eq_true rfl) hB.2⟩ ⟨Nat.le_refl _, Nat.le_refl _⟩ rfl (Nat.le_of_ble_eq_true rfl) dX2_buysAs_28 (fun σ10 H locs hf hM => ?_)
      refine lv_aload_n hx hb dX2_buysAs_31 rfl (lv_at hl 0 rfl) ?_
      refine lv_iconst (v := 0) hx hb dX2_buysAs_32 rfl ?_
      refine lv_iload_n hx hb dX2_buysAs_33 rfl (lv_at hl 2 rfl) ?_
      refine lv_iconst (v := 1) hx hb dX2_buysAs_34 rfl ?_
      refine lv_iadd hx hb dX2_buysAs_35 ?_
      refine g_cVi [.int (0 : Int32), .int (x2 + (1 : Int32))] [] K kM hM hl (H_buysAs _ _ _ _ hf) q1922 q1924 qs74 q84 q1925 hdX2_buysAs ⟨hR_buysAs.1, hR_buysAs.2⟩ ⟨Nat.le_refl _, Nat.le_refl _⟩ rfl (Nat.le_of_ble_eq_true rfl) dX2_buysAs_36 (fun σ12 v13 H locs hf hM => ?_)
      exact g_reti K hr hM ⟨Nat.le_refl _, Nat.le_refl _⟩ hf dX2_buysAs_39
  · replace hf := hf.1 b1
    refine lv_aload_n hx hb dX2_buysAs_5 rfl (lv_at hl 0 rfl) ?_
    refine lv_bipush (v := 20) hx hb dX2_buysAs_6 rfl ?_
    refine g_cVv [.int (20 : Int32)] [] K kM hM hl (c_X2_begins l r A _ _ _ hf) q1926 q1928 qs75 q84 q1929 hdX2_begins ⟨Nat.le_trans (Nat.le_of_ble_eq_true rfl) hB.1, Nat.le_trans (Nat.le_of_ble_eq_true rfl) hB.2⟩ ⟨Nat.le_refl _, Nat.le_refl _⟩ rfl (Nat.le_of_ble_eq_true rfl) dX2_buysAs_8 (fun σ14 H locs hf hM => ?_)
    refine lv_aload_n hx hb dX2_buysAs_11 rfl (lv_at hl 0 rfl) ?_
    refine lv_iconst (v := 0) hx hb dX2_buysAs_12 rfl ?_
    refine lv_iload_n hx hb dX2_buysAs_13 rfl (lv_at hl 2 rfl) ?_
    refine g_cVi [.int (0 : Int32), .int x2] [] K kM hM hl (H_buysAs _ _ _ _ hf) q1922 q1924 qs74 q84 q1925 hdX2_buysAs ⟨hR_buysAs.1, hR_buysAs.2⟩ ⟨Nat.le_refl _, Nat.le_refl _⟩ rfl (Nat.le_of_ble_eq_true rfl) dX2_buysAs_14 (fun σ16 v17 H locs hf hM => ?_)
    refine lv_iconst (v := 3) hx hb dX2_buysAs_17 rfl ?_
    refine lv_iadd hx hb dX2_buysAs_18 ?_
    exact g_reti K hr hM ⟨Nat.le_refl _, Nat.le_refl _⟩ hf dX2_buysAs_19
theorem cd_X2_buysAs (l : Launch) (r : GR) (A : Nat → Prop) : ∀ (d : Nat) (σ : GS) (x1 : Int32) (x2 : Int32) (P : GS → Int32 → Prop), d_X2_buysAs d σ x1 x2 P → gMet dM l yX2_buysAs cX2_buysAs 3 (some .int) (1 + d) (21 + 22 * d) 0 0 r A σ [.ref r.2.1, .int x1, .int x2] (zI P) := by
  intro d
  induction d with
  | zero =>
    intro σ x1 x2 P hf
    exact absurd hf (fun h => h)
  | succ d ih =>
    intro σ x1 x2 P hf
    rw [d_X2_buysAs] at hf
    exact co_X2_buysAs l r A ⟨by omega, by omega⟩ ih ⟨by omega, by omega⟩ σ x1 x2 P hf
theorem c_X2_buysAs (l : Launch) (r : GR) (A : Nat → Prop) (σ : GS) (x1 : Int32) (x2 : Int32) (P : GS → Int32 → Prop) (hf : f_X2_buysAs σ x1 x2 P) : gMet dM l yX2_buysAs cX2_buysAs 3 (some .int) 5 109 0 0 r A σ [.ref r.2.1, .int x1, .int x2] (zI P) := cd_X2_buysAs l r A 4 σ x1 x2 P hf
theorem c_X2_isBody (l : Launch) (r : GR) (A : Nat → Prop) (σ : GS) (x1 : Int32) (P : GS → Int32 → Prop) (hf : f_X2_isBody σ x1 P) : gMet dM l yX2_isBody cX2_isBody 2 (some .boolean) 1 25 0 0 r A σ [.ref r.2.1, .int x1] (zI P) := by
  refine g_enter (lv := [(0, .ref r.2.1), (1, .int x1)]) (by decide) (Nat.le_of_ble_eq_true rfl) rfl ?_
  intro p e s m below meth c ls K hr hM hl _
  obtain ⟨hx, hb, hml, hown, hts, hlk, hKK, hA⟩ := id K
  unfold f_X2_isBody at hf
  refine lv_iload_n hx hb dX2_isBody_0 rfl (lv_at hl 1 rfl) ?_
  refine lv_i2l hx hb dX2_isBody_1 rfl ?_
  refine lv_lconst (v := 0) hx hb dX2_isBody_2 rfl ?_
  refine lv_aload_n hx hb dX2_isBody_3 rfl (lv_at hl 0 rfl) ?_
  refine g_geti K kM hM 45 rfl q1498 rfl dX2_isBody_4 rfl ?_
  refine lv_iconst (v := 1) hx hb dX2_isBody_7 rfl ?_
  refine lv_isub hx hb dX2_isBody_8 ?_
  refine lv_i2l hx hb dX2_isBody_9 rfl ?_
  refine g_cSi [.long x1.toInt64, .long (0 : Int64), .long (((gI σ 45) - (1 : Int32)).toInt64)] [] K hM hl (c_X2_within l r A _ _ _ _ _ hf) q1632 q1633 q84 q1634 hdX2_within ⟨Nat.le_of_ble_eq_true rfl, Nat.le_of_ble_eq_true rfl⟩ ⟨Nat.le_refl _, Nat.le_refl _⟩ rfl (Nat.le_of_ble_eq_true rfl) dX2_isBody_10 (fun σ1 v2 H locs hf hM => ?_)
  obtain ⟨g3, hf⟩ := hf
  exact g_retz K hr hM ⟨Nat.le_refl _, Nat.le_refl _⟩ g3 hf dX2_isBody_13
theorem wo_X2_lendsAs_36 {p : Program} {l : Launch} {e : Env} {s : State} {m : MethodId} {args : Array Value} {below : List Frame} {meth : Method} {c : Code} {r : GR} {A : Nat → Prop} {fr lo : Nat} {c_lendsAs : GS → Int32 → Int32 → (GS → Int32 → Prop) → Prop} {P : GS → Int32 → Prop} (K : gC p s m args meth c cX2_lendsAs 4 RX2 r A) (hr : meth.sig.returnType = (some .int)) (hB : 6 ≤ fr ∧ 131 ≤ lo) {f_lendsAs_ l_lendsAs_ : Nat} (H_lendsAs : ∀ (σ : GS) (x1 : Int32) (x2 : Int32) (P : GS → Int32 → Prop), c_lendsAs σ x1 x2 P → gMet dM l yX2_lendsAs cX2_lendsAs 4 (some .int) f_lendsAs_ l_lendsAs_ 0 0 r A σ [.ref r.2.1, .int x1, .int x2] (zI P)) (hR_lendsAs : f_lendsAs_ + 1 ≤ fr ∧ 8 + (4 + 11) + l_lendsAs_ ≤ lo) : ∀ (σ : GS) (x2 : Int32), o_X2_lendsAs_36 c_lendsAs P σ x2 → gW dM p l e (gRm fr lo 0 0) s m args below meth c r A (zI P) 0 0 4 36 [(0, .ref r.2.1), (2, .int x2)] [] 0 0 σ := by
  obtain ⟨hx, hb, hml, hown, hts, hlk, hKK, hA⟩ := id K
  intro σ x2 hf H locs ls hM hl
  unfold o_X2_lendsAs_36 at hf
  refine lv_aload_n hx hb dX2_lendsAs_36 rfl (lv_at hl 0 rfl) ?_
  refine lv_bipush (v := 50) hx hb dX2_lendsAs_37 rfl ?_
  refine g_cVv [.int (50 : Int32)] [] K kM hM hl (c_X2_begins l r A _ _ _ hf) q1926 q1928 qs75 q84 q1929 hdX2_begins ⟨Nat.le_trans (Nat.le_of_ble_eq_true rfl) hB.1, Nat.le_trans (Nat.le_of_ble_eq_true rfl) hB.2⟩ ⟨Nat.le_refl _, Nat.le_refl _⟩ rfl (Nat.le_of_ble_eq_true rfl) dX2_lendsAs_39 (fun σ1 H locs hf hM => ?_)
  refine lv_aload_n hx hb dX2_lendsAs_42 rfl (lv_at hl 0 rfl) ?_
  refine lv_iconst (v := 0) hx hb dX2_lendsAs_43 rfl ?_
  refine lv_iload_n hx hb dX2_lendsAs_44 rfl (lv_at hl 1 rfl) ?_
  refine g_cVi [.int (0 : Int32), .int x2] [] K kM hM hl (H_lendsAs _ _ _ _ hf) q1934 q1936 qs77 q84 q1937 hdX2_lendsAs ⟨hR_lendsAs.1, hR_lendsAs.2⟩ ⟨Nat.le_refl _, Nat.le_refl _⟩ rfl (Nat.le_of_ble_eq_true rfl) dX2_lendsAs_45 (fun σ3 v4 H locs hf hM => ?_)
  refine lv_istore_n (lv' := [(3, .int v4), (0, .ref r.2.1), (2, .int x2)]) hx hb dX2_lendsAs_48 rfl hl (by decide) rfl (fun ls hl => ?_)
  refine lv_iload_n hx hb dX2_lendsAs_49 rfl (lv_at hl 0 rfl) ?_
  refine lv_aload_n hx hb dX2_lendsAs_50 rfl (lv_at hl 1 rfl) ?_
  refine lv_aload_n hx hb dX2_lendsAs_51 rfl (lv_at hl 1 rfl) ?_
  refine g_geti K kM hM 49 rfl q1502 rfl dX2_lendsAs_52 rfl ?_
  refine lv_iconst (v := 2) hx hb dX2_lendsAs_55 rfl ?_
  refine g_cVi [.int (gI σ3 49), .int (2 : Int32)] [.int v4] K kM hM hl (c_X2_buysAs l r A _ _ _ _ hf) q1922 q1924 qs74 q84 q1925 hdX2_buysAs ⟨Nat.le_trans (Nat.le_of_ble_eq_true rfl) hB.1, Nat.le_trans (Nat.le_of_ble_eq_true rfl) hB.2⟩ ⟨Nat.le_refl _, Nat.le_refl _⟩ rfl (Nat.le_of_ble_eq_true rfl) dX2_lendsAs_56 (fun σ5 v6 H locs hf hM => ?_)
  refine lv_isub hx hb dX2_lendsAs_59 ?_
  exact g_reti K hr hM ⟨Nat.le_refl _, Nat.le_refl _⟩ hf dX2_lendsAs_60
theorem wo_X2_lendsAs_10 {p : Program} {l : Launch} {e : Env} {s : State} {m : MethodId} {args : Array Value} {below : List Frame} {meth : Method} {c : Code} {r : GR} {A : Nat → Prop} {fr lo : Nat} {c_lendsAs : GS → Int32 → Int32 → (GS → Int32 → Prop) → Prop} {P : GS → Int32 → Prop} (K : gC p s m args meth c cX2_lendsAs 4 RX2 r A) (hr : meth.sig.returnType = (some .int)) (hB : 6 ≤ fr ∧ 131 ≤ lo) {f_lendsAs_ l_lendsAs_ : Nat} (H_lendsAs : ∀ (σ : GS) (x1 : Int32) (x2 : Int32) (P : GS → Int32 → Prop), c_lendsAs σ x1 x2 P → gMet dM l yX2_lendsAs cX2_lendsAs 4 (some .int) f_lendsAs_ l_lendsAs_ 0 0 r A σ [.ref r.2.1, .int x1, .int x2] (zI P)) (hR_lendsAs : f_lendsAs_ + 1 ≤ fr ∧ 8 + (4 + 11) + l_lendsAs_ ≤ lo) : ∀ (σ : GS) (x2 : Int32), o_X2_lendsAs_10 c_lendsAs P σ x2 → gW dM p l e (gRm fr lo 0 0) s m args below meth c r A (zI P) 0 0 4 10 [(0, .ref r.2.1), (2, .int x2)] [] 0 0 σ := by
  obtain ⟨hx, hb, hml, hown, hts, hlk, hKK, hA⟩ := id K
  intro σ x2 hf H locs ls hM hl
  unfold o_X2_lendsAs_10 at hf
  refine lv_aload_n hx hb dX2_lendsAs_10 rfl (lv_at hl 0 rfl) ?_
  refine lv_bipush (v := 40) hx hb dX2_lendsAs_11 rfl ?_
  refine g_cVv [.int (40 : Int32)] [] K kM hM hl (c_X2_begins l r A _ _ _ hf) q1926 q1928 qs75 q84 q1929 hdX2_begins ⟨Nat.le_trans (Nat.le_of_ble_eq_true rfl) hB.1, Nat.le_trans (Nat.le_of_ble_eq_true rfl) hB.2⟩ ⟨Nat.le_refl _, Nat.le_refl _⟩ rfl (Nat.le_of_ble_eq_true rfl) dX2_lendsAs_13 (fun σ1 H locs hf hM => ?_)
  refine lv_aload_n hx hb dX2_lendsAs_16 rfl (lv_at hl 0 rfl) ?_
  refine lv_iconst (v := 0) hx hb dX2_lendsAs_17 rfl ?_
  refine lv_iload_n hx hb dX2_lendsAs_18 rfl (lv_at hl 1 rfl) ?_
  refine g_cVi [.int (0 : Int32), .int x2] [] K kM hM hl (H_lendsAs _ _ _ _ hf) q1934 q1936 qs77 q84 q1937 hdX2_lendsAs ⟨hR_lendsAs.1, hR_lendsAs.2⟩ ⟨Nat.le_refl _, Nat.le_refl _⟩ rfl (Nat.le_of_ble_eq_true rfl) dX2_lendsAs_19 (fun σ3 v4 H locs hf hM => ?_)
  refine lv_iconst (v := 3) hx hb dX2_lendsAs_22 rfl ?_
  refine lv_imul hx hb dX2_lendsAs_23 ?_
  exact g_reti K hr hM ⟨Nat.le_refl _, Nat.le_refl _⟩ hf dX2_lendsAs_24
theorem co_X2_lendsAs (l : Launch) (r : GR) (A : Nat → Prop) {fr lo : Nat} {c_lendsAs : GS → Int32 → Int32 → (GS → Int32 → Prop) → Prop} (hB : 6 ≤ fr ∧ 131 ≤ lo) {f_lendsAs_ l_lendsAs_ : Nat} (H_lendsAs : ∀ (σ : GS) (x1 : Int32) (x2 : Int32) (P : GS → Int32 → Prop), c_lendsAs σ x1 x2 P → gMet dM l yX2_lendsAs cX2_lendsAs 4 (some .int) f_lendsAs_ l_lendsAs_ 0 0 r A σ [.ref r.2.1, .int x1, .int x2] (zI P)) (hR_lendsAs : f_lendsAs_ + 1 ≤ fr ∧ 8 + (4 + 11) + l_lendsAs_ ≤ lo) (σ : GS) (x1 : Int32) (x2 : Int32) (P : GS → Int32 → Prop) (hf : o_X2_lendsAs c_lendsAs σ x1 x2 P) : gMet dM l yX2_lendsAs cX2_lendsAs 4 (some .int) fr lo 0 0 r A σ [.ref r.2.1, .int x1, .int x2] (zI P) := by
  refine g_enter (lv := [(0, .ref r.2.1), (1, .int x1), (2, .int x2)]) (by decide) (Nat.le_of_ble_eq_true rfl) rfl ?_
  intro p e s m below meth c ls K hr hM hl _
  obtain ⟨hx, hb, hml, hown, hts, hlk, hKK, hA⟩ := id K
  unfold o_X2_lendsAs at hf
  refine lv_iload_n hx hb dX2_lendsAs_0 rfl (lv_at hl 1 rfl) ?_
  refine lv_iconst (v := 3) hx hb dX2_lendsAs_1 rfl ?_
  refine lv_icmp_eq (tgt := 10) hx hb dX2_lendsAs_2 (by decide) (fun b1 => ?_) (fun b1 => ?_)
  · replace hf := hf.1 b1
    exact wo_X2_lendsAs_10 K hr hB H_lendsAs hR_lendsAs _ _ hf _ _ _ hM (lv_sub hl [0, 2] rfl)
  · replace hf := hf.2 b1
    refine lv_iload_n hx hb dX2_lendsAs_5 rfl (lv_at hl 1 rfl) ?_
    refine lv_iconst (v := 5) hx hb dX2_lendsAs_6 rfl ?_
    refine lv_icmp_ne (tgt := 25) hx hb dX2_lendsAs_7 (by decide) (fun b2 => ?_) (fun b2 => ?_)
    · replace hf := hf.2 b2
      refine lv_iload_n hx hb dX2_lendsAs_25 rfl (lv_at hl 1 rfl) ?_
      refine lv_iconst (v := 4) hx hb dX2_lendsAs_26 rfl ?_
      refine lv_icmp_eq (tgt := 36) hx hb dX2_lendsAs_27 (by decide) (fun b3 => ?_) (fun b3 => ?_)
      · replace hf := hf.1 b3
        exact wo_X2_lendsAs_36 K hr hB H_lendsAs hR_lendsAs _ _ hf _ _ _ hM (lv_sub hl [0, 2] rfl)
      · replace hf := hf.2 b3
        refine lv_iload_n hx hb dX2_lendsAs_30 rfl (lv_at hl 1 rfl) ?_
        refine lv_bipush (v := 7) hx hb dX2_lendsAs_31 rfl ?_
        refine lv_icmp_ne (tgt := 61) hx hb dX2_lendsAs_33 (by decide) (fun b4 => ?_) (fun b4 => ?_)
        · replace hf := hf.2 b4
          refine lv_aload_n hx hb dX2_lendsAs_61 rfl (lv_at hl 0 rfl) ?_
          refine lv_bipush (v := 11) hx hb dX2_lendsAs_62 rfl ?_
          refine g_cVv [.int (11 : Int32)] [] K kM hM hl (c_X2_begins l r A _ _ _ hf) q1926 q1928 qs75 q84 q1929 hdX2_begins ⟨Nat.le_trans (Nat.le_of_ble_eq_true rfl) hB.1, Nat.le_trans (Nat.le_of_ble_eq_true rfl) hB.2⟩ ⟨Nat.le_refl _, Nat.le_refl _⟩ rfl (Nat.le_of_ble_eq_true rfl) dX2_lendsAs_64 (fun σ5 H locs hf hM => ?_)
          refine lv_iload_n hx hb dX2_lendsAs_67 rfl (lv_at hl 2 rfl) ?_
          refine lv_aload_n hx hb dX2_lendsAs_68 rfl (lv_at hl 0 rfl) ?_
          refine g_geti K kM hM 50 rfl q1503 rfl dX2_lendsAs_69 rfl ?_
          refine lv_ixor hx hb dX2_lendsAs_72 ?_
          exact g_reti K hr hM ⟨Nat.le_refl _, Nat.le_refl _⟩ hf dX2_lendsAs_73
        · replace hf := hf.1 b4
          exact wo_X2_lendsAs_36 K hr hB H_lendsAs hR_lendsAs _ _ hf _ _ _ hM (lv_sub hl [0, 2] rfl)
    · replace hf := hf.1 b2
      exact wo_X2_lendsAs_10 K hr hB H_lendsAs hR_lendsAs _ _ hf _ _ _ hM (lv_sub hl [0, 2] rfl)
theorem cd_X2_lendsAs (l : Launch) (r : GR) (A : Nat → Prop) : ∀ (d : Nat) (σ : GS) (x1 : Int32) (x2 : Int32) (P : GS → Int32 → Prop), d_X2_lendsAs d σ x1 x2 P → gMet dM l yX2_lendsAs cX2_lendsAs 4 (some .int) (6 + d) (131 + 23 * d) 0 0 r A σ [.ref r.2.1, .int x1, .int x2] (zI P) := by
  intro d
  induction d with
  | zero =>
    intro σ x1 x2 P hf
    exact absurd hf (fun h => h)
  | succ d ih =>
    intro σ x1 x2 P hf
    rw [d_X2_lendsAs] at hf
    exact co_X2_lendsAs l r A ⟨by omega, by omega⟩ ih ⟨by omega, by omega⟩ σ x1 x2 P hf
theorem c_X2_lendsAs (l : Launch) (r : GR) (A : Nat → Prop) (σ : GS) (x1 : Int32) (x2 : Int32) (P : GS → Int32 → Prop) (hf : f_X2_lendsAs σ x1 x2 P) : gMet dM l yX2_lendsAs cX2_lendsAs 4 (some .int) 10 223 0 0 r A σ [.ref r.2.1, .int x1, .int x2] (zI P) := cd_X2_lendsAs l r A 4 σ x1 x2 P hf
theorem wo_X2_keepsAs_51 {p : Program} {l : Launch} {e : Env} {s : State} {m : MethodId} {args : Array Value} {below : List Frame} {meth : Method} {c : Code} {r : GR} {A : Nat → Prop} {fr lo : Nat} {c_keepsAs : GS → Int32 → Int32 → (GS → Int32 → Prop) → Prop} {P : GS → Int32 → Prop} (K : gC p s m args meth c cX2_keepsAs 4 RX2 r A) (hr : meth.sig.returnType = (some .int)) (hB : 11 ≤ fr ∧ 246 ≤ lo) {f_keepsAs_ l_keepsAs_ : Nat} (H_keepsAs : ∀ (σ : GS) (x1 : Int32) (x2 : Int32) (P : GS → Int32 → Prop), c_keepsAs σ x1 x2 P → gMet dM l yX2_keepsAs cX2_keepsAs 4 (some .int) f_keepsAs_ l_keepsAs_ 0 0 r A σ [.ref r.2.1, .int x1, .int x2] (zI P)) (hR_keepsAs : f_keepsAs_ + 1 ≤ fr ∧ 8 + (4 + 11) + l_keepsAs_ ≤ lo) : ∀ (σ : GS) (x2 : Int32), o_X2_keepsAs_51 c_keepsAs P σ x2 → gW dM p l e (gRm fr lo 0 0) s m args below meth c r A (zI P) 0 0 4 51 [(0, .ref r.2.1), (2, .int x2)] [] 0 0 σ := by
  obtain ⟨hx, hb, hml, hown, hts, hlk, hKK, hA⟩ := id K
  intro σ x2 hf H locs ls hM hl
  unfold o_X2_keepsAs_51 at hf
  refine lv_aload_n hx hb dX2_keepsAs_51 rfl (lv_at hl 0 rfl) ?_
  refine lv_bipush (v := 30) hx hb dX2_keepsAs_52 rfl ?_
  refine g_cVv [.int (30 : Int32)] [] K kM hM hl (c_X2_begins l r A _ _ _ hf) q1926 q1928 qs75 q84 q1929 hdX2_begins ⟨Nat.le_trans (Nat.le_of_ble_eq_true rfl) hB.1, Nat.le_trans (Nat.le_of_ble_eq_true rfl) hB.2⟩ ⟨Nat.le_refl _, Nat.le_refl _⟩ rfl (Nat.le_of_ble_eq_true rfl) dX2_keepsAs_54 (fun σ1 H locs hf hM => ?_)
  refine lv_aload_n hx hb dX2_keepsAs_57 rfl (lv_at hl 0 rfl) ?_
  refine lv_iconst (v := 0) hx hb dX2_keepsAs_58 rfl ?_
  refine lv_iload_n hx hb dX2_keepsAs_59 rfl (lv_at hl 1 rfl) ?_
  refine g_cVi [.int (0 : Int32), .int x2] [] K kM hM hl (H_keepsAs _ _ _ _ hf) q1930 q1932 qs76 q84 q1933 hdX2_keepsAs ⟨hR_keepsAs.1, hR_keepsAs.2⟩ ⟨Nat.le_refl _, Nat.le_refl _⟩ rfl (Nat.le_of_ble_eq_true rfl) dX2_keepsAs_60 (fun σ3 v4 H locs hf hM => ?_)
  refine lv_ineg hx hb dX2_keepsAs_63 ?_
  exact g_reti K hr hM ⟨Nat.le_refl _, Nat.le_refl _⟩ hf dX2_keepsAs_64
theorem co_X2_keepsAs (l : Launch) (r : GR) (A : Nat → Prop) {fr lo : Nat} {c_keepsAs : GS → Int32 → Int32 → (GS → Int32 → Prop) → Prop} (hB : 11 ≤ fr ∧ 246 ≤ lo) {f_keepsAs_ l_keepsAs_ : Nat} (H_keepsAs : ∀ (σ : GS) (x1 : Int32) (x2 : Int32) (P : GS → Int32 → Prop), c_keepsAs σ x1 x2 P → gMet dM l yX2_keepsAs cX2_keepsAs 4 (some .int) f_keepsAs_ l_keepsAs_ 0 0 r A σ [.ref r.2.1, .int x1, .int x2] (zI P)) (hR_keepsAs : f_keepsAs_ + 1 ≤ fr ∧ 8 + (4 + 11) + l_keepsAs_ ≤ lo) (σ : GS) (x1 : Int32) (x2 : Int32) (P : GS → Int32 → Prop) (hf : o_X2_keepsAs c_keepsAs σ x1 x2 P) : gMet dM l yX2_keepsAs cX2_keepsAs 4 (some .int) fr lo 0 0 r A σ [.ref r.2.1, .int x1, .int x2] (zI P) := by
  refine g_enter (lv := [(0, .ref r.2.1), (1, .int x1), (2, .int x2)]) (by decide) (Nat.le_of_ble_eq_true rfl) rfl ?_
  intro p e s m below meth c ls K hr hM hl _
  obtain ⟨hx, hb, hml, hown, hts, hlk, hKK, hA⟩ := id K
  unfold o_X2_keepsAs at hf
  refine lv_iload_n hx hb dX2_keepsAs_0 rfl (lv_at hl 1 rfl) ?_
  refine lv_bipush (v := 7) hx hb dX2_keepsAs_1 rfl ?_
  refine lv_icmp_ne (tgt := 31) hx hb dX2_keepsAs_3 (by decide) (fun b1 => ?_) (fun b1 => ?_)
  · replace hf := hf.2 b1
    refine lv_iload_n hx hb dX2_keepsAs_31 rfl (lv_at hl 1 rfl) ?_
    refine lv_iconst (v := 2) hx hb dX2_keepsAs_32 rfl ?_
    refine lv_icmp_eq (tgt := 51) hx hb dX2_keepsAs_33 (by decide) (fun b2 => ?_) (fun b2 => ?_)
    · replace hf := hf.1 b2
      exact wo_X2_keepsAs_51 K hr hB H_keepsAs hR_keepsAs _ _ hf _ _ _ hM (lv_sub hl [0, 2] rfl)
    · replace hf := hf.2 b2
      refine lv_iload_n hx hb dX2_keepsAs_36 rfl (lv_at hl 1 rfl) ?_
      refine lv_iconst (v := 3) hx hb dX2_keepsAs_37 rfl ?_
      refine lv_icmp_eq (tgt := 51) hx hb dX2_keepsAs_38 (by decide) (fun b3 => ?_) (fun b3 => ?_)
      · replace hf := hf.1 b3
        exact wo_X2_keepsAs_51 K hr hB H_keepsAs hR_keepsAs _ _ hf _ _ _ hM (lv_sub hl [0, 2] rfl)
      · replace hf := hf.2 b3
        refine lv_iload_n hx hb dX2_keepsAs_41 rfl (lv_at hl 1 rfl) ?_
        refine lv_iconst (v := 4) hx hb dX2_keepsAs_42 rfl ?_
        refine lv_icmp_eq (tgt := 51) hx hb dX2_keepsAs_43 (by decide) (fun b4 => ?_) (fun b4 => ?_)
        · replace hf := hf.1 b4
          exact wo_X2_keepsAs_51 K hr hB H_keepsAs hR_keepsAs _ _ hf _ _ _ hM (lv_sub hl [0, 2] rfl)
        · replace hf := hf.2 b4
          refine lv_iload_n hx hb dX2_keepsAs_46 rfl (lv_at hl 1 rfl) ?_
          refine lv_iconst (v := 5) hx hb dX2_keepsAs_47 rfl ?_
          refine lv_icmp_ne (tgt := 65) hx hb dX2_keepsAs_48 (by decide) (fun b5 => ?_) (fun b5 => ?_)
          · replace hf := hf.2 b5
            refine lv_aload_n hx hb dX2_keepsAs_65 rfl (lv_at hl 0 rfl) ?_
            refine lv_bipush (v := 10) hx hb dX2_keepsAs_66 rfl ?_
            refine g_cVv [.int (10 : Int32)] [] K kM hM hl (c_X2_begins l r A _ _ _ hf) q1926 q1928 qs75 q84 q1929 hdX2_begins ⟨Nat.le_trans (Nat.le_of_ble_eq_true rfl) hB.1, Nat.le_trans (Nat.le_of_ble_eq_true rfl) hB.2⟩ ⟨Nat.le_refl _, Nat.le_refl _⟩ rfl (Nat.le_of_ble_eq_true rfl) dX2_keepsAs_68 (fun σ6 H locs hf hM => ?_)
            refine lv_aload_n hx hb dX2_keepsAs_71 rfl (lv_at hl 0 rfl) ?_
            refine lv_aload_n hx hb dX2_keepsAs_72 rfl (lv_at hl 0 rfl) ?_
            refine g_geti K kM hM 49 rfl q1502 rfl dX2_keepsAs_73 rfl ?_
            refine lv_iload_n hx hb dX2_keepsAs_76 rfl (lv_at hl 2 rfl) ?_
            refine g_cVi [.int (gI σ6 49), .int x2] [] K kM hM hl (c_X2_buysAs l r A _ _ _ _ hf) q1922 q1924 qs74 q84 q1925 hdX2_buysAs ⟨Nat.le_trans (Nat.le_of_ble_eq_true rfl) hB.1, Nat.le_trans (Nat.le_of_ble_eq_true rfl) hB.2⟩ ⟨Nat.le_refl _, Nat.le_refl _⟩ rfl (Nat.le_of_ble_eq_true rfl) dX2_keepsAs_77 (fun σ8 v9 H locs hf hM => ?_)
            refine lv_iconst (v := 2) hx hb dX2_keepsAs_80 rfl ?_
            refine lv_imul hx hb dX2_keepsAs_81 ?_
            exact g_reti K hr hM ⟨Nat.le_refl _, Nat.le_refl _⟩ hf dX2_keepsAs_82
          · replace hf := hf.1 b5
            exact wo_X2_keepsAs_51 K hr hB H_keepsAs hR_keepsAs _ _ hf _ _ _ hM (lv_sub hl [0, 2] rfl)
  · replace hf := hf.1 b1
    refine lv_aload_n hx hb dX2_keepsAs_6 rfl (lv_at hl 0 rfl) ?_
    refine lv_bipush (v := 80) hx hb dX2_keepsAs_7 rfl ?_
    refine g_cVv [.int (80 : Int32)] [] K kM hM hl (c_X2_begins l r A _ _ _ hf) q1926 q1928 qs75 q84 q1929 hdX2_begins ⟨Nat.le_trans (Nat.le_of_ble_eq_true rfl) hB.1, Nat.le_trans (Nat.le_of_ble_eq_true rfl) hB.2⟩ ⟨Nat.le_refl _, Nat.le_refl _⟩ rfl (Nat.le_of_ble_eq_true rfl) dX2_keepsAs_9 (fun σ10 H locs hf hM => ?_)
    refine lv_aload_n hx hb dX2_keepsAs_12 rfl (lv_at hl 0 rfl) ?_
    refine lv_iconst (v := 4) hx hb dX2_keepsAs_13 rfl ?_
    refine lv_iload_n hx hb dX2_keepsAs_14 rfl (lv_at hl 2 rfl) ?_
    refine g_cVi [.int (4 : Int32), .int x2] [] K kM hM hl (H_keepsAs _ _ _ _ hf) q1930 q1932 qs76 q84 q1933 hdX2_keepsAs ⟨hR_keepsAs.1, hR_keepsAs.2⟩ ⟨Nat.le_refl _, Nat.le_refl _⟩ rfl (Nat.le_of_ble_eq_true rfl) dX2_keepsAs_15 (fun σ12 v13 H locs hf hM => ?_)
    refine lv_istore_n (lv' := [(3, .int v13), (0, .ref r.2.1), (1, .int x1), (2, .int x2)]) hx hb dX2_keepsAs_18 rfl hl (by decide) rfl (fun ls hl => ?_)
    refine lv_iload_n hx hb dX2_keepsAs_19 rfl (lv_at hl 0 rfl) ?_
    refine lv_aload_n hx hb dX2_keepsAs_20 rfl (lv_at hl 1 rfl) ?_
    refine lv_aload_n hx hb dX2_keepsAs_21 rfl (lv_at hl 1 rfl) ?_
    refine g_geti K kM hM 49 rfl q1502 rfl dX2_keepsAs_22 rfl ?_
    refine lv_iconst (v := 2) hx hb dX2_keepsAs_25 rfl ?_
    refine g_cVi [.int (gI σ12 49), .int (2 : Int32)] [.int v13] K kM hM hl (c_X2_lendsAs l r A _ _ _ _ hf) q1934 q1936 qs77 q84 q1937 hdX2_lendsAs ⟨Nat.le_trans (Nat.le_of_ble_eq_true rfl) hB.1, Nat.le_trans (Nat.le_of_ble_eq_true rfl) hB.2⟩ ⟨Nat.le_refl _, Nat.le_refl _⟩ rfl (Nat.le_of_ble_eq_true rfl) dX2_keepsAs_26 (fun σ14 v15 H locs hf hM => ?_)
    refine lv_iadd hx hb dX2_keepsAs_29 ?_
    exact g_reti K hr hM ⟨Nat.le_refl _, Nat.le_refl _⟩ hf dX2_keepsAs_30
theorem cd_X2_keepsAs (l : Launch) (r : GR) (A : Nat → Prop) : ∀ (d : Nat) (σ : GS) (x1 : Int32) (x2 : Int32) (P : GS → Int32 → Prop), d_X2_keepsAs d σ x1 x2 P → gMet dM l yX2_keepsAs cX2_keepsAs 4 (some .int) (11 + d) (246 + 23 * d) 0 0 r A σ [.ref r.2.1, .int x1, .int x2] (zI P) := by
  intro d
  induction d with
  | zero =>
    intro σ x1 x2 P hf
    exact absurd hf (fun h => h)
  | succ d ih =>
    intro σ x1 x2 P hf
    rw [d_X2_keepsAs] at hf
    exact co_X2_keepsAs l r A ⟨by omega, by omega⟩ ih ⟨by omega, by omega⟩ σ x1 x2 P hf
theorem c_X2_keepsAs (l : Launch) (r : GR) (A : Nat → Prop) (σ : GS) (x1 : Int32) (x2 : Int32) (P : GS → Int32 → Prop) (hf : f_X2_keepsAs σ x1 x2 P) : gMet dM l yX2_keepsAs cX2_keepsAs 4 (some .int) 15 338 0 0 r A σ [.ref r.2.1, .int x1, .int x2] (zI P) := cd_X2_keepsAs l r A 4 σ x1 x2 P hf
theorem co_X2_tellsAs (l : Launch) (r : GR) (A : Nat → Prop) {fr lo : Nat} {c_tellsAs : GS → Int32 → Int32 → (GS → Int32 → Prop) → Prop} (hB : 16 ≤ fr ∧ 361 ≤ lo) {f_tellsAs_ l_tellsAs_ : Nat} (H_tellsAs : ∀ (σ : GS) (x1 : Int32) (x2 : Int32) (P : GS → Int32 → Prop), c_tellsAs σ x1 x2 P → gMet dM l yX2_tellsAs cX2_tellsAs 4 (some .int) f_tellsAs_ l_tellsAs_ 0 0 r A σ [.ref r.2.1, .int x1, .int x2] (zI P)) (hR_tellsAs : f_tellsAs_ + 1 ≤ fr ∧ 8 + (4 + 11) + l_tellsAs_ ≤ lo) (σ : GS) (x1 : Int32) (x2 : Int32) (P : GS → Int32 → Prop) (hf : o_X2_tellsAs c_tellsAs σ x1 x2 P) : gMet dM l yX2_tellsAs cX2_tellsAs 4 (some .int) fr lo 0 0 r A σ [.ref r.2.1, .int x1, .int x2] (zI P) := by
  refine g_enter (lv := [(0, .ref r.2.1), (1, .int x1), (2, .int x2)]) (by decide) (Nat.le_of_ble_eq_true rfl) rfl ?_
  intro p e s m below meth c ls K hr hM hl _
  obtain ⟨hx, hb, hml, hown, hts, hlk, hKK, hA⟩ := id K
  unfold o_X2_tellsAs at hf
  refine lv_iload_n hx hb dX2_tellsAs_0 rfl (lv_at hl 1 rfl) ?_
  refine lv_iconst (v := 5) hx hb dX2_tellsAs_1 rfl ?_
  refine lv_icmp_ne (tgt := 20) hx hb dX2_tellsAs_2 (by decide) (fun b1 => ?_) (fun b1 => ?_)
  · replace hf := hf.2 b1
    refine lv_iload_n hx hb dX2_tellsAs_20 rfl (lv_at hl 1 rfl) ?_
    refine lv_bipush (v := 7) hx hb dX2_tellsAs_21 rfl ?_
    refine lv_icmp_ne (tgt := 41) hx hb dX2_tellsAs_23 (by decide) (fun b2 => ?_) (fun b2 => ?_)
    · replace hf := hf.2 b2
      refine lv_aload_n hx hb dX2_tellsAs_41 rfl (lv_at hl 0 rfl) ?_
      refine lv_iconst (v := 2) hx hb dX2_tellsAs_42 rfl ?_
      refine g_cVv [.int (2 : Int32)] [] K kM hM hl (c_X2_begins l r A _ _ _ hf) q1926 q1928 qs75 q84 q1929 hdX2_begins ⟨Nat.le_trans (Nat.le_of_ble_eq_true rfl) hB.1, Nat.le_trans (Nat.le_of_ble_eq_true rfl) hB.2⟩ ⟨Nat.le_refl _, Nat.le_refl _⟩ rfl (Nat.le_of_ble_eq_true rfl) dX2_tellsAs_43 (fun σ3 H locs hf hM => ?_)
      refine lv_aload_n hx hb dX2_tellsAs_46 rfl (lv_at hl 0 rfl) ?_
      refine lv_aload_n hx hb dX2_tellsAs_47 rfl (lv_at hl 0 rfl) ?_
      refine g_geti K kM hM 49 rfl q1502 rfl dX2_tellsAs_48 rfl ?_
      refine lv_iload_n hx hb dX2_tellsAs_51 rfl (lv_at hl 2 rfl) ?_
      refine g_cVi [.int (gI σ3 49), .int x2] [] K kM hM hl (c_X2_keepsAs l r A _ _ _ _ hf) q1930 q1932 qs76 q84 q1933 hdX2_keepsAs ⟨Nat.le_trans (Nat.le_of_ble_eq_true rfl) hB.1, Nat.le_trans (Nat.le_of_ble_eq_true rfl) hB.2⟩ ⟨Nat.le_refl _, Nat.le_refl _⟩ rfl (Nat.le_of_ble_eq_true rfl) dX2_tellsAs_52 (fun σ5 v6 H locs hf hM => ?_)
      refine lv_istore_n (lv' := [(3, .int v6), (0, .ref r.2.1), (1, .int x1), (2, .int x2)]) hx hb dX2_tellsAs_55 rfl hl (by decide) rfl (fun ls hl => ?_)
      refine lv_iload_n hx hb dX2_tellsAs_56 rfl (lv_at hl 0 rfl) ?_
      refine lv_aload_n hx hb dX2_tellsAs_57 rfl (lv_at hl 1 rfl) ?_
      refine lv_aload_n hx hb dX2_tellsAs_58 rfl (lv_at hl 1 rfl) ?_
      refine g_geti K kM hM 49 rfl q1502 rfl dX2_tellsAs_59 rfl ?_
      refine lv_iconst (v := 1) hx hb dX2_tellsAs_62 rfl ?_
      refine g_cVi [.int (gI σ5 49), .int (1 : Int32)] [.int v6] K kM hM hl (c_X2_lendsAs l r A _ _ _ _ hf) q1934 q1936 qs77 q84 q1937 hdX2_lendsAs ⟨Nat.le_trans (Nat.le_of_ble_eq_true rfl) hB.1, Nat.le_trans (Nat.le_of_ble_eq_true rfl) hB.2⟩ ⟨Nat.le_refl _, Nat.le_refl _⟩ rfl (Nat.le_of_ble_eq_true rfl) dX2_tellsAs_63 (fun σ7 v8 H locs hf hM => ?_)
      refine lv_isub hx hb dX2_tellsAs_66 ?_
      exact g_reti K hr hM ⟨Nat.le_refl _, Nat.le_refl _⟩ hf dX2_tellsAs_67
    · replace hf := hf.1 b2
      refine lv_aload_n hx hb dX2_tellsAs_26 rfl (lv_at hl 0 rfl) ?_
      refine lv_bipush (v := 81) hx hb dX2_tellsAs_27 rfl ?_
      refine g_cVv [.int (81 : Int32)] [] K kM hM hl (c_X2_begins l r A _ _ _ hf) q1926 q1928 qs75 q84 q1929 hdX2_begins ⟨Nat.le_trans (Nat.le_of_ble_eq_true rfl) hB.1, Nat.le_trans (Nat.le_of_ble_eq_true rfl) hB.2⟩ ⟨Nat.le_refl _, Nat.le_refl _⟩ rfl (Nat.le_of_ble_eq_true rfl) dX2_tellsAs_29 (fun σ9 H locs hf hM => ?_)
      refine lv_aload_n hx hb dX2_tellsAs_32 rfl (lv_at hl 0 rfl) ?_
      refine lv_iconst (v := 4) hx hb dX2_tellsAs_33 rfl ?_
      refine lv_iload_n hx hb dX2_tellsAs_34 rfl (lv_at hl 2 rfl) ?_
      refine g_cVi [.int (4 : Int32), .int x2] [] K kM hM hl (H_tellsAs _ _ _ _ hf) q1938 q1940 qs78 q84 q1941 hdX2_tellsAs ⟨hR_tellsAs.1, hR_tellsAs.2⟩ ⟨Nat.le_refl _, Nat.le_refl _⟩ rfl (Nat.le_of_ble_eq_true rfl) dX2_tellsAs_35 (fun σ11 v12 H locs hf hM => ?_)
      refine lv_iconst (v := 1) hx hb dX2_tellsAs_38 rfl ?_
      refine lv_isub hx hb dX2_tellsAs_39 ?_
      exact g_reti K hr hM ⟨Nat.le_refl _, Nat.le_refl _⟩ hf dX2_tellsAs_40
  · replace hf := hf.1 b1
    refine lv_aload_n hx hb dX2_tellsAs_5 rfl (lv_at hl 0 rfl) ?_
    refine lv_bipush (v := 61) hx hb dX2_tellsAs_6 rfl ?_
    refine g_cVv [.int (61 : Int32)] [] K kM hM hl (c_X2_begins l r A _ _ _ hf) q1926 q1928 qs75 q84 q1929 hdX2_begins ⟨Nat.le_trans (Nat.le_of_ble_eq_true rfl) hB.1, Nat.le_trans (Nat.le_of_ble_eq_true rfl) hB.2⟩ ⟨Nat.le_refl _, Nat.le_refl _⟩ rfl (Nat.le_of_ble_eq_true rfl) dX2_tellsAs_8 (fun σ13 H locs hf hM => ?_)
    refine lv_aload_n hx hb dX2_tellsAs_11 rfl (lv_at hl 0 rfl) ?_
    refine lv_iconst (v := 3) hx hb dX2_tellsAs_12 rfl ?_
    refine lv_iload_n hx hb dX2_tellsAs_13 rfl (lv_at hl 2 rfl) ?_
    refine g_cVi [.int (3 : Int32), .int x2] [] K kM hM hl (H_tellsAs _ _ _ _ hf) q1938 q1940 qs78 q84 q1941 hdX2_tellsAs ⟨hR_tellsAs.1, hR_tellsAs.2⟩ ⟨Nat.le_refl _, Nat.le_refl _⟩ rfl (Nat.le_of_ble_eq_true rfl) dX2_tellsAs_14 (fun σ15 v16 H locs hf hM => ?_)
    refine lv_iconst (v := 5) hx hb dX2_tellsAs_17 rfl ?_
    refine lv_ixor hx hb dX2_tellsAs_18 ?_
    exact g_reti K hr hM ⟨Nat.le_refl _, Nat.le_refl _⟩ hf dX2_tellsAs_19
theorem cd_X2_tellsAs (l : Launch) (r : GR) (A : Nat → Prop) : ∀ (d : Nat) (σ : GS) (x1 : Int32) (x2 : Int32) (P : GS → Int32 → Prop), d_X2_tellsAs d σ x1 x2 P → gMet dM l yX2_tellsAs cX2_tellsAs 4 (some .int) (16 + d) (361 + 23 * d) 0 0 r A σ [.ref r.2.1, .int x1, .int x2] (zI P) := by
  intro d
  induction d with
  | zero =>
    intro σ x1 x2 P hf
    exact absurd hf (fun h => h)
  | succ d ih =>
    intro σ x1 x2 P hf
    rw [d_X2_tellsAs] at hf
    exact co_X2_tellsAs l r A ⟨by omega, by omega⟩ ih ⟨by omega, by omega⟩ σ x1 x2 P hf
theorem c_X2_tellsAs (l : Launch) (r : GR) (A : Nat → Prop) (σ : GS) (x1 : Int32) (x2 : Int32) (P : GS → Int32 → Prop) (hf : f_X2_tellsAs σ x1 x2 P) : gMet dM l yX2_tellsAs cX2_tellsAs 4 (some .int) 20 453 0 0 r A σ [.ref r.2.1, .int x1, .int x2] (zI P) := cd_X2_tellsAs l r A 4 σ x1 x2 P hf
theorem c_X2_act (l : Launch) (r : GR) (A : Nat → Prop) (σ : GS) (x1 : Int32) (x2 : Int32) (x3 : Int32) (P : GS → Int32 → Prop) (hf : f_X2_act σ x1 x2 x3 P) : gMet dM l yX2_act cX2_act 4 (some .int) 21 476 0 0 r A σ [.ref r.2.1, .int x1, .int x2, .int x3] (zI P) := by
  refine g_enter (lv := [(0, .ref r.2.1), (1, .int x1), (2, .int x2), (3, .int x3)]) (by decide) (Nat.le_of_ble_eq_true rfl) rfl ?_
  intro p e s m below meth c ls K hr hM hl _
  obtain ⟨hx, hb, hml, hown, hts, hlk, hKK, hA⟩ := id K
  unfold f_X2_act at hf
  refine lv_aload_n hx hb dX2_act_0 rfl (lv_at hl 0 rfl) ?_
  refine lv_iconst (v := 0) hx hb dX2_act_1 rfl ?_
  refine g_putiN K kM hM 48 rfl q1501 rfl dX2_act_2 rfl rfl rfl (fun H locs σ1 hσ1 hM => ?_)
  have hf := hf σ1 hσ1
  refine lv_aload_n hx hb dX2_act_5 rfl (lv_at hl 0 rfl) ?_
  refine lv_iload_n hx hb dX2_act_6 rfl (lv_at hl 1 rfl) ?_
  refine g_cVi [.int x1] [] K kM hM hl (c_X2_isBody l r A _ _ _ hf) q1918 q1920 qs73 q84 q1921 hdX2_isBody ⟨Nat.le_of_ble_eq_true rfl, Nat.le_of_ble_eq_true rfl⟩ ⟨Nat.le_refl _, Nat.le_refl _⟩ rfl (Nat.le_of_ble_eq_true rfl) dX2_act_7 (fun σ2 v3 H locs hf hM => ?_)
  refine lv_if_ne (tgt := 15) hx hb dX2_act_10 (by decide) (fun b4 => ?_) (fun b4 => ?_)
  · replace hf := hf.2 b4
    refine lv_aload_n hx hb dX2_act_15 rfl (lv_at hl 0 rfl) ?_
    refine lv_aload_n hx hb dX2_act_16 rfl (lv_at hl 0 rfl) ?_
    refine g_geta K kM hM 46 rfl q1499 rfl dX2_act_17 rfl ?_
    refine lv_iload_n hx hb dX2_act_20 rfl (lv_at hl 1 rfl) ?_
    obtain ⟨g5, hf⟩ := hf
    refine g_iald K hM 46 rfl rfl rfl g5 dX2_act_21 ?_
    refine g_putiN K kM hM 49 rfl q1502 rfl dX2_act_22 rfl rfl rfl (fun H locs σ6 hσ6 hM => ?_)
    have hf := hf σ6 hσ6
    refine lv_aload_n hx hb dX2_act_25 rfl (lv_at hl 0 rfl) ?_
    refine lv_iload_n hx hb dX2_act_26 rfl (lv_at hl 1 rfl) ?_
    refine g_putiN K kM hM 50 rfl q1503 rfl dX2_act_27 rfl rfl rfl (fun H locs σ7 hσ7 hM => ?_)
    have hf := hf σ7 hσ7
    refine lv_iload_n hx hb dX2_act_30 rfl (lv_at hl 2 rfl) ?_
    by_cases b16_0 : x2 = (0 : Int32)
    · replace hf := hf.1 b16_0
      refine lv_tableIn (off := 29) (tgt := 60) hx hb dX2_act_31 (by rw [b16_0]; decide) (by rw [b16_0]; decide) (by rw [b16_0]; rfl) (by decide) ?_
      refine lv_aload_n hx hb dX2_act_60 rfl (lv_at hl 0 rfl) ?_
      refine lv_aload_n hx hb dX2_act_61 rfl (lv_at hl 0 rfl) ?_
      refine g_geti K kM hM 49 rfl q1502 rfl dX2_act_62 rfl ?_
      refine lv_iload_n hx hb dX2_act_65 rfl (lv_at hl 3 rfl) ?_
      refine g_cVi [.int (gI σ7 49), .int x3] [] K kM hM hl (c_X2_buysAs l r A _ _ _ _ hf) q1922 q1924 qs74 q84 q1925 hdX2_buysAs ⟨Nat.le_of_ble_eq_true rfl, Nat.le_of_ble_eq_true rfl⟩ ⟨Nat.le_refl _, Nat.le_refl _⟩ rfl (Nat.le_of_ble_eq_true rfl) dX2_act_66 (fun σ8 v9 H locs hf hM => ?_)
      exact g_reti K hr hM ⟨Nat.le_refl _, Nat.le_refl _⟩ hf dX2_act_69
    replace hf := hf.2 b16_0
    by_cases b16_1 : x2 = (1 : Int32)
    · replace hf := hf.1 b16_1
      refine lv_tableIn (off := 39) (tgt := 70) hx hb dX2_act_31 (by rw [b16_1]; decide) (by rw [b16_1]; decide) (by rw [b16_1]; rfl) (by decide) ?_
      refine lv_aload_n hx hb dX2_act_70 rfl (lv_at hl 0 rfl) ?_
      refine lv_aload_n hx hb dX2_act_71 rfl (lv_at hl 0 rfl) ?_
      refine g_geti K kM hM 49 rfl q1502 rfl dX2_act_72 rfl ?_
      refine lv_iload_n hx hb dX2_act_75 rfl (lv_at hl 3 rfl) ?_
      refine g_cVi [.int (gI σ7 49), .int x3] [] K kM hM hl (c_X2_keepsAs l r A _ _ _ _ hf) q1930 q1932 qs76 q84 q1933 hdX2_keepsAs ⟨Nat.le_of_ble_eq_true rfl, Nat.le_of_ble_eq_true rfl⟩ ⟨Nat.le_refl _, Nat.le_refl _⟩ rfl (Nat.le_of_ble_eq_true rfl) dX2_act_76 (fun σ10 v11 H locs hf hM => ?_)
      exact g_reti K hr hM ⟨Nat.le_refl _, Nat.le_refl _⟩ hf dX2_act_79
    replace hf := hf.2 b16_1
    by_cases b16_2 : x2 = (2 : Int32)
    · replace hf := hf.1 b16_2
      refine lv_tableIn (off := 49) (tgt := 80) hx hb dX2_act_31 (by rw [b16_2]; decide) (by rw [b16_2]; decide) (by rw [b16_2]; rfl) (by decide) ?_
      refine lv_aload_n hx hb dX2_act_80 rfl (lv_at hl 0 rfl) ?_
      refine lv_aload_n hx hb dX2_act_81 rfl (lv_at hl 0 rfl) ?_
      refine g_geti K kM hM 49 rfl q1502 rfl dX2_act_82 rfl ?_
      refine lv_iload_n hx hb dX2_act_85 rfl (lv_at hl 3 rfl) ?_
      refine g_cVi [.int (gI σ7 49), .int x3] [] K kM hM hl (c_X2_lendsAs l r A _ _ _ _ hf) q1934 q1936 qs77 q84 q1937 hdX2_lendsAs ⟨Nat.le_of_ble_eq_true rfl, Nat.le_of_ble_eq_true rfl⟩ ⟨Nat.le_refl _, Nat.le_refl _⟩ rfl (Nat.le_of_ble_eq_true rfl) dX2_act_86 (fun σ12 v13 H locs hf hM => ?_)
      exact g_reti K hr hM ⟨Nat.le_refl _, Nat.le_refl _⟩ hf dX2_act_89
    replace hf := hf.2 b16_2
    by_cases b16_3 : x2 = (3 : Int32)
    · replace hf := hf.1 b16_3
      refine lv_tableIn (off := 59) (tgt := 90) hx hb dX2_act_31 (by rw [b16_3]; decide) (by rw [b16_3]; decide) (by rw [b16_3]; rfl) (by decide) ?_
      refine lv_aload_n hx hb dX2_act_90 rfl (lv_at hl 0 rfl) ?_
      refine lv_aload_n hx hb dX2_act_91 rfl (lv_at hl 0 rfl) ?_
      refine g_geti K kM hM 49 rfl q1502 rfl dX2_act_92 rfl ?_
      refine lv_iload_n hx hb dX2_act_95 rfl (lv_at hl 3 rfl) ?_
      refine g_cVi [.int (gI σ7 49), .int x3] [] K kM hM hl (c_X2_tellsAs l r A _ _ _ _ hf) q1938 q1940 qs78 q84 q1941 hdX2_tellsAs ⟨Nat.le_of_ble_eq_true rfl, Nat.le_of_ble_eq_true rfl⟩ ⟨Nat.le_refl _, Nat.le_refl _⟩ rfl (Nat.le_of_ble_eq_true rfl) dX2_act_96 (fun σ14 v15 H locs hf hM => ?_)
      exact g_reti K hr hM ⟨Nat.le_refl _, Nat.le_refl _⟩ hf dX2_act_99
    replace hf := hf.2 b16_3
    refine lv_tableOut (tgt := 100) hx hb dX2_act_31 (by have := lv_neT (a := 0) b16_0 rfl; have := lv_neT (a := 1) b16_1 rfl; have := lv_neT (a := 2) b16_2 rfl; have := lv_neT (a := 3) b16_3 rfl; omega) (by decide) ?_
    refine lv_iconst (v := 0) hx hb dX2_act_100 rfl ?_
    exact g_reti K hr hM ⟨Nat.le_refl _, Nat.le_refl _⟩ hf dX2_act_101
  · replace hf := hf.1 b4
    refine lv_iconst (v := 0) hx hb dX2_act_13 rfl ?_
    exact g_reti K hr hM ⟨Nat.le_refl _, Nat.le_refl _⟩ hf dX2_act_14
theorem c_X2_trace (l : Launch) (r : GR) (A : Nat → Prop) (σ : GS) (x1 : Int32) (P : GS → Int32 → Prop) (hf : f_X2_trace σ x1 P) : gMet dM l yX2_trace cX2_trace 2 (some .int) 0 0 0 0 r A σ [.ref r.2.1, .int x1] (zI P) := by
  refine g_enter (lv := [(0, .ref r.2.1), (1, .int x1)]) (by decide) (Nat.le_of_ble_eq_true rfl) rfl ?_
  intro p e s m below meth c ls K hr hM hl _
  obtain ⟨hx, hb, hml, hown, hts, hlk, hKK, hA⟩ := id K
  unfold f_X2_trace at hf
  refine lv_iload_n hx hb dX2_trace_0 rfl (lv_at hl 1 rfl) ?_
  refine lv_if_lt (tgt := 27) hx hb dX2_trace_1 (by decide) (fun b1 => ?_) (fun b1 => ?_)
  · replace hf := hf.1 b1
    refine lv_iconst (v := -1) hx hb dX2_trace_27 rfl ?_
    exact g_reti K hr hM ⟨Nat.le_refl _, Nat.le_refl _⟩ hf dX2_trace_28
  · replace hf := hf.2 b1
    refine lv_iload_n hx hb dX2_trace_4 rfl (lv_at hl 1 rfl) ?_
    refine lv_aload_n hx hb dX2_trace_5 rfl (lv_at hl 0 rfl) ?_
    refine g_geti K kM hM 48 rfl q1501 rfl dX2_trace_6 rfl ?_
    refine lv_icmp_ge (tgt := 27) hx hb dX2_trace_9 (by decide) (fun b2 => ?_) (fun b2 => ?_)
    · replace hf := hf.1 b2
      refine lv_iconst (v := -1) hx hb dX2_trace_27 rfl ?_
      exact g_reti K hr hM ⟨Nat.le_refl _, Nat.le_refl _⟩ hf dX2_trace_28
    · replace hf := hf.2 b2
      refine lv_iload_n hx hb dX2_trace_12 rfl (lv_at hl 1 rfl) ?_
      refine lv_bipush (v := 24) hx hb dX2_trace_13 rfl ?_
      refine lv_icmp_ge (tgt := 27) hx hb dX2_trace_15 (by decide) (fun b3 => ?_) (fun b3 => ?_)
      · replace hf := hf.1 b3
        refine lv_iconst (v := -1) hx hb dX2_trace_27 rfl ?_
        exact g_reti K hr hM ⟨Nat.le_refl _, Nat.le_refl _⟩ hf dX2_trace_28
      · replace hf := hf.2 b3
        refine lv_aload_n hx hb dX2_trace_18 rfl (lv_at hl 0 rfl) ?_
        refine g_geta K kM hM 47 rfl q1500 rfl dX2_trace_19 rfl ?_
        refine lv_iload_n hx hb dX2_trace_22 rfl (lv_at hl 1 rfl) ?_
        obtain ⟨g4, hf⟩ := hf
        refine g_iald K hM 47 rfl rfl rfl g4 dX2_trace_23 ?_
        refine lv_goto (tgt := 28) hx hb dX2_trace_24 (by decide) ?_
        exact g_reti K hr hM ⟨Nat.le_refl _, Nat.le_refl _⟩ hf dX2_trace_28
theorem w_X2_keep_22 {p : Program} {l : Launch} {e : Env} {s : State} {m : MethodId} {args : Array Value} {below : List Frame} {meth : Method} {c : Code} {r : GR} {A : Nat → Prop} {P : GS → Int32 → Prop} (K : gC p s m args meth c cX2_keep 3 RX2 r A) (hr : meth.sig.returnType = (some .int)) : ∀ (σ : GS) (x1 : Int32) (x2 : Int32), f_X2_keep_22 P σ x1 x2 → gW dM p l e (gRm 2 46 0 0) s m args below meth c r A (zI P) 0 0 3 22 [(0, .ref r.2.1), (1, .int x1), (2, .int x2)] [] 0 0 σ := by
  obtain ⟨hx, hb, hml, hown, hts, hlk, hKK, hA⟩ := id K
  intro σ x1 x2 hf H locs ls hM hl
  unfold f_X2_keep_22 at hf
  refine lv_aload_n hx hb dX2_keep_22 rfl (lv_at hl 0 rfl) ?_
  refine g_geta K kM hM 51 rfl q1504 rfl dX2_keep_23 rfl ?_
  refine lv_iload_n hx hb dX2_keep_26 rfl (lv_at hl 1 rfl) ?_
  refine lv_iload_n hx hb dX2_keep_27 rfl (lv_at hl 2 rfl) ?_
  obtain ⟨g1, hf⟩ := hf
  refine g_iastN K hM 51 rfl rfl rfl g1 dX2_keep_28 (fun H locs σ2 hσ2 hM => ?_)
  have hf := hf σ2 hσ2
  refine lv_aload_n hx hb dX2_keep_29 rfl (lv_at hl 0 rfl) ?_
  refine g_geta K kM hM 52 rfl q1505 rfl dX2_keep_30 rfl ?_
  refine lv_iload_n hx hb dX2_keep_33 rfl (lv_at hl 1 rfl) ?_
  refine lv_iconst (v := 0) hx hb dX2_keep_34 rfl ?_
  obtain ⟨g3, hf⟩ := hf
  refine g_iastN K hM 52 rfl rfl rfl g3 dX2_keep_35 (fun H locs σ4 hσ4 hM => ?_)
  have hf := hf σ4 hσ4
  refine lv_iconst (v := 1) hx hb dX2_keep_36 rfl ?_
  exact g_reti K hr hM ⟨Nat.le_refl _, Nat.le_refl _⟩ hf dX2_keep_37
theorem c_X2_keep (l : Launch) (r : GR) (A : Nat → Prop) (σ : GS) (x1 : Int32) (x2 : Int32) (P : GS → Int32 → Prop) (hf : f_X2_keep σ x1 x2 P) : gMet dM l yX2_keep cX2_keep 3 (some .int) 2 46 0 0 r A σ [.ref r.2.1, .int x1, .int x2] (zI P) := by
  refine g_enter (lv := [(0, .ref r.2.1), (1, .int x1), (2, .int x2)]) (by decide) (Nat.le_of_ble_eq_true rfl) rfl ?_
  intro p e s m below meth c ls K hr hM hl _
  obtain ⟨hx, hb, hml, hown, hts, hlk, hKK, hA⟩ := id K
  unfold f_X2_keep at hf
  refine lv_iload_n hx hb dX2_keep_0 rfl (lv_at hl 1 rfl) ?_
  refine g_cSi [.int x1] [] K hM hl (c_X2_isShelf l r A _ _ _ hf) q1648 q1649 q84 q1650 hdX2_isShelf ⟨Nat.le_of_ble_eq_true rfl, Nat.le_of_ble_eq_true rfl⟩ ⟨Nat.le_refl _, Nat.le_refl _⟩ rfl (Nat.le_of_ble_eq_true rfl) dX2_keep_1 (fun σ1 v2 H locs hf hM => ?_)
  refine lv_if_eq (tgt := 20) hx hb dX2_keep_4 (by decide) (fun b3 => ?_) (fun b3 => ?_)
  · replace hf := hf.1 b3
    refine lv_iconst (v := -1) hx hb dX2_keep_20 rfl ?_
    exact g_reti K hr hM ⟨Nat.le_refl _, Nat.le_refl _⟩ hf dX2_keep_21
  · replace hf := hf.2 b3
    refine lv_iload_n hx hb dX2_keep_7 rfl (lv_at hl 2 rfl) ?_
    refine lv_iconst (v := -1) hx hb dX2_keep_8 rfl ?_
    refine lv_icmp_eq (tgt := 22) hx hb dX2_keep_9 (by decide) (fun b4 => ?_) (fun b4 => ?_)
    · replace hf := hf.1 b4
      exact w_X2_keep_22 K hr _ _ _ hf _ _ _ hM (lv_sub hl [0, 1, 2] rfl)
    · replace hf := hf.2 b4
      refine lv_aload_n hx hb dX2_keep_12 rfl (lv_at hl 0 rfl) ?_
      refine lv_iload_n hx hb dX2_keep_13 rfl (lv_at hl 2 rfl) ?_
      refine g_cVi [.int x2] [] K kM hM hl (c_X2_isBody l r A _ _ _ hf) q1918 q1920 qs73 q84 q1921 hdX2_isBody ⟨Nat.le_of_ble_eq_true rfl, Nat.le_of_ble_eq_true rfl⟩ ⟨Nat.le_refl _, Nat.le_refl _⟩ rfl (Nat.le_of_ble_eq_true rfl) dX2_keep_14 (fun σ5 v6 H locs hf hM => ?_)
      refine lv_if_ne (tgt := 22) hx hb dX2_keep_17 (by decide) (fun b7 => ?_) (fun b7 => ?_)
      · replace hf := hf.2 b7
        exact w_X2_keep_22 K hr _ _ _ hf _ _ _ hM (lv_sub hl [0, 1, 2] rfl)
      · replace hf := hf.1 b7
        refine lv_iconst (v := -1) hx hb dX2_keep_20 rfl ?_
        exact g_reti K hr hM ⟨Nat.le_refl _, Nat.le_refl _⟩ hf dX2_keep_21
theorem w_X2_row_57 {p : Program} {l : Launch} {e : Env} {s : State} {m : MethodId} {args : Array Value} {below : List Frame} {meth : Method} {c : Code} {r : GR} {A : Nat → Prop} {P : GS → Int32 → Prop} (K : gC p s m args meth c cX2_row 5 RX2 r A) (hr : meth.sig.returnType = (some .int)) : ∀ (n : Nat) (σ : GS) (x1 : Int32) (x4 : Int32), f_X2_row_57 P n σ x1 x4 → gW dM p l e (gRm 2 45 0 0) s m args below meth c r A (zI P) 0 0 5 57 [(0, .ref r.2.1), (1, .int x1), (4, .int x4)] [] 0 0 σ := by
  obtain ⟨hx, hb, hml, hown, hts, hlk, hKK, hA⟩ := id K
  intro n
  induction n with
  | zero =>
    intro σ x1 x4 hf
    exact absurd hf (fun h => h)
  | succ n ih =>
    intro σ x1 x4 hf H locs ls hM hl
    rw [f_X2_row_57] at hf
    refine lv_iload hx hb dX2_row_57 (lv_at hl 2 rfl) ?_
    refine lv_bipush (v := 60) hx hb dX2_row_59 rfl ?_
    refine lv_iload_n hx hb dX2_row_61 rfl (lv_at hl 1 rfl) ?_
    refine lv_imul hx hb dX2_row_62 ?_
    refine lv_bipush (v := 60) hx hb dX2_row_63 rfl ?_
    refine lv_iadd hx hb dX2_row_65 ?_
    refine lv_icmp_ge (tgt := 83) hx hb dX2_row_66 (by decide) (fun b1 => ?_) (fun b1 => ?_)
    · replace hf := hf.1 b1
      refine lv_iconst (v := 1) hx hb dX2_row_83 rfl ?_
      exact g_reti K hr hM ⟨Nat.le_refl _, Nat.le_refl _⟩ hf dX2_row_84
    · replace hf := hf.2 b1
      refine lv_aload_n hx hb dX2_row_69 rfl (lv_at hl 0 rfl) ?_
      refine g_geta K kM hM 53 rfl q1506 rfl dX2_row_70 rfl ?_
      refine lv_iload hx hb dX2_row_73 (lv_at hl 2 rfl) ?_
      refine lv_lconst (v := 0) hx hb dX2_row_75 rfl ?_
      obtain ⟨g2, hf⟩ := hf
      refine g_lastN K hM 53 rfl rfl rfl g2 dX2_row_76 (fun H locs σ3 hσ3 hM => ?_)
      have hf := hf σ3 hσ3
      refine lv_iinc (v := x4 + 1) (lv' := [(4, .int (x4 + 1)), (0, .ref r.2.1), (1, .int x1)]) hx hb dX2_row_77 hl (k := 2) rfl rfl (by decide) rfl (fun ls hl => ?_)
      refine lv_goto (tgt := 57) hx hb dX2_row_80 (by decide) ?_
      exact ih _ _ _ hf _ _ _ hM (lv_sub hl [1, 2, 0] rfl)
theorem c_X2_row (l : Launch) (r : GR) (A : Nat → Prop) (σ : GS) (x1 : Int32) (x2 : Int32) (x3 : Int32) (P : GS → Int32 → Prop) (hf : f_X2_row σ x1 x2 x3 P) : gMet dM l yX2_row cX2_row 5 (some .int) 2 45 0 0 r A σ [.ref r.2.1, .int x1, .int x2, .int x3] (zI P) := by
  refine g_enter (lv := [(0, .ref r.2.1), (1, .int x1), (2, .int x2), (3, .int x3)]) (by decide) (Nat.le_of_ble_eq_true rfl) rfl ?_
  intro p e s m below meth c ls K hr hM hl _
  obtain ⟨hx, hb, hml, hown, hts, hlk, hKK, hA⟩ := id K
  unfold f_X2_row at hf
  refine lv_iload_n hx hb dX2_row_0 rfl (lv_at hl 1 rfl) ?_
  refine g_cSi [.int x1] [] K hM hl (c_X2_isShelf l r A _ _ _ hf) q1648 q1649 q84 q1650 hdX2_isShelf ⟨Nat.le_of_ble_eq_true rfl, Nat.le_of_ble_eq_true rfl⟩ ⟨Nat.le_refl _, Nat.le_refl _⟩ rfl (Nat.le_of_ble_eq_true rfl) dX2_row_1 (fun σ1 v2 H locs hf hM => ?_)
  refine lv_if_eq (tgt := 25) hx hb dX2_row_4 (by decide) (fun b3 => ?_) (fun b3 => ?_)
  · replace hf := hf.1 b3
    refine lv_iconst (v := -1) hx hb dX2_row_25 rfl ?_
    exact g_reti K hr hM ⟨Nat.le_refl _, Nat.le_refl _⟩ hf dX2_row_26
  · replace hf := hf.2 b3
    refine lv_iload_n hx hb dX2_row_7 rfl (lv_at hl 2 rfl) ?_
    refine lv_i2l hx hb dX2_row_8 rfl ?_
    refine lv_lconst (v := 0) hx hb dX2_row_9 rfl ?_
    refine lv_ldc2 hx hb hown (hts _ q1695) dX2_row_10 ?_
    refine g_cSi [.long x2.toInt64, .long (0 : Int64), .long (4 : Int64)] [] K hM hl (c_X2_within l r A _ _ _ _ _ hf) q1632 q1633 q84 q1634 hdX2_within ⟨Nat.le_of_ble_eq_true rfl, Nat.le_of_ble_eq_true rfl⟩ ⟨Nat.le_refl _, Nat.le_refl _⟩ rfl (Nat.le_of_ble_eq_true rfl) dX2_row_13 (fun σ4 v5 H locs hf hM => ?_)
    refine lv_if_eq (tgt := 25) hx hb dX2_row_16 (by decide) (fun b6 => ?_) (fun b6 => ?_)
    · replace hf := hf.1 b6
      refine lv_iconst (v := -1) hx hb dX2_row_25 rfl ?_
      exact g_reti K hr hM ⟨Nat.le_refl _, Nat.le_refl _⟩ hf dX2_row_26
    · replace hf := hf.2 b6
      refine lv_iload_n hx hb dX2_row_19 rfl (lv_at hl 3 rfl) ?_
      refine lv_bipush (v := 60) hx hb dX2_row_20 rfl ?_
      refine lv_icmp_le (tgt := 27) hx hb dX2_row_22 (by decide) (fun b7 => ?_) (fun b7 => ?_)
      · replace hf := hf.1 b7
        refine lv_iload_n hx hb dX2_row_27 rfl (lv_at hl 3 rfl) ?_
        refine lv_if_ge (tgt := 34) hx hb dX2_row_28 (by decide) (fun b8 => ?_) (fun b8 => ?_)
        · replace hf := hf.1 b8
          refine lv_aload_n hx hb dX2_row_34 rfl (lv_at hl 0 rfl) ?_
          refine g_geta K kM hM 51 rfl q1504 rfl dX2_row_35 rfl ?_
          refine lv_iload_n hx hb dX2_row_38 rfl (lv_at hl 1 rfl) ?_
          refine lv_bipush (v := 50) hx hb dX2_row_39 rfl ?_
          refine lv_iload_n hx hb dX2_row_41 rfl (lv_at hl 2 rfl) ?_
          refine lv_iadd hx hb dX2_row_42 ?_
          obtain ⟨g9, hf⟩ := hf
          refine g_iastN K hM 51 rfl rfl rfl g9 dX2_row_43 (fun H locs σ10 hσ10 hM => ?_)
          have hf := hf σ10 hσ10
          refine lv_aload_n hx hb dX2_row_44 rfl (lv_at hl 0 rfl) ?_
          refine g_geta K kM hM 52 rfl q1505 rfl dX2_row_45 rfl ?_
          refine lv_iload_n hx hb dX2_row_48 rfl (lv_at hl 1 rfl) ?_
          refine lv_iload_n hx hb dX2_row_49 rfl (lv_at hl 3 rfl) ?_
          obtain ⟨g11, hf⟩ := hf
          refine g_iastN K hM 52 rfl rfl rfl g11 dX2_row_50 (fun H locs σ12 hσ12 hM => ?_)
          have hf := hf σ12 hσ12
          refine lv_bipush (v := 60) hx hb dX2_row_51 rfl ?_
          refine lv_iload_n hx hb dX2_row_53 rfl (lv_at hl 1 rfl) ?_
          refine lv_imul hx hb dX2_row_54 ?_
          refine lv_istore (lv' := [(4, .int ((60 : Int32) * x1)), (0, .ref r.2.1), (1, .int x1), (2, .int x2), (3, .int x3)]) hx hb dX2_row_55 hl (by decide) rfl (fun ls hl => ?_)
          obtain ⟨n_, hf⟩ := hf
          exact w_X2_row_57 K hr n_ _ _ _ hf _ _ _ hM (lv_sub hl [1, 2, 0] rfl)
        · replace hf := hf.2 b8
          refine lv_bipush (v := -14) hx hb dX2_row_31 rfl ?_
          exact g_reti K hr hM ⟨Nat.le_refl _, Nat.le_refl _⟩ hf dX2_row_33
      · replace hf := hf.2 b7
        refine lv_iconst (v := -1) hx hb dX2_row_25 rfl ?_
        exact g_reti K hr hM ⟨Nat.le_refl _, Nat.le_refl _⟩ hf dX2_row_26

set_option maxRecDepth 100000
set_option maxHeartbeats 4000000
theorem c_X2_areRounds (l : Launch) (r : GR) (A : Nat → Prop) (σ : GS) (x0 : Int32) (P : GS → Int32 → Prop) (hf : f_X2_areRounds σ x0 P) : gMet dM l yX2_areRounds cX2_areRounds 1 (some .boolean) 1 25 0 0 r A σ [.int x0] (zI P) := by
  refine g_enter (lv := [(0, .int x0)]) (by decide) (Nat.le_of_ble_eq_true rfl) rfl ?_
  intro p e s m below meth c ls K hr hM hl _
  obtain ⟨hx, hb, hml, hown, hts, hlk, hKK, hA⟩ := id K
  unfold f_X2_areRounds at hf
  refine lv_iload_n hx hb dX2_areRounds_0 rfl (lv_at hl 0 rfl) ?_
  refine lv_i2l hx hb dX2_areRounds_1 rfl ?_
  refine lv_lconst (v := 1) hx hb dX2_areRounds_2 rfl ?_
  refine lv_ldc2 hx hb hown (hts _ q1810) dX2_areRounds_3 ?_
  refine g_cSi [.long x0.toInt64, .long (1 : Int64), .long (60 : Int64)] [] K hM hl (c_X2_within l r A _ _ _ _ _ hf) q1632 q1633 q84 q1634 hdX2_within ⟨Nat.le_of_ble_eq_true rfl, Nat.le_of_ble_eq_true rfl⟩ ⟨Nat.le_refl _, Nat.le_refl _⟩ rfl (Nat.le_of_ble_eq_true rfl) dX2_areRounds_6 (fun σ1 v2 H locs hf hM => ?_)
  obtain ⟨g3, hf⟩ := hf
  exact g_retz K hr hM ⟨Nat.le_refl _, Nat.le_refl _⟩ g3 hf dX2_areRounds_9
theorem w_X2_keepsLeast_27 {p : Program} {l : Launch} {e : Env} {s : State} {m : MethodId} {args : Array Value} {below : List Frame} {meth : Method} {c : Code} {r : GR} {A : Nat → Prop} {P : GS → Prop} (K : gC p s m args meth c cX2_keepsLeast 3 RX2 r A) (hr : meth.sig.returnType = none) : ∀ (n : Nat) (σ : GS) (x2 : Int32), f_X2_keepsLeast_27 P n σ x2 → gW dM p l e (gRm 0 0 0 0) s m args below meth c r A (zV P) 0 0 3 27 [(0, .ref r.2.1), (2, .int x2)] [] 0 0 σ := by
  obtain ⟨hx, hb, hml, hown, hts, hlk, hKK, hA⟩ := id K
  intro n
  induction n with
  | zero =>
    intro σ x2 hf
    exact absurd hf (fun h => h)
  | succ n ih =>
    intro σ x2 hf H locs ls hM hl
    rw [f_X2_keepsLeast_27] at hf
    refine lv_iload_n hx hb dX2_keepsLeast_27 rfl (lv_at hl 1 rfl) ?_
    refine lv_aload_n hx hb dX2_keepsLeast_28 rfl (lv_at hl 0 rfl) ?_
    refine g_geti K kM hM 6 rfl q1459 rfl dX2_keepsLeast_29 rfl ?_
    refine lv_icmp_ge (tgt := 56) hx hb dX2_keepsLeast_32 (by decide) (fun b1 => ?_) (fun b1 => ?_)
    · replace hf := hf.1 b1
      exact g_retv K hr hM ⟨Nat.le_refl _, Nat.le_refl _⟩ hf dX2_keepsLeast_56
    · replace hf := hf.2 b1
      refine lv_aload_n hx hb dX2_keepsLeast_35 rfl (lv_at hl 0 rfl) ?_
      refine g_geta K kM hM 40 rfl q1493 rfl dX2_keepsLeast_36 rfl ?_
      refine lv_iload_n hx hb dX2_keepsLeast_39 rfl (lv_at hl 1 rfl) ?_
      refine lv_aload_n hx hb dX2_keepsLeast_40 rfl (lv_at hl 0 rfl) ?_
      refine g_geta K kM hM 0 rfl q1453 rfl dX2_keepsLeast_41 rfl ?_
      refine lv_bipush (v := 12) hx hb dX2_keepsLeast_44 rfl ?_
      refine lv_iload_n hx hb dX2_keepsLeast_46 rfl (lv_at hl 1 rfl) ?_
      refine lv_iadd hx hb dX2_keepsLeast_47 ?_
      obtain ⟨g2, hf⟩ := hf
      refine g_iald K hM 0 rfl rfl rfl g2 dX2_keepsLeast_48 ?_
      obtain ⟨g3, hf⟩ := hf
      refine g_iastN K hM 40 rfl rfl rfl g3 dX2_keepsLeast_49 (fun H locs σ4 hσ4 hM => ?_)
      have hf := hf σ4 hσ4
      refine lv_iinc (v := x2 + 1) (lv' := [(2, .int (x2 + 1)), (0, .ref r.2.1)]) hx hb dX2_keepsLeast_50 hl (k := 1) rfl rfl (by decide) rfl (fun ls hl => ?_)
      refine lv_goto (tgt := 27) hx hb dX2_keepsLeast_53 (by decide) ?_
      exact ih _ _ hf _ _ _ hM (lv_sub hl [1, 0] rfl)
theorem c_X2_keepsLeast (l : Launch) (r : GR) (A : Nat → Prop) (σ : GS) (x1 : Int32) (P : GS → Prop) (hf : f_X2_keepsLeast σ x1 P) : gMet dM l yX2_keepsLeast cX2_keepsLeast 3 none 0 0 0 0 r A σ [.ref r.2.1, .int x1] (zV P) := by
  refine g_enter (lv := [(0, .ref r.2.1), (1, .int x1)]) (by decide) (Nat.le_of_ble_eq_true rfl) rfl ?_
  intro p e s m below meth c ls K hr hM hl _
  obtain ⟨hx, hb, hml, hown, hts, hlk, hKK, hA⟩ := id K
  unfold f_X2_keepsLeast at hf
  refine lv_aload_n hx hb dX2_keepsLeast_0 rfl (lv_at hl 0 rfl) ?_
  refine g_geti K kM hM 36 rfl q1489 rfl dX2_keepsLeast_1 rfl ?_
  refine lv_aload_n hx hb dX2_keepsLeast_4 rfl (lv_at hl 0 rfl) ?_
  refine g_geti K kM hM 37 rfl q1490 rfl dX2_keepsLeast_5 rfl ?_
  refine lv_icmp_lt (tgt := 12) hx hb dX2_keepsLeast_8 (by decide) (fun b1 => ?_) (fun b1 => ?_)
  · replace hf := hf.1 b1
    refine lv_aload_n hx hb dX2_keepsLeast_12 rfl (lv_at hl 0 rfl) ?_
    refine lv_aload_n hx hb dX2_keepsLeast_13 rfl (lv_at hl 0 rfl) ?_
    refine g_geti K kM hM 36 rfl q1489 rfl dX2_keepsLeast_14 rfl ?_
    refine g_putiN K kM hM 37 rfl q1490 rfl dX2_keepsLeast_17 rfl rfl rfl (fun H locs σ2 hσ2 hM => ?_)
    have hf := hf σ2 hσ2
    refine lv_aload_n hx hb dX2_keepsLeast_20 rfl (lv_at hl 0 rfl) ?_
    refine lv_iload_n hx hb dX2_keepsLeast_21 rfl (lv_at hl 1 rfl) ?_
    refine g_putiN K kM hM 38 rfl q1491 rfl dX2_keepsLeast_22 rfl rfl rfl (fun H locs σ3 hσ3 hM => ?_)
    have hf := hf σ3 hσ3
    refine lv_iconst (v := 0) hx hb dX2_keepsLeast_25 rfl ?_
    refine lv_istore_n (lv' := [(2, .int (0 : Int32)), (0, .ref r.2.1), (1, .int x1)]) hx hb dX2_keepsLeast_26 rfl hl (by decide) rfl (fun ls hl => ?_)
    obtain ⟨n_, hf⟩ := hf
    exact w_X2_keepsLeast_27 K hr n_ _ _ hf _ _ _ hM (lv_sub hl [1, 0] rfl)
  · replace hf := hf.2 b1
    exact g_retv K hr hM ⟨Nat.le_refl _, Nat.le_refl _⟩ hf dX2_keepsLeast_11
theorem w_X2_goRounds_226 {p : Program} {l : Launch} {e : Env} {s : State} {m : MethodId} {args : Array Value} {below : List Frame} {meth : Method} {c : Code} {r : GR} {A : Nat → Prop} {P : GS → Prop} (K : gC p s m args meth c cX2_goRounds 7 RX2 r A) (hr : meth.sig.returnType = none) : ∀ (n : Nat) (σ : GS) (x3 : Int32), f_X2_goRounds_226 P n σ x3 → gW dM p l e (gRm 70 2686 0 0) s m args below meth c r A (zV P) 0 0 7 226 [(0, .ref r.2.1), (3, .int x3)] [] 0 0 σ := by
  obtain ⟨hx, hb, hml, hown, hts, hlk, hKK, hA⟩ := id K
  intro n
  induction n with
  | zero =>
    intro σ x3 hf
    exact absurd hf (fun h => h)
  | succ n ih =>
    intro σ x3 hf H locs ls hM hl
    rw [f_X2_goRounds_226] at hf
    refine lv_iload_n hx hb dX2_goRounds_226 rfl (lv_at hl 1 rfl) ?_
    refine lv_aload_n hx hb dX2_goRounds_227 rfl (lv_at hl 0 rfl) ?_
    refine g_geti K kM hM 6 rfl q1459 rfl dX2_goRounds_228 rfl ?_
    refine lv_icmp_ge (tgt := 270) hx hb dX2_goRounds_231 (by decide) (fun b1 => ?_) (fun b1 => ?_)
    · replace hf := hf.1 b1
      exact g_retv K hr hM ⟨Nat.le_refl _, Nat.le_refl _⟩ hf dX2_goRounds_270
    · replace hf := hf.2 b1
      refine lv_aload_n hx hb dX2_goRounds_234 rfl (lv_at hl 0 rfl) ?_
      refine g_geta K kM hM 39 rfl q1492 rfl dX2_goRounds_235 rfl ?_
      refine lv_iload_n hx hb dX2_goRounds_238 rfl (lv_at hl 1 rfl) ?_
      refine lv_aload_n hx hb dX2_goRounds_239 rfl (lv_at hl 0 rfl) ?_
      refine g_geta K kM hM 0 rfl q1453 rfl dX2_goRounds_240 rfl ?_
      refine lv_bipush (v := 12) hx hb dX2_goRounds_243 rfl ?_
      refine lv_iload_n hx hb dX2_goRounds_245 rfl (lv_at hl 1 rfl) ?_
      refine lv_iadd hx hb dX2_goRounds_246 ?_
      obtain ⟨g2, hf⟩ := hf
      refine g_iald K hM 0 rfl rfl rfl g2 dX2_goRounds_247 ?_
      obtain ⟨g3, hf⟩ := hf
      refine g_iastN K hM 39 rfl rfl rfl g3 dX2_goRounds_248 (fun H locs σ4 hσ4 hM => ?_)
      have hf := hf σ4 hσ4
      refine lv_aload_n hx hb dX2_goRounds_249 rfl (lv_at hl 0 rfl) ?_
      refine g_geta K kM hM 0 rfl q1453 rfl dX2_goRounds_250 rfl ?_
      refine lv_bipush (v := 12) hx hb dX2_goRounds_253 rfl ?_
      refine lv_iload_n hx hb dX2_goRounds_255 rfl (lv_at hl 1 rfl) ?_
      refine lv_iadd hx hb dX2_goRounds_256 ?_
      refine lv_aload_n hx hb dX2_goRounds_257 rfl (lv_at hl 0 rfl) ?_
      refine g_geta K kM hM 41 rfl q1494 rfl dX2_goRounds_258 rfl ?_
      refine lv_iload_n hx hb dX2_goRounds_261 rfl (lv_at hl 1 rfl) ?_
      obtain ⟨g5, hf⟩ := hf
      refine g_iald K hM 41 rfl rfl rfl g5 dX2_goRounds_262 ?_
      obtain ⟨g6, hf⟩ := hf
      refine g_iastN K hM 0 rfl rfl rfl g6 dX2_goRounds_263 (fun H locs σ7 hσ7 hM => ?_)
      have hf := hf σ7 hσ7
      refine lv_iinc (v := x3 + 1) (lv' := [(3, .int (x3 + 1)), (0, .ref r.2.1)]) hx hb dX2_goRounds_264 hl (k := 1) rfl rfl (by decide) rfl (fun ls hl => ?_)
      refine lv_goto (tgt := 226) hx hb dX2_goRounds_267 (by decide) ?_
      exact ih _ _ hf _ _ _ hM (lv_sub hl [1, 0] rfl)
theorem w_X2_goRounds_224 {p : Program} {l : Launch} {e : Env} {s : State} {m : MethodId} {args : Array Value} {below : List Frame} {meth : Method} {c : Code} {r : GR} {A : Nat → Prop} {P : GS → Prop} (K : gC p s m args meth c cX2_goRounds 7 RX2 r A) (hr : meth.sig.returnType = none) : ∀ (σ : GS), f_X2_goRounds_224 P σ → gW dM p l e (gRm 70 2686 0 0) s m args below meth c r A (zV P) 0 0 7 224 [(0, .ref r.2.1)] [] 0 0 σ := by
  obtain ⟨hx, hb, hml, hown, hts, hlk, hKK, hA⟩ := id K
  intro σ hf H locs ls hM hl
  unfold f_X2_goRounds_224 at hf
  refine lv_iconst (v := 0) hx hb dX2_goRounds_224 rfl ?_
  refine lv_istore_n (lv' := [(3, .int (0 : Int32)), (0, .ref r.2.1)]) hx hb dX2_goRounds_225 rfl hl (by decide) rfl (fun ls hl => ?_)
  obtain ⟨n_, hf⟩ := hf
  exact w_X2_goRounds_226 K hr n_ _ _ hf _ _ _ hM (lv_sub hl [1, 0] rfl)
theorem w_X2_goRounds_218 {p : Program} {l : Launch} {e : Env} {s : State} {m : MethodId} {args : Array Value} {below : List Frame} {meth : Method} {c : Code} {r : GR} {A : Nat → Prop} {P : GS → Prop} {k80 : GS → Int32 → Int32 → Int32 → Prop} (K : gC p s m args meth c cX2_goRounds 7 RX2 r A) (hr : meth.sig.returnType = none) (H80 : ∀ (σ : GS) (x1 : Int32) (x2 : Int32) (x3 : Int32), k80 σ x1 x2 x3 → gW dM p l e (gRm 70 2686 0 0) s m args below meth c r A (zV P) 0 0 7 80 [(0, .ref r.2.1), (1, .int x1), (2, .int x2), (3, .int x3)] [] 0 0 σ) : ∀ (σ : GS) (x1 : Int32) (x2 : Int32) (x3 : Int32), f_X2_goRounds_218 k80 P σ x1 x2 x3 → gW dM p l e (gRm 70 2686 0 0) s m args below meth c r A (zV P) 0 0 7 218 [(0, .ref r.2.1), (1, .int x1), (2, .int x2), (3, .int x3)] [] 0 0 σ := by
  obtain ⟨hx, hb, hml, hown, hts, hlk, hKK, hA⟩ := id K
  intro σ x1 x2 x3 hf H locs ls hM hl
  unfold f_X2_goRounds_218 at hf
  refine lv_iinc (v := x3 + 1) (lv' := [(3, .int (x3 + 1)), (0, .ref r.2.1), (1, .int x1), (2, .int x2)]) hx hb dX2_goRounds_218 hl (k := 3) rfl rfl (by decide) rfl (fun ls hl => ?_)
  refine lv_goto (tgt := 80) hx hb dX2_goRounds_221 (by decide) ?_
  exact H80 _ _ _ _ hf _ _ _ hM (lv_sub hl [1, 2, 3, 0] rfl)
theorem w_X2_goRounds_185 {p : Program} {l : Launch} {e : Env} {s : State} {m : MethodId} {args : Array Value} {below : List Frame} {meth : Method} {c : Code} {r : GR} {A : Nat → Prop} {P : GS → Prop} {k80 : GS → Int32 → Int32 → Int32 → Prop} {k94 : GS → Int32 → Int32 → Int32 → Int32 → Prop} (K : gC p s m args meth c cX2_goRounds 7 RX2 r A) (hr : meth.sig.returnType = none) (H80 : ∀ (σ : GS) (x1 : Int32) (x2 : Int32) (x3 : Int32), k80 σ x1 x2 x3 → gW dM p l e (gRm 70 2686 0 0) s m args below meth c r A (zV P) 0 0 7 80 [(0, .ref r.2.1), (1, .int x1), (2, .int x2), (3, .int x3)] [] 0 0 σ) (H94 : ∀ (σ : GS) (x1 : Int32) (x2 : Int32) (x3 : Int32) (x4 : Int32), k94 σ x1 x2 x3 x4 → gW dM p l e (gRm 70 2686 0 0) s m args below meth c r A (zV P) 0 0 7 94 [(0, .ref r.2.1), (1, .int x1), (2, .int x2), (3, .int x3), (4, .int x4)] [] 0 0 σ) : ∀ (σ : GS) (x1 : Int32) (x3 : Int32) (x4 : Int32) (t0 : Int32), f_X2_goRounds_185 k80 k94 P σ x1 x3 x4 t0 → gW dM p l e (gRm 70 2686 0 0) s m args below meth c r A (zV P) 0 0 7 185 [(0, .ref r.2.1), (1, .int x1), (3, .int x3), (4, .int x4)] [.int t0] 0 0 σ := by
  obtain ⟨hx, hb, hml, hown, hts, hlk, hKK, hA⟩ := id K
  intro σ x1 x3 x4 t0 hf H locs ls hM hl
  unfold f_X2_goRounds_185 at hf
  refine lv_istore_n (lv' := [(2, .int t0), (0, .ref r.2.1), (1, .int x1), (3, .int x3), (4, .int x4)]) hx hb dX2_goRounds_185 rfl hl (by decide) rfl (fun ls hl => ?_)
  refine lv_iinc (v := x4 + 1) (lv' := [(4, .int (x4 + 1)), (2, .int t0), (0, .ref r.2.1), (1, .int x1), (3, .int x3)]) hx hb dX2_goRounds_186 hl (k := 4) rfl rfl (by decide) rfl (fun ls hl => ?_)
  refine lv_goto (tgt := 94) hx hb dX2_goRounds_189 (by decide) ?_
  exact H94 _ _ _ _ _ hf _ _ _ hM (lv_sub hl [2, 3, 1, 4, 0] rfl)
theorem w_X2_goRounds_180 {p : Program} {l : Launch} {e : Env} {s : State} {m : MethodId} {args : Array Value} {below : List Frame} {meth : Method} {c : Code} {r : GR} {A : Nat → Prop} {P : GS → Prop} {k80 : GS → Int32 → Int32 → Int32 → Prop} {k94 : GS → Int32 → Int32 → Int32 → Int32 → Prop} (K : gC p s m args meth c cX2_goRounds 7 RX2 r A) (hr : meth.sig.returnType = none) (H80 : ∀ (σ : GS) (x1 : Int32) (x2 : Int32) (x3 : Int32), k80 σ x1 x2 x3 → gW dM p l e (gRm 70 2686 0 0) s m args below meth c r A (zV P) 0 0 7 80 [(0, .ref r.2.1), (1, .int x1), (2, .int x2), (3, .int x3)] [] 0 0 σ) (H94 : ∀ (σ : GS) (x1 : Int32) (x2 : Int32) (x3 : Int32) (x4 : Int32), k94 σ x1 x2 x3 x4 → gW dM p l e (gRm 70 2686 0 0) s m args below meth c r A (zV P) 0 0 7 94 [(0, .ref r.2.1), (1, .int x1), (2, .int x2), (3, .int x3), (4, .int x4)] [] 0 0 σ) : ∀ (σ : GS) (x1 : Int32) (x3 : Int32) (x4 : Int32), f_X2_goRounds_180 k80 k94 P σ x1 x3 x4 → gW dM p l e (gRm 70 2686 0 0) s m args below meth c r A (zV P) 0 0 7 180 [(0, .ref r.2.1), (1, .int x1), (3, .int x3), (4, .int x4)] [] 0 0 σ := by
  obtain ⟨hx, hb, hml, hown, hts, hlk, hKK, hA⟩ := id K
  intro σ x1 x3 x4 hf H locs ls hM hl
  unfold f_X2_goRounds_180 at hf
  refine lv_iconst (v := 1) hx hb dX2_goRounds_180 rfl ?_
  refine lv_goto (tgt := 185) hx hb dX2_goRounds_181 (by decide) ?_
  exact w_X2_goRounds_185 K hr H80 H94 _ _ _ _ _ hf _ _ _ hM (lv_sub hl [0, 1, 2, 3] rfl)
theorem w_X2_goRounds_154 {p : Program} {l : Launch} {e : Env} {s : State} {m : MethodId} {args : Array Value} {below : List Frame} {meth : Method} {c : Code} {r : GR} {A : Nat → Prop} {P : GS → Prop} {k80 : GS → Int32 → Int32 → Int32 → Prop} {k94 : GS → Int32 → Int32 → Int32 → Int32 → Prop} (K : gC p s m args meth c cX2_goRounds 7 RX2 r A) (hr : meth.sig.returnType = none) (H80 : ∀ (σ : GS) (x1 : Int32) (x2 : Int32) (x3 : Int32), k80 σ x1 x2 x3 → gW dM p l e (gRm 70 2686 0 0) s m args below meth c r A (zV P) 0 0 7 80 [(0, .ref r.2.1), (1, .int x1), (2, .int x2), (3, .int x3)] [] 0 0 σ) (H94 : ∀ (σ : GS) (x1 : Int32) (x2 : Int32) (x3 : Int32) (x4 : Int32), k94 σ x1 x2 x3 x4 → gW dM p l e (gRm 70 2686 0 0) s m args below meth c r A (zV P) 0 0 7 94 [(0, .ref r.2.1), (1, .int x1), (2, .int x2), (3, .int x3), (4, .int x4)] [] 0 0 σ) : ∀ (σ : GS) (x1 : Int32) (x2 : Int32) (x3 : Int32) (x4 : Int32) (x5 : Int32) (t0 : Int32), f_X2_goRounds_154 k80 k94 P σ x1 x2 x3 x4 x5 t0 → gW dM p l e (gRm 70 2686 0 0) s m args below meth c r A (zV P) 0 0 7 154 [(0, .ref r.2.1), (1, .int x1), (2, .int x2), (3, .int x3), (4, .int x4), (5, .int x5)] [.int t0] 0 0 σ := by
  obtain ⟨hx, hb, hml, hown, hts, hlk, hKK, hA⟩ := id K
  intro σ x1 x2 x3 x4 x5 t0 hf H locs ls hM hl
  unfold f_X2_goRounds_154 at hf
  refine lv_istore (lv' := [(6, .int t0), (0, .ref r.2.1), (1, .int x1), (2, .int x2), (3, .int x3), (4, .int x4), (5, .int x5)]) hx hb dX2_goRounds_154 hl (by decide) rfl (fun ls hl => ?_)
  refine lv_aload_n hx hb dX2_goRounds_156 rfl (lv_at hl 1 rfl) ?_
  refine g_geta K kM hM 0 rfl q1453 rfl dX2_goRounds_157 rfl ?_
  refine lv_bipush (v := 12) hx hb dX2_goRounds_160 rfl ?_
  refine lv_iload hx hb dX2_goRounds_162 (lv_at hl 5 rfl) ?_
  refine lv_iadd hx hb dX2_goRounds_164 ?_
  refine lv_iload hx hb dX2_goRounds_165 (lv_at hl 6 rfl) ?_
  refine lv_iload hx hb dX2_goRounds_167 (lv_at hl 0 rfl) ?_
  refine lv_iadd hx hb dX2_goRounds_169 ?_
  obtain ⟨g1, hf⟩ := hf
  refine g_iastN K hM 0 rfl rfl rfl g1 dX2_goRounds_170 (fun H locs σ2 hσ2 hM => ?_)
  have hf := hf σ2 hσ2
  refine lv_iload_n hx hb dX2_goRounds_171 rfl (lv_at hl 3 rfl) ?_
  refine lv_if_ne (tgt := 180) hx hb dX2_goRounds_172 (by decide) (fun b3 => ?_) (fun b3 => ?_)
  · replace hf := hf.2 b3
    exact w_X2_goRounds_180 K hr H80 H94 _ _ _ _ hf _ _ _ hM (lv_sub hl [1, 2, 4, 5] rfl)
  · replace hf := hf.1 b3
    refine lv_iload hx hb dX2_goRounds_175 (lv_at hl 0 rfl) ?_
    refine lv_if_eq (tgt := 184) hx hb dX2_goRounds_177 (by decide) (fun b4 => ?_) (fun b4 => ?_)
    · replace hf := hf.1 b4
      refine lv_iconst (v := 0) hx hb dX2_goRounds_184 rfl ?_
      exact w_X2_goRounds_185 K hr H80 H94 _ _ _ _ _ hf _ _ _ hM (lv_sub hl [1, 2, 4, 5] rfl)
    · replace hf := hf.2 b4
      exact w_X2_goRounds_180 K hr H80 H94 _ _ _ _ hf _ _ _ hM (lv_sub hl [1, 2, 4, 5] rfl)
theorem w_X2_goRounds_153 {p : Program} {l : Launch} {e : Env} {s : State} {m : MethodId} {args : Array Value} {below : List Frame} {meth : Method} {c : Code} {r : GR} {A : Nat → Prop} {P : GS → Prop} {k80 : GS → Int32 → Int32 → Int32 → Prop} {k94 : GS → Int32 → Int32 → Int32 → Int32 → Prop} (K : gC p s m args meth c cX2_goRounds 7 RX2 r A) (hr : meth.sig.returnType = none) (H80 : ∀ (σ : GS) (x1 : Int32) (x2 : Int32) (x3 : Int32), k80 σ x1 x2 x3 → gW dM p l e (gRm 70 2686 0 0) s m args below meth c r A (zV P) 0 0 7 80 [(0, .ref r.2.1), (1, .int x1), (2, .int x2), (3, .int x3)] [] 0 0 σ) (H94 : ∀ (σ : GS) (x1 : Int32) (x2 : Int32) (x3 : Int32) (x4 : Int32), k94 σ x1 x2 x3 x4 → gW dM p l e (gRm 70 2686 0 0) s m args below meth c r A (zV P) 0 0 7 94 [(0, .ref r.2.1), (1, .int x1), (2, .int x2), (3, .int x3), (4, .int x4)] [] 0 0 σ) : ∀ (σ : GS) (x1 : Int32) (x2 : Int32) (x3 : Int32) (x4 : Int32) (x5 : Int32), f_X2_goRounds_153 k80 k94 P σ x1 x2 x3 x4 x5 → gW dM p l e (gRm 70 2686 0 0) s m args below meth c r A (zV P) 0 0 7 153 [(0, .ref r.2.1), (1, .int x1), (2, .int x2), (3, .int x3), (4, .int x4), (5, .int x5)] [] 0 0 σ := by
  obtain ⟨hx, hb, hml, hown, hts, hlk, hKK, hA⟩ := id K
  intro σ x1 x2 x3 x4 x5 hf H locs ls hM hl
  unfold f_X2_goRounds_153 at hf
  refine lv_iconst (v := 0) hx hb dX2_goRounds_153 rfl ?_
  exact w_X2_goRounds_154 K hr H80 H94 _ _ _ _ _ _ _ hf _ _ _ hM (lv_sub hl [0, 1, 2, 3, 4, 5] rfl)
theorem w_X2_goRounds_135 {p : Program} {l : Launch} {e : Env} {s : State} {m : MethodId} {args : Array Value} {below : List Frame} {meth : Method} {c : Code} {r : GR} {A : Nat → Prop} {P : GS → Prop} {k80 : GS → Int32 → Int32 → Int32 → Prop} {k94 : GS → Int32 → Int32 → Int32 → Int32 → Prop} (K : gC p s m args meth c cX2_goRounds 7 RX2 r A) (hr : meth.sig.returnType = none) (H80 : ∀ (σ : GS) (x1 : Int32) (x2 : Int32) (x3 : Int32), k80 σ x1 x2 x3 → gW dM p l e (gRm 70 2686 0 0) s m args below meth c r A (zV P) 0 0 7 80 [(0, .ref r.2.1), (1, .int x1), (2, .int x2), (3, .int x3)] [] 0 0 σ) (H94 : ∀ (σ : GS) (x1 : Int32) (x2 : Int32) (x3 : Int32) (x4 : Int32), k94 σ x1 x2 x3 x4 → gW dM p l e (gRm 70 2686 0 0) s m args below meth c r A (zV P) 0 0 7 94 [(0, .ref r.2.1), (1, .int x1), (2, .int x2), (3, .int x3), (4, .int x4)] [] 0 0 σ) : ∀ (σ : GS) (x1 : Int32) (x2 : Int32) (x3 : Int32) (x4 : Int32) (x5 : Int32), f_X2_goRounds_135 k80 k94 P σ x1 x2 x3 x4 x5 → gW dM p l e (gRm 70 2686 0 0) s m args below meth c r A (zV P) 0 0 7 135 [(0, .ref r.2.1), (1, .int x1), (2, .int x2), (3, .int x3), (4, .int x4), (5, .int x5)] [] 0 0 σ := by
  obtain ⟨hx, hb, hml, hown, hts, hlk, hKK, hA⟩ := id K
  intro σ x1 x2 x3 x4 x5 hf H locs ls hM hl
  unfold f_X2_goRounds_135 at hf
  refine lv_aload_n hx hb dX2_goRounds_135 rfl (lv_at hl 0 rfl) ?_
  refine lv_iload hx hb dX2_goRounds_136 (lv_at hl 4 rfl) ?_
  refine g_cVi [.int x4] [] K kM hM hl (c_X2_over l r A _ _ _ hf) q1792 q1794 qs65 q84 q1795 hdX2_over ⟨Nat.le_of_ble_eq_true rfl, Nat.le_of_ble_eq_true rfl⟩ ⟨Nat.le_refl _, Nat.le_refl _⟩ rfl (Nat.le_of_ble_eq_true rfl) dX2_goRounds_138 (fun σ1 v2 H locs hf hM => ?_)
  refine lv_if_le (tgt := 153) hx hb dX2_goRounds_141 (by decide) (fun b3 => ?_) (fun b3 => ?_)
  · replace hf := hf.1 b3
    exact w_X2_goRounds_153 K hr H80 H94 _ _ _ _ _ _ hf _ _ _ hM (lv_sub hl [0, 1, 2, 3, 4, 5] rfl)
  · replace hf := hf.2 b3
    refine lv_iload hx hb dX2_goRounds_144 (lv_at hl 5 rfl) ?_
    refine lv_if_le (tgt := 153) hx hb dX2_goRounds_146 (by decide) (fun b4 => ?_) (fun b4 => ?_)
    · replace hf := hf.1 b4
      exact w_X2_goRounds_153 K hr H80 H94 _ _ _ _ _ _ hf _ _ _ hM (lv_sub hl [0, 1, 2, 3, 4, 5] rfl)
    · replace hf := hf.2 b4
      refine lv_iconst (v := -1) hx hb dX2_goRounds_149 rfl ?_
      refine lv_goto (tgt := 154) hx hb dX2_goRounds_150 (by decide) ?_
      exact w_X2_goRounds_154 K hr H80 H94 _ _ _ _ _ _ _ hf _ _ _ hM (lv_sub hl [0, 1, 2, 3, 4, 5] rfl)
theorem w_X2_goRounds_94 {p : Program} {l : Launch} {e : Env} {s : State} {m : MethodId} {args : Array Value} {below : List Frame} {meth : Method} {c : Code} {r : GR} {A : Nat → Prop} {P : GS → Prop} {k80 : GS → Int32 → Int32 → Int32 → Prop} (K : gC p s m args meth c cX2_goRounds 7 RX2 r A) (hr : meth.sig.returnType = none) (H80 : ∀ (σ : GS) (x1 : Int32) (x2 : Int32) (x3 : Int32), k80 σ x1 x2 x3 → gW dM p l e (gRm 70 2686 0 0) s m args below meth c r A (zV P) 0 0 7 80 [(0, .ref r.2.1), (1, .int x1), (2, .int x2), (3, .int x3)] [] 0 0 σ) : ∀ (n : Nat) (σ : GS) (x1 : Int32) (x2 : Int32) (x3 : Int32) (x4 : Int32), f_X2_goRounds_94 k80 P n σ x1 x2 x3 x4 → gW dM p l e (gRm 70 2686 0 0) s m args below meth c r A (zV P) 0 0 7 94 [(0, .ref r.2.1), (1, .int x1), (2, .int x2), (3, .int x3), (4, .int x4)] [] 0 0 σ := by
  obtain ⟨hx, hb, hml, hown, hts, hlk, hKK, hA⟩ := id K
  intro n
  induction n with
  | zero =>
    intro σ x1 x2 x3 x4 hf
    exact absurd hf (fun h => h)
  | succ n ih =>
    intro σ x1 x2 x3 x4 hf H locs ls hM hl
    rw [f_X2_goRounds_94] at hf
    refine lv_iload hx hb dX2_goRounds_94 (lv_at hl 4 rfl) ?_
    refine lv_aload_n hx hb dX2_goRounds_96 rfl (lv_at hl 0 rfl) ?_
    refine g_geti K kM hM 6 rfl q1459 rfl dX2_goRounds_97 rfl ?_
    refine lv_icmp_ge (tgt := 192) hx hb dX2_goRounds_100 (by decide) (fun b1 => ?_) (fun b1 => ?_)
    · replace hf := hf.1 b1
      refine lv_iload_n hx hb dX2_goRounds_192 rfl (lv_at hl 2 rfl) ?_
      refine lv_if_eq (tgt := 218) hx hb dX2_goRounds_193 (by decide) (fun b2 => ?_) (fun b2 => ?_)
      · replace hf := hf.1 b2
        exact w_X2_goRounds_218 K hr H80 _ _ _ _ hf _ _ _ hM (lv_sub hl [0, 1, 2, 3] rfl)
      · replace hf := hf.2 b2
        refine lv_aload_n hx hb dX2_goRounds_196 rfl (lv_at hl 0 rfl) ?_
        refine g_cVv [] [] K kM hM hl (c_X2_findWanted l r A _ _ hf) q1784 q1786 qs63 q84 q1787 hdX2_findWanted ⟨Nat.le_of_ble_eq_true rfl, Nat.le_of_ble_eq_true rfl⟩ ⟨Nat.le_refl _, Nat.le_refl _⟩ rfl (Nat.le_of_ble_eq_true rfl) dX2_goRounds_197 (fun σ3 H locs hf hM => ?_)
        refine lv_aload_n hx hb dX2_goRounds_200 rfl (lv_at hl 0 rfl) ?_
        refine lv_iload_n hx hb dX2_goRounds_201 rfl (lv_at hl 3 rfl) ?_
        refine g_putiN K kM hM 35 rfl q1488 rfl dX2_goRounds_202 rfl rfl rfl (fun H locs σ5 hσ5 hM => ?_)
        have hf := hf σ5 hσ5
        refine lv_aload_n hx hb dX2_goRounds_205 rfl (lv_at hl 0 rfl) ?_
        refine lv_aload_n hx hb dX2_goRounds_206 rfl (lv_at hl 0 rfl) ?_
        refine g_cVi [] [.ref r.2.1] K kM hM hl (c_X2_bothOver l r A _ _ hf) q1788 q1790 qs64 q84 q1791 hdX2_bothOver ⟨Nat.le_of_ble_eq_true rfl, Nat.le_of_ble_eq_true rfl⟩ ⟨Nat.le_refl _, Nat.le_refl _⟩ rfl (Nat.le_of_ble_eq_true rfl) dX2_goRounds_207 (fun σ6 v7 H locs hf hM => ?_)
        refine g_putiN K kM hM 36 rfl q1489 rfl dX2_goRounds_210 rfl rfl rfl (fun H locs σ8 hσ8 hM => ?_)
        have hf := hf σ8 hσ8
        refine lv_aload_n hx hb dX2_goRounds_213 rfl (lv_at hl 0 rfl) ?_
        refine lv_iload_n hx hb dX2_goRounds_214 rfl (lv_at hl 3 rfl) ?_
        refine g_cVv [.int x3] [] K kM hM hl (c_X2_keepsLeast l r A _ _ _ hf) q1816 q1818 qs67 q84 q1819 hdX2_keepsLeast ⟨Nat.le_of_ble_eq_true rfl, Nat.le_of_ble_eq_true rfl⟩ ⟨Nat.le_refl _, Nat.le_refl _⟩ rfl (Nat.le_of_ble_eq_true rfl) dX2_goRounds_215 (fun σ9 H locs hf hM => ?_)
        exact w_X2_goRounds_218 K hr H80 _ _ _ _ hf _ _ _ hM (lv_sub hl [0, 1, 2, 3] rfl)
    · replace hf := hf.2 b1
      refine lv_aload_n hx hb dX2_goRounds_103 rfl (lv_at hl 0 rfl) ?_
      refine g_geta K kM hM 0 rfl q1453 rfl dX2_goRounds_104 rfl ?_
      refine lv_bipush (v := 12) hx hb dX2_goRounds_107 rfl ?_
      refine lv_iload hx hb dX2_goRounds_109 (lv_at hl 4 rfl) ?_
      refine lv_iadd hx hb dX2_goRounds_111 ?_
      obtain ⟨g11, hf⟩ := hf
      refine g_iald K hM 0 rfl rfl rfl g11 dX2_goRounds_112 ?_
      refine lv_topi (fun z12 hz12 => ?_)
      have hf := hf z12 hz12
      refine lv_istore (lv' := [(5, .int z12), (0, .ref r.2.1), (1, .int x1), (2, .int x2), (3, .int x3), (4, .int x4)]) hx hb dX2_goRounds_113 hl (by decide) rfl (fun ls hl => ?_)
      refine lv_aload_n hx hb dX2_goRounds_115 rfl (lv_at hl 1 rfl) ?_
      refine lv_iload hx hb dX2_goRounds_116 (lv_at hl 5 rfl) ?_
      refine g_cVi [.int x4] [] K kM hM hl (c_X2_over l r A _ _ _ hf) q1792 q1794 qs65 q84 q1795 hdX2_over ⟨Nat.le_of_ble_eq_true rfl, Nat.le_of_ble_eq_true rfl⟩ ⟨Nat.le_refl _, Nat.le_refl _⟩ rfl (Nat.le_of_ble_eq_true rfl) dX2_goRounds_118 (fun σ13 v14 H locs hf hM => ?_)
      refine lv_if_ge (tgt := 135) hx hb dX2_goRounds_121 (by decide) (fun b15 => ?_) (fun b15 => ?_)
      · replace hf := hf.1 b15
        exact w_X2_goRounds_135 K hr H80 ih _ _ _ _ _ _ hf _ _ _ hM (lv_sub hl [1, 2, 3, 4, 5, 0] rfl)
      · replace hf := hf.2 b15
        refine lv_iload hx hb dX2_goRounds_124 (lv_at hl 0 rfl) ?_
        refine lv_bipush (v := 99) hx hb dX2_goRounds_126 rfl ?_
        refine lv_icmp_ge (tgt := 135) hx hb dX2_goRounds_128 (by decide) (fun b16 => ?_) (fun b16 => ?_)
        · replace hf := hf.1 b16
          exact w_X2_goRounds_135 K hr H80 ih _ _ _ _ _ _ hf _ _ _ hM (lv_sub hl [1, 2, 3, 4, 5, 0] rfl)
        · replace hf := hf.2 b16
          refine lv_iconst (v := 1) hx hb dX2_goRounds_131 rfl ?_
          refine lv_goto (tgt := 154) hx hb dX2_goRounds_132 (by decide) ?_
          exact w_X2_goRounds_154 K hr H80 ih _ _ _ _ _ _ _ hf _ _ _ hM (lv_sub hl [1, 2, 3, 4, 5, 0] rfl)
theorem w_X2_goRounds_80 {p : Program} {l : Launch} {e : Env} {s : State} {m : MethodId} {args : Array Value} {below : List Frame} {meth : Method} {c : Code} {r : GR} {A : Nat → Prop} {P : GS → Prop} (K : gC p s m args meth c cX2_goRounds 7 RX2 r A) (hr : meth.sig.returnType = none) : ∀ (n : Nat) (σ : GS) (x1 : Int32) (x2 : Int32) (x3 : Int32), f_X2_goRounds_80 P n σ x1 x2 x3 → gW dM p l e (gRm 70 2686 0 0) s m args below meth c r A (zV P) 0 0 7 80 [(0, .ref r.2.1), (1, .int x1), (2, .int x2), (3, .int x3)] [] 0 0 σ := by
  obtain ⟨hx, hb, hml, hown, hts, hlk, hKK, hA⟩ := id K
  intro n
  induction n with
  | zero =>
    intro σ x1 x2 x3 hf
    exact absurd hf (fun h => h)
  | succ n ih =>
    intro σ x1 x2 x3 hf H locs ls hM hl
    rw [f_X2_goRounds_80] at hf
    refine lv_iload_n hx hb dX2_goRounds_80 rfl (lv_at hl 3 rfl) ?_
    refine lv_iload_n hx hb dX2_goRounds_81 rfl (lv_at hl 1 rfl) ?_
    refine lv_icmp_gt (tgt := 224) hx hb dX2_goRounds_82 (by decide) (fun b1 => ?_) (fun b1 => ?_)
    · replace hf := hf.1 b1
      exact w_X2_goRounds_224 K hr _ hf _ _ _ hM (lv_sub hl [0] rfl)
    · replace hf := hf.2 b1
      refine lv_iload_n hx hb dX2_goRounds_85 rfl (lv_at hl 2 rfl) ?_
      refine lv_if_eq (tgt := 224) hx hb dX2_goRounds_86 (by decide) (fun b2 => ?_) (fun b2 => ?_)
      · replace hf := hf.1 b2
        exact w_X2_goRounds_224 K hr _ hf _ _ _ hM (lv_sub hl [0] rfl)
      · replace hf := hf.2 b2
        refine lv_iconst (v := 0) hx hb dX2_goRounds_89 rfl ?_
        refine lv_istore_n (lv' := [(2, .int (0 : Int32)), (0, .ref r.2.1), (1, .int x1), (3, .int x3)]) hx hb dX2_goRounds_90 rfl hl (by decide) rfl (fun ls hl => ?_)
        refine lv_iconst (v := 0) hx hb dX2_goRounds_91 rfl ?_
        refine lv_istore (lv' := [(4, .int (0 : Int32)), (2, .int (0 : Int32)), (0, .ref r.2.1), (1, .int x1), (3, .int x3)]) hx hb dX2_goRounds_92 hl (by decide) rfl (fun ls hl => ?_)
        obtain ⟨n_, hf⟩ := hf
        exact w_X2_goRounds_94 K hr ih n_ _ _ _ _ _ hf _ _ _ hM (lv_sub hl [2, 3, 1, 4, 0] rfl)
theorem w_X2_goRounds_2 {p : Program} {l : Launch} {e : Env} {s : State} {m : MethodId} {args : Array Value} {below : List Frame} {meth : Method} {c : Code} {r : GR} {A : Nat → Prop} {P : GS → Prop} (K : gC p s m args meth c cX2_goRounds 7 RX2 r A) (hr : meth.sig.returnType = none) : ∀ (n : Nat) (σ : GS) (x1 : Int32) (x2 : Int32), f_X2_goRounds_2 P n σ x1 x2 → gW dM p l e (gRm 70 2686 0 0) s m args below meth c r A (zV P) 0 0 7 2 [(0, .ref r.2.1), (1, .int x1), (2, .int x2)] [] 0 0 σ := by
  obtain ⟨hx, hb, hml, hown, hts, hlk, hKK, hA⟩ := id K
  intro n
  induction n with
  | zero =>
    intro σ x1 x2 hf
    exact absurd hf (fun h => h)
  | succ n ih =>
    intro σ x1 x2 hf H locs ls hM hl
    rw [f_X2_goRounds_2] at hf
    refine lv_iload_n hx hb dX2_goRounds_2 rfl (lv_at hl 2 rfl) ?_
    refine lv_aload_n hx hb dX2_goRounds_3 rfl (lv_at hl 0 rfl) ?_
    refine g_geti K kM hM 6 rfl q1459 rfl dX2_goRounds_4 rfl ?_
    refine lv_icmp_ge (tgt := 46) hx hb dX2_goRounds_7 (by decide) (fun b1 => ?_) (fun b1 => ?_)
    · replace hf := hf.1 b1
      refine lv_aload_n hx hb dX2_goRounds_46 rfl (lv_at hl 0 rfl) ?_
      refine g_cVv [] [] K kM hM hl (c_X2_findWanted l r A _ _ hf) q1784 q1786 qs63 q84 q1787 hdX2_findWanted ⟨Nat.le_of_ble_eq_true rfl, Nat.le_of_ble_eq_true rfl⟩ ⟨Nat.le_refl _, Nat.le_refl _⟩ rfl (Nat.le_of_ble_eq_true rfl) dX2_goRounds_47 (fun σ2 H locs hf hM => ?_)
      refine lv_aload_n hx hb dX2_goRounds_50 rfl (lv_at hl 0 rfl) ?_
      refine lv_iconst (v := 0) hx hb dX2_goRounds_51 rfl ?_
      refine g_putiN K kM hM 35 rfl q1488 rfl dX2_goRounds_52 rfl rfl rfl (fun H locs σ4 hσ4 hM => ?_)
      have hf := hf σ4 hσ4
      refine lv_aload_n hx hb dX2_goRounds_55 rfl (lv_at hl 0 rfl) ?_
      refine lv_aload_n hx hb dX2_goRounds_56 rfl (lv_at hl 0 rfl) ?_
      refine g_cVi [] [.ref r.2.1] K kM hM hl (c_X2_bothOver l r A _ _ hf) q1788 q1790 qs64 q84 q1791 hdX2_bothOver ⟨Nat.le_of_ble_eq_true rfl, Nat.le_of_ble_eq_true rfl⟩ ⟨Nat.le_refl _, Nat.le_refl _⟩ rfl (Nat.le_of_ble_eq_true rfl) dX2_goRounds_57 (fun σ5 v6 H locs hf hM => ?_)
      refine g_putiN K kM hM 36 rfl q1489 rfl dX2_goRounds_60 rfl rfl rfl (fun H locs σ7 hσ7 hM => ?_)
      have hf := hf σ7 hσ7
      refine lv_aload_n hx hb dX2_goRounds_63 rfl (lv_at hl 0 rfl) ?_
      refine lv_aload_n hx hb dX2_goRounds_64 rfl (lv_at hl 0 rfl) ?_
      refine g_geti K kM hM 36 rfl q1489 rfl dX2_goRounds_65 rfl ?_
      refine g_putiN K kM hM 37 rfl q1490 rfl dX2_goRounds_68 rfl rfl rfl (fun H locs σ8 hσ8 hM => ?_)
      have hf := hf σ8 hσ8
      refine lv_aload_n hx hb dX2_goRounds_71 rfl (lv_at hl 0 rfl) ?_
      refine lv_iconst (v := 0) hx hb dX2_goRounds_72 rfl ?_
      refine g_putiN K kM hM 38 rfl q1491 rfl dX2_goRounds_73 rfl rfl rfl (fun H locs σ9 hσ9 hM => ?_)
      have hf := hf σ9 hσ9
      refine lv_iconst (v := 1) hx hb dX2_goRounds_76 rfl ?_
      refine lv_istore_n (lv' := [(2, .int (1 : Int32)), (0, .ref r.2.1), (1, .int x1)]) hx hb dX2_goRounds_77 rfl hl (by decide) rfl (fun ls hl => ?_)
      refine lv_iconst (v := 1) hx hb dX2_goRounds_78 rfl ?_
      refine lv_istore_n (lv' := [(3, .int (1 : Int32)), (2, .int (1 : Int32)), (0, .ref r.2.1), (1, .int x1)]) hx hb dX2_goRounds_79 rfl hl (by decide) rfl (fun ls hl => ?_)
      obtain ⟨n_, hf⟩ := hf
      exact w_X2_goRounds_80 K hr n_ _ _ _ _ hf _ _ _ hM (lv_sub hl [2, 3, 1, 0] rfl)
    · replace hf := hf.2 b1
      refine lv_aload_n hx hb dX2_goRounds_10 rfl (lv_at hl 0 rfl) ?_
      refine g_geta K kM hM 41 rfl q1494 rfl dX2_goRounds_11 rfl ?_
      refine lv_iload_n hx hb dX2_goRounds_14 rfl (lv_at hl 2 rfl) ?_
      refine lv_aload_n hx hb dX2_goRounds_15 rfl (lv_at hl 0 rfl) ?_
      refine g_geta K kM hM 0 rfl q1453 rfl dX2_goRounds_16 rfl ?_
      refine lv_bipush (v := 12) hx hb dX2_goRounds_19 rfl ?_
      refine lv_iload_n hx hb dX2_goRounds_21 rfl (lv_at hl 2 rfl) ?_
      refine lv_iadd hx hb dX2_goRounds_22 ?_
      obtain ⟨g10, hf⟩ := hf
      refine g_iald K hM 0 rfl rfl rfl g10 dX2_goRounds_23 ?_
      obtain ⟨g11, hf⟩ := hf
      refine g_iastN K hM 41 rfl rfl rfl g11 dX2_goRounds_24 (fun H locs σ12 hσ12 hM => ?_)
      have hf := hf σ12 hσ12
      refine lv_aload_n hx hb dX2_goRounds_25 rfl (lv_at hl 0 rfl) ?_
      refine g_geta K kM hM 40 rfl q1493 rfl dX2_goRounds_26 rfl ?_
      refine lv_iload_n hx hb dX2_goRounds_29 rfl (lv_at hl 2 rfl) ?_
      refine lv_aload_n hx hb dX2_goRounds_30 rfl (lv_at hl 0 rfl) ?_
      refine g_geta K kM hM 0 rfl q1453 rfl dX2_goRounds_31 rfl ?_
      refine lv_bipush (v := 12) hx hb dX2_goRounds_34 rfl ?_
      refine lv_iload_n hx hb dX2_goRounds_36 rfl (lv_at hl 2 rfl) ?_
      refine lv_iadd hx hb dX2_goRounds_37 ?_
      obtain ⟨g13, hf⟩ := hf
      refine g_iald K hM 0 rfl rfl rfl g13 dX2_goRounds_38 ?_
      obtain ⟨g14, hf⟩ := hf
      refine g_iastN K hM 40 rfl rfl rfl g14 dX2_goRounds_39 (fun H locs σ15 hσ15 hM => ?_)
      have hf := hf σ15 hσ15
      refine lv_iinc (v := x2 + 1) (lv' := [(2, .int (x2 + 1)), (0, .ref r.2.1), (1, .int x1)]) hx hb dX2_goRounds_40 hl (k := 2) rfl rfl (by decide) rfl (fun ls hl => ?_)
      refine lv_goto (tgt := 2) hx hb dX2_goRounds_43 (by decide) ?_
      exact ih _ _ _ hf _ _ _ hM (lv_sub hl [1, 2, 0] rfl)
theorem c_X2_goRounds (l : Launch) (r : GR) (A : Nat → Prop) (σ : GS) (x1 : Int32) (P : GS → Prop) (hf : f_X2_goRounds σ x1 P) : gMet dM l yX2_goRounds cX2_goRounds 7 none 70 2686 0 0 r A σ [.ref r.2.1, .int x1] (zV P) := by
  refine g_enter (lv := [(0, .ref r.2.1), (1, .int x1)]) (by decide) (Nat.le_of_ble_eq_true rfl) rfl ?_
  intro p e s m below meth c ls K hr hM hl _
  obtain ⟨hx, hb, hml, hown, hts, hlk, hKK, hA⟩ := id K
  unfold f_X2_goRounds at hf
  refine lv_iconst (v := 0) hx hb dX2_goRounds_0 rfl ?_
  refine lv_istore_n (lv' := [(2, .int (0 : Int32)), (0, .ref r.2.1), (1, .int x1)]) hx hb dX2_goRounds_1 rfl hl (by decide) rfl (fun ls hl => ?_)
  obtain ⟨n_, hf⟩ := hf
  exact w_X2_goRounds_2 K hr n_ _ _ _ hf _ _ _ hM (lv_sub hl [1, 2, 0] rfl)
theorem c_X2_found (l : Launch) (r : GR) (A : Nat → Prop) (σ : GS) (x1 : Int32) (x2 : Int32) (P : GS → Int32 → Prop) (hf : f_X2_found σ x1 x2 P) : gMet dM l yX2_found cX2_found 3 (some .int) 71 2712 0 0 r A σ [.ref r.2.1, .int x1, .int x2] (zI P) := by
  refine g_enter (lv := [(0, .ref r.2.1), (1, .int x1), (2, .int x2)]) (by decide) (Nat.le_of_ble_eq_true rfl) rfl ?_
  intro p e s m below meth c ls K hr hM hl _
  obtain ⟨hx, hb, hml, hown, hts, hlk, hKK, hA⟩ := id K
  unfold f_X2_found at hf
  refine lv_iload_n hx hb dX2_found_0 rfl (lv_at hl 1 rfl) ?_
  refine g_cSi [.int x1] [] K hM hl (c_X2_areRounds l r A _ _ _ hf) q1807 q1808 q84 q1809 hdX2_areRounds ⟨Nat.le_of_ble_eq_true rfl, Nat.le_of_ble_eq_true rfl⟩ ⟨Nat.le_refl _, Nat.le_refl _⟩ rfl (Nat.le_of_ble_eq_true rfl) dX2_found_1 (fun σ1 v2 H locs hf hM => ?_)
  refine lv_if_eq (tgt := 25) hx hb dX2_found_4 (by decide) (fun b3 => ?_) (fun b3 => ?_)
  · replace hf := hf.1 b3
    refine lv_iconst (v := -1) hx hb dX2_found_25 rfl ?_
    exact g_reti K hr hM ⟨Nat.le_refl _, Nat.le_refl _⟩ hf dX2_found_26
  · replace hf := hf.2 b3
    refine lv_iload_n hx hb dX2_found_7 rfl (lv_at hl 2 rfl) ?_
    refine lv_i2l hx hb dX2_found_8 rfl ?_
    refine lv_ldc2 hx hb hown (hts _ q1811) dX2_found_9 ?_
    refine lv_aload_n hx hb dX2_found_12 rfl (lv_at hl 0 rfl) ?_
    refine g_geti K kM hM 6 rfl q1459 rfl dX2_found_13 rfl ?_
    refine lv_iconst (v := 1) hx hb dX2_found_16 rfl ?_
    refine lv_isub hx hb dX2_found_17 ?_
    refine lv_i2l hx hb dX2_found_18 rfl ?_
    refine g_cSi [.long x2.toInt64, .long (-4 : Int64), .long (((gI σ1 6) - (1 : Int32)).toInt64)] [] K hM hl (c_X2_within l r A _ _ _ _ _ hf) q1632 q1633 q84 q1634 hdX2_within ⟨Nat.le_of_ble_eq_true rfl, Nat.le_of_ble_eq_true rfl⟩ ⟨Nat.le_refl _, Nat.le_refl _⟩ rfl (Nat.le_of_ble_eq_true rfl) dX2_found_19 (fun σ4 v5 H locs hf hM => ?_)
    refine lv_if_ne (tgt := 27) hx hb dX2_found_22 (by decide) (fun b6 => ?_) (fun b6 => ?_)
    · replace hf := hf.2 b6
      refine lv_aload_n hx hb dX2_found_27 rfl (lv_at hl 0 rfl) ?_
      refine lv_iload_n hx hb dX2_found_28 rfl (lv_at hl 1 rfl) ?_
      refine g_cVv [.int x1] [] K kM hM hl (c_X2_goRounds l r A _ _ _ hf) q1812 q1814 qs66 q84 q1815 hdX2_goRounds ⟨Nat.le_of_ble_eq_true rfl, Nat.le_of_ble_eq_true rfl⟩ ⟨Nat.le_refl _, Nat.le_refl _⟩ rfl (Nat.le_of_ble_eq_true rfl) dX2_found_29 (fun σ7 H locs hf hM => ?_)
      refine lv_iload_n hx hb dX2_found_32 rfl (lv_at hl 2 rfl) ?_
      by_cases b10_0 : x2 = (-4 : Int32)
      · replace hf := hf.1 b10_0
        refine lv_tableIn (off := 46) (tgt := 79) hx hb dX2_found_33 (by rw [b10_0]; decide) (by rw [b10_0]; decide) (by rw [b10_0]; rfl) (by decide) ?_
        refine lv_aload_n hx hb dX2_found_79 rfl (lv_at hl 0 rfl) ?_
        refine g_geti K kM hM 38 rfl q1491 rfl dX2_found_80 rfl ?_
        exact g_reti K hr hM ⟨Nat.le_refl _, Nat.le_refl _⟩ hf dX2_found_83
      replace hf := hf.2 b10_0
      by_cases b10_1 : x2 = (-3 : Int32)
      · replace hf := hf.1 b10_1
        refine lv_tableIn (off := 41) (tgt := 74) hx hb dX2_found_33 (by rw [b10_1]; decide) (by rw [b10_1]; decide) (by rw [b10_1]; rfl) (by decide) ?_
        refine lv_aload_n hx hb dX2_found_74 rfl (lv_at hl 0 rfl) ?_
        refine g_geti K kM hM 37 rfl q1490 rfl dX2_found_75 rfl ?_
        exact g_reti K hr hM ⟨Nat.le_refl _, Nat.le_refl _⟩ hf dX2_found_78
      replace hf := hf.2 b10_1
      by_cases b10_2 : x2 = (-2 : Int32)
      · replace hf := hf.1 b10_2
        refine lv_tableIn (off := 36) (tgt := 69) hx hb dX2_found_33 (by rw [b10_2]; decide) (by rw [b10_2]; decide) (by rw [b10_2]; rfl) (by decide) ?_
        refine lv_aload_n hx hb dX2_found_69 rfl (lv_at hl 0 rfl) ?_
        refine g_geti K kM hM 36 rfl q1489 rfl dX2_found_70 rfl ?_
        exact g_reti K hr hM ⟨Nat.le_refl _, Nat.le_refl _⟩ hf dX2_found_73
      replace hf := hf.2 b10_2
      by_cases b10_3 : x2 = (-1 : Int32)
      · replace hf := hf.1 b10_3
        refine lv_tableIn (off := 31) (tgt := 64) hx hb dX2_found_33 (by rw [b10_3]; decide) (by rw [b10_3]; decide) (by rw [b10_3]; rfl) (by decide) ?_
        refine lv_aload_n hx hb dX2_found_64 rfl (lv_at hl 0 rfl) ?_
        refine g_geti K kM hM 35 rfl q1488 rfl dX2_found_65 rfl ?_
        exact g_reti K hr hM ⟨Nat.le_refl _, Nat.le_refl _⟩ hf dX2_found_68
      replace hf := hf.2 b10_3
      refine lv_tableOut (tgt := 84) hx hb dX2_found_33 (by have := lv_neT (a := -4) b10_0 rfl; have := lv_neT (a := -3) b10_1 rfl; have := lv_neT (a := -2) b10_2 rfl; have := lv_neT (a := -1) b10_3 rfl; omega) (by decide) ?_
      refine lv_aload_n hx hb dX2_found_84 rfl (lv_at hl 0 rfl) ?_
      refine g_geta K kM hM 39 rfl q1492 rfl dX2_found_85 rfl ?_
      refine lv_iload_n hx hb dX2_found_88 rfl (lv_at hl 2 rfl) ?_
      obtain ⟨g9, hf⟩ := hf
      refine g_iald K hM 39 rfl rfl rfl g9 dX2_found_89 ?_
      exact g_reti K hr hM ⟨Nat.le_refl _, Nat.le_refl _⟩ hf dX2_found_90
    · replace hf := hf.1 b6
      refine lv_iconst (v := -1) hx hb dX2_found_25 rfl ?_
      exact g_reti K hr hM ⟨Nat.le_refl _, Nat.le_refl _⟩ hf dX2_found_26
theorem w_X2_set_21 {p : Program} {l : Launch} {e : Env} {s : State} {m : MethodId} {args : Array Value} {below : List Frame} {meth : Method} {c : Code} {r : GR} {A : Nat → Prop} {P : GS → Int32 → Prop} (K : gC p s m args meth c cX2_set 5 RX2 r A) (hr : meth.sig.returnType = (some .int)) : ∀ (n : Nat) (σ : GS) (x2 : Int32) (x3 : Int32), f_X2_set_21 P n σ x2 x3 → gW dM p l e (gRm 71 2712 0 0) s m args below meth c r A (zI P) 0 0 5 21 [(0, .ref r.2.1), (2, .int x2), (3, .int x3)] [] 0 0 σ := by
  obtain ⟨hx, hb, hml, hown, hts, hlk, hKK, hA⟩ := id K
  intro n
  induction n with
  | zero =>
    intro σ x2 x3 hf
    exact absurd hf (fun h => h)
  | succ n ih =>
    intro σ x2 x3 hf H locs ls hM hl
    rw [f_X2_set_21] at hf
    refine lv_iload_n hx hb dX2_set_21 rfl (lv_at hl 2 rfl) ?_
    refine lv_aload_n hx hb dX2_set_22 rfl (lv_at hl 0 rfl) ?_
    refine g_geti K kM hM 6 rfl q1459 rfl dX2_set_23 rfl ?_
    refine lv_icmp_ge (tgt := 51) hx hb dX2_set_26 (by decide) (fun b1 => ?_) (fun b1 => ?_)
    · replace hf := hf.1 b1
      refine lv_iload_n hx hb dX2_set_51 rfl (lv_at hl 1 rfl) ?_
      exact g_reti K hr hM ⟨Nat.le_refl _, Nat.le_refl _⟩ hf dX2_set_52
    · replace hf := hf.2 b1
      refine lv_aload_n hx hb dX2_set_29 rfl (lv_at hl 0 rfl) ?_
      refine lv_bipush (v := 12) hx hb dX2_set_30 rfl ?_
      refine lv_iload_n hx hb dX2_set_32 rfl (lv_at hl 2 rfl) ?_
      refine lv_iadd hx hb dX2_set_33 ?_
      refine lv_aload_n hx hb dX2_set_34 rfl (lv_at hl 0 rfl) ?_
      refine g_geta K kM hM 40 rfl q1493 rfl dX2_set_35 rfl ?_
      refine lv_iload_n hx hb dX2_set_38 rfl (lv_at hl 2 rfl) ?_
      obtain ⟨g2, hf⟩ := hf
      refine g_iald K hM 40 rfl rfl rfl g2 dX2_set_39 ?_
      refine g_cVi [.int ((12 : Int32) + x3), .int (gA σ 40 x3.toNatClampNeg)] [] K kM hM hl (c_X2_becomes l r A _ _ _ _ hf) q1662 q1664 qs42 q84 q1665 hdX2_becomes ⟨Nat.le_of_ble_eq_true rfl, Nat.le_of_ble_eq_true rfl⟩ ⟨Nat.le_refl _, Nat.le_refl _⟩ rfl (Nat.le_of_ble_eq_true rfl) dX2_set_40 (fun σ3 v4 H locs hf hM => ?_)
      refine lv_istore (lv' := [(4, .int v4), (0, .ref r.2.1), (2, .int x2), (3, .int x3)]) hx hb dX2_set_43 hl (by decide) rfl (fun ls hl => ?_)
      refine lv_iinc (v := x3 + 1) (lv' := [(3, .int (x3 + 1)), (4, .int v4), (0, .ref r.2.1), (2, .int x2)]) hx hb dX2_set_45 hl (k := 3) rfl rfl (by decide) rfl (fun ls hl => ?_)
      refine lv_goto (tgt := 21) hx hb dX2_set_48 (by decide) ?_
      exact ih _ _ _ hf _ _ _ hM (lv_sub hl [2, 3, 0] rfl)
theorem c_X2_set (l : Launch) (r : GR) (A : Nat → Prop) (σ : GS) (x1 : Int32) (P : GS → Int32 → Prop) (hf : f_X2_set σ x1 P) : gMet dM l yX2_set cX2_set 5 (some .int) 71 2712 0 0 r A σ [.ref r.2.1, .int x1] (zI P) := by
  refine g_enter (lv := [(0, .ref r.2.1), (1, .int x1)]) (by decide) (Nat.le_of_ble_eq_true rfl) rfl ?_
  intro p e s m below meth c ls K hr hM hl _
  obtain ⟨hx, hb, hml, hown, hts, hlk, hKK, hA⟩ := id K
  unfold f_X2_set at hf
  refine lv_iload_n hx hb dX2_set_0 rfl (lv_at hl 1 rfl) ?_
  refine g_cSi [.int x1] [] K hM hl (c_X2_areRounds l r A _ _ _ hf) q1807 q1808 q84 q1809 hdX2_areRounds ⟨Nat.le_of_ble_eq_true rfl, Nat.le_of_ble_eq_true rfl⟩ ⟨Nat.le_refl _, Nat.le_refl _⟩ rfl (Nat.le_of_ble_eq_true rfl) dX2_set_1 (fun σ1 v2 H locs hf hM => ?_)
  refine lv_if_ne (tgt := 9) hx hb dX2_set_4 (by decide) (fun b3 => ?_) (fun b3 => ?_)
  · replace hf := hf.2 b3
    refine lv_aload_n hx hb dX2_set_9 rfl (lv_at hl 0 rfl) ?_
    refine lv_iload_n hx hb dX2_set_10 rfl (lv_at hl 1 rfl) ?_
    refine g_cVv [.int x1] [] K kM hM hl (c_X2_goRounds l r A _ _ _ hf) q1812 q1814 qs66 q84 q1815 hdX2_goRounds ⟨Nat.le_of_ble_eq_true rfl, Nat.le_of_ble_eq_true rfl⟩ ⟨Nat.le_refl _, Nat.le_refl _⟩ rfl (Nat.le_of_ble_eq_true rfl) dX2_set_11 (fun σ4 H locs hf hM => ?_)
    refine lv_aload_n hx hb dX2_set_14 rfl (lv_at hl 0 rfl) ?_
    refine g_geti K kM hM 37 rfl q1490 rfl dX2_set_15 rfl ?_
    refine lv_istore_n (lv' := [(2, .int (gI σ4 37)), (0, .ref r.2.1), (1, .int x1)]) hx hb dX2_set_18 rfl hl (by decide) rfl (fun ls hl => ?_)
    refine lv_iconst (v := 0) hx hb dX2_set_19 rfl ?_
    refine lv_istore_n (lv' := [(3, .int (0 : Int32)), (2, .int (gI σ4 37)), (0, .ref r.2.1), (1, .int x1)]) hx hb dX2_set_20 rfl hl (by decide) rfl (fun ls hl => ?_)
    obtain ⟨n_, hf⟩ := hf
    exact w_X2_set_21 K hr n_ _ _ _ hf _ _ _ hM (lv_sub hl [2, 1, 0] rfl)
  · replace hf := hf.1 b3
    refine lv_iconst (v := -1) hx hb dX2_set_7 rfl ?_
    exact g_reti K hr hM ⟨Nat.le_refl _, Nat.le_refl _⟩ hf dX2_set_8
theorem w_X2_areDigits_10 {p : Program} {l : Launch} {e : Env} {s : State} {m : MethodId} {args : Array Value} {below : List Frame} {meth : Method} {c : Code} {r : GR} {A : Nat → Prop} {P : GS → Int32 → Prop} (K : gC p s m args meth c cX2_areDigits 4 RX2 r A) (hr : meth.sig.returnType = (some .boolean)) : ∀ (n : Nat) (σ : GS) (x2 : Int32) (x3 : Int32), f_X2_areDigits_10 P n σ x2 x3 → gW dM p l e (gRm 0 0 0 0) s m args below meth c r A (zI P) 0 0 4 10 [(0, .ref r.2.1), (2, .int x2), (3, .int x3)] [] 0 0 σ := by
  obtain ⟨hx, hb, hml, hown, hts, hlk, hKK, hA⟩ := id K
  intro n
  induction n with
  | zero =>
    intro σ x2 x3 hf
    exact absurd hf (fun h => h)
  | succ n ih =>
    intro σ x2 x3 hf H locs ls hM hl
    rw [f_X2_areDigits_10] at hf
    refine lv_iload_n hx hb dX2_areDigits_10 rfl (lv_at hl 2 rfl) ?_
    refine lv_if_le (tgt := 35) hx hb dX2_areDigits_11 (by decide) (fun b1 => ?_) (fun b1 => ?_)
    · replace hf := hf.1 b1
      refine lv_iload_n hx hb dX2_areDigits_35 rfl (lv_at hl 1 rfl) ?_
      refine lv_aload_n hx hb dX2_areDigits_36 rfl (lv_at hl 0 rfl) ?_
      refine g_geti K kM hM 6 rfl q1459 rfl dX2_areDigits_37 rfl ?_
      refine lv_icmp_gt (tgt := 47) hx hb dX2_areDigits_40 (by decide) (fun b2 => ?_) (fun b2 => ?_)
      · replace hf := hf.1 b2
        refine lv_iconst (v := 0) hx hb dX2_areDigits_47 rfl ?_
        exact g_retz K hr hM ⟨Nat.le_refl _, Nat.le_refl _⟩ gZ_0 hf dX2_areDigits_48
      · replace hf := hf.2 b2
        refine lv_iconst (v := 1) hx hb dX2_areDigits_43 rfl ?_
        refine lv_goto (tgt := 48) hx hb dX2_areDigits_44 (by decide) ?_
        exact g_retz K hr hM ⟨Nat.le_refl _, Nat.le_refl _⟩ gZ_1 hf dX2_areDigits_48
    · replace hf := hf.2 b1
      refine lv_iload_n hx hb dX2_areDigits_14 rfl (lv_at hl 2 rfl) ?_
      refine lv_bipush (v := 10) hx hb dX2_areDigits_15 rfl ?_
      refine lv_irem hx hb dX2_areDigits_17 (by decide) ?_
      refine lv_iconst (v := 3) hx hb dX2_areDigits_18 rfl ?_
      refine lv_icmp_le (tgt := 24) hx hb dX2_areDigits_19 (by decide) (fun b3 => ?_) (fun b3 => ?_)
      · replace hf := hf.1 b3
        refine lv_iinc (v := x2 + 1) (lv' := [(2, .int (x2 + 1)), (0, .ref r.2.1), (3, .int x3)]) hx hb dX2_areDigits_24 hl (k := 1) rfl rfl (by decide) rfl (fun ls hl => ?_)
        refine lv_iload_n hx hb dX2_areDigits_27 rfl (lv_at hl 2 rfl) ?_
        refine lv_bipush (v := 10) hx hb dX2_areDigits_28 rfl ?_
        refine lv_idiv hx hb dX2_areDigits_30 (by decide) ?_
        refine lv_istore_n (lv' := [(3, .int (x3 / (10 : Int32))), (2, .int (x2 + 1)), (0, .ref r.2.1)]) hx hb dX2_areDigits_31 rfl hl (by decide) rfl (fun ls hl => ?_)
        refine lv_goto (tgt := 10) hx hb dX2_areDigits_32 (by decide) ?_
        exact ih _ _ _ hf _ _ _ hM (lv_sub hl [2, 1, 0] rfl)
      · replace hf := hf.2 b3
        refine lv_iconst (v := 0) hx hb dX2_areDigits_22 rfl ?_
        exact g_retz K hr hM ⟨Nat.le_refl _, Nat.le_refl _⟩ gZ_0 hf dX2_areDigits_23
theorem c_X2_areDigits (l : Launch) (r : GR) (A : Nat → Prop) (σ : GS) (x1 : Int32) (P : GS → Int32 → Prop) (hf : f_X2_areDigits σ x1 P) : gMet dM l yX2_areDigits cX2_areDigits 4 (some .boolean) 0 0 0 0 r A σ [.ref r.2.1, .int x1] (zI P) := by
  refine g_enter (lv := [(0, .ref r.2.1), (1, .int x1)]) (by decide) (Nat.le_of_ble_eq_true rfl) rfl ?_
  intro p e s m below meth c ls K hr hM hl _
  obtain ⟨hx, hb, hml, hown, hts, hlk, hKK, hA⟩ := id K
  unfold f_X2_areDigits at hf
  refine lv_iload_n hx hb dX2_areDigits_0 rfl (lv_at hl 1 rfl) ?_
  refine lv_if_ge (tgt := 6) hx hb dX2_areDigits_1 (by decide) (fun b1 => ?_) (fun b1 => ?_)
  · replace hf := hf.1 b1
    refine lv_iconst (v := 0) hx hb dX2_areDigits_6 rfl ?_
    refine lv_istore_n (lv' := [(2, .int (0 : Int32)), (0, .ref r.2.1), (1, .int x1)]) hx hb dX2_areDigits_7 rfl hl (by decide) rfl (fun ls hl => ?_)
    refine lv_iload_n hx hb dX2_areDigits_8 rfl (lv_at hl 2 rfl) ?_
    refine lv_istore_n (lv' := [(3, .int x1), (2, .int (0 : Int32)), (0, .ref r.2.1), (1, .int x1)]) hx hb dX2_areDigits_9 rfl hl (by decide) rfl (fun ls hl => ?_)
    obtain ⟨n_, hf⟩ := hf
    exact w_X2_areDigits_10 K hr n_ _ _ _ hf _ _ _ hM (lv_sub hl [2, 1, 0] rfl)
  · replace hf := hf.2 b1
    refine lv_iconst (v := 0) hx hb dX2_areDigits_4 rfl ?_
    exact g_retz K hr hM ⟨Nat.le_refl _, Nat.le_refl _⟩ gZ_0 hf dX2_areDigits_5
theorem c_X2_tell (l : Launch) (r : GR) (A : Nat → Prop) (σ : GS) (x1 : Int32) (x2 : Int32) (P : GS → Int32 → Prop) (hf : f_X2_tell σ x1 x2 P) : gMet dM l yX2_tell cX2_tell 4 (some .int) 2 46 0 0 r A σ [.ref r.2.1, .int x1, .int x2] (zI P) := by
  refine g_enter (lv := [(0, .ref r.2.1), (1, .int x1), (2, .int x2)]) (by decide) (Nat.le_of_ble_eq_true rfl) rfl ?_
  intro p e s m below meth c ls K hr hM hl _
  obtain ⟨hx, hb, hml, hown, hts, hlk, hKK, hA⟩ := id K
  unfold f_X2_tell at hf
  refine lv_aload_n hx hb dX2_tell_0 rfl (lv_at hl 0 rfl) ?_
  refine lv_iload_n hx hb dX2_tell_1 rfl (lv_at hl 1 rfl) ?_
  refine g_cVi [.int x1] [] K kM hM hl (c_X2_isSort l r A _ _ _ hf) q1674 q1676 qs43 q84 q1677 hdX2_isSort ⟨Nat.le_of_ble_eq_true rfl, Nat.le_of_ble_eq_true rfl⟩ ⟨Nat.le_refl _, Nat.le_refl _⟩ rfl (Nat.le_of_ble_eq_true rfl) dX2_tell_2 (fun σ1 v2 H locs hf hM => ?_)
  refine lv_if_eq (tgt := 16) hx hb dX2_tell_5 (by decide) (fun b3 => ?_) (fun b3 => ?_)
  · replace hf := hf.1 b3
    refine lv_iconst (v := -1) hx hb dX2_tell_16 rfl ?_
    exact g_reti K hr hM ⟨Nat.le_refl _, Nat.le_refl _⟩ hf dX2_tell_17
  · replace hf := hf.2 b3
    refine lv_aload_n hx hb dX2_tell_8 rfl (lv_at hl 0 rfl) ?_
    refine lv_iload_n hx hb dX2_tell_9 rfl (lv_at hl 2 rfl) ?_
    refine g_cVi [.int x2] [] K kM hM hl (c_X2_areDigits l r A _ _ _ hf) q1828 q1830 qs68 q84 q1831 hdX2_areDigits ⟨Nat.le_of_ble_eq_true rfl, Nat.le_of_ble_eq_true rfl⟩ ⟨Nat.le_refl _, Nat.le_refl _⟩ rfl (Nat.le_of_ble_eq_true rfl) dX2_tell_10 (fun σ4 v5 H locs hf hM => ?_)
    refine lv_if_ne (tgt := 18) hx hb dX2_tell_13 (by decide) (fun b6 => ?_) (fun b6 => ?_)
    · replace hf := hf.2 b6
      refine lv_aload_n hx hb dX2_tell_18 rfl (lv_at hl 0 rfl) ?_
      refine g_geta K kM hM 12 rfl q1465 rfl dX2_tell_19 rfl ?_
      refine lv_iload_n hx hb dX2_tell_22 rfl (lv_at hl 1 rfl) ?_
      obtain ⟨g7, hf⟩ := hf
      refine g_iald K hM 12 rfl rfl rfl g7 dX2_tell_23 ?_
      refine lv_istore_n (lv' := [(3, .int (gA σ4 12 x1.toNatClampNeg)), (0, .ref r.2.1), (1, .int x1), (2, .int x2)]) hx hb dX2_tell_24 rfl hl (by decide) rfl (fun ls hl => ?_)
      refine lv_aload_n hx hb dX2_tell_25 rfl (lv_at hl 1 rfl) ?_
      refine g_geta K kM hM 12 rfl q1465 rfl dX2_tell_26 rfl ?_
      refine lv_iload_n hx hb dX2_tell_29 rfl (lv_at hl 2 rfl) ?_
      refine lv_iload_n hx hb dX2_tell_30 rfl (lv_at hl 3 rfl) ?_
      obtain ⟨g8, hf⟩ := hf
      refine g_iastN K hM 12 rfl rfl rfl g8 dX2_tell_31 (fun H locs σ9 hσ9 hM => ?_)
      have hf := hf σ9 hσ9
      refine lv_iload_n hx hb dX2_tell_32 rfl (lv_at hl 0 rfl) ?_
      exact g_reti K hr hM ⟨Nat.le_refl _, Nat.le_refl _⟩ hf dX2_tell_33
    · replace hf := hf.1 b6
      refine lv_iconst (v := -1) hx hb dX2_tell_16 rfl ?_
      exact g_reti K hr hM ⟨Nat.le_refl _, Nat.le_refl _⟩ hf dX2_tell_17
theorem w_X2_packed_7 {p : Program} {l : Launch} {e : Env} {s : State} {m : MethodId} {args : Array Value} {below : List Frame} {meth : Method} {c : Code} {r : GR} {A : Nat → Prop} {P : GS → Int32 → Prop} (K : gC p s m args meth c cX2_packed 5 RX2 r A) (hr : meth.sig.returnType = (some .int)) : ∀ (n : Nat) (σ : GS) (x2 : Int32) (x3 : Int32) (x4 : Int32), f_X2_packed_7 P n σ x2 x3 x4 → gW dM p l e (gRm 0 0 0 0) s m args below meth c r A (zI P) 0 0 5 7 [(0, .ref r.2.1), (2, .int x2), (3, .int x3), (4, .int x4)] [] 0 0 σ := by
  obtain ⟨hx, hb, hml, hown, hts, hlk, hKK, hA⟩ := id K
  intro n
  induction n with
  | zero =>
    intro σ x2 x3 x4 hf
    exact absurd hf (fun h => h)
  | succ n ih =>
    intro σ x2 x3 x4 hf H locs ls hM hl
    rw [f_X2_packed_7] at hf
    refine lv_iload hx hb dX2_packed_7 (lv_at hl 3 rfl) ?_
    refine lv_aload_n hx hb dX2_packed_9 rfl (lv_at hl 0 rfl) ?_
    refine g_geti K kM hM 6 rfl q1459 rfl dX2_packed_10 rfl ?_
    refine lv_icmp_ge (tgt := 39) hx hb dX2_packed_13 (by decide) (fun b1 => ?_) (fun b1 => ?_)
    · replace hf := hf.1 b1
      refine lv_iload_n hx hb dX2_packed_39 rfl (lv_at hl 1 rfl) ?_
      exact g_reti K hr hM ⟨Nat.le_refl _, Nat.le_refl _⟩ hf dX2_packed_40
    · replace hf := hf.2 b1
      refine lv_iload_n hx hb dX2_packed_16 rfl (lv_at hl 1 rfl) ?_
      refine lv_iload_n hx hb dX2_packed_17 rfl (lv_at hl 2 rfl) ?_
      refine lv_bipush (v := 10) hx hb dX2_packed_18 rfl ?_
      refine lv_irem hx hb dX2_packed_20 (by decide) ?_
      refine lv_iconst (v := 2) hx hb dX2_packed_21 rfl ?_
      refine lv_iload hx hb dX2_packed_22 (lv_at hl 3 rfl) ?_
      refine lv_imul hx hb dX2_packed_24 ?_
      refine lv_ishl hx hb dX2_packed_25 ?_
      refine lv_ior hx hb dX2_packed_26 ?_
      refine lv_topi (fun z2 hz2 => ?_)
      have hf := hf z2 hz2
      refine lv_istore_n (lv' := [(2, .int z2), (0, .ref r.2.1), (3, .int x3), (4, .int x4)]) hx hb dX2_packed_27 rfl hl (by decide) rfl (fun ls hl => ?_)
      refine lv_iload_n hx hb dX2_packed_28 rfl (lv_at hl 2 rfl) ?_
      refine lv_bipush (v := 10) hx hb dX2_packed_29 rfl ?_
      refine lv_idiv hx hb dX2_packed_31 (by decide) ?_
      refine lv_istore_n (lv' := [(3, .int (x3 / (10 : Int32))), (2, .int z2), (0, .ref r.2.1), (4, .int x4)]) hx hb dX2_packed_32 rfl hl (by decide) rfl (fun ls hl => ?_)
      refine lv_iinc (v := x4 + 1) (lv' := [(4, .int (x4 + 1)), (3, .int (x3 / (10 : Int32))), (2, .int z2), (0, .ref r.2.1)]) hx hb dX2_packed_33 hl (k := 3) rfl rfl (by decide) rfl (fun ls hl => ?_)
      refine lv_goto (tgt := 7) hx hb dX2_packed_36 (by decide) ?_
      exact ih _ _ _ _ hf _ _ _ hM (lv_sub hl [3, 2, 1, 0] rfl)
theorem c_X2_packed (l : Launch) (r : GR) (A : Nat → Prop) (σ : GS) (x1 : Int32) (P : GS → Int32 → Prop) (hf : f_X2_packed σ x1 P) : gMet dM l yX2_packed cX2_packed 5 (some .int) 0 0 0 0 r A σ [.ref r.2.1, .int x1] (zI P) := by
  refine g_enter (lv := [(0, .ref r.2.1), (1, .int x1)]) (by decide) (Nat.le_of_ble_eq_true rfl) rfl ?_
  intro p e s m below meth c ls K hr hM hl _
  obtain ⟨hx, hb, hml, hown, hts, hlk, hKK, hA⟩ := id K
  unfold f_X2_packed at hf
  refine lv_iconst (v := 0) hx hb dX2_packed_0 rfl ?_
  refine lv_istore_n (lv' := [(2, .int (0 : Int32)), (0, .ref r.2.1), (1, .int x1)]) hx hb dX2_packed_1 rfl hl (by decide) rfl (fun ls hl => ?_)
  refine lv_iload_n hx hb dX2_packed_2 rfl (lv_at hl 2 rfl) ?_
  refine lv_istore_n (lv' := [(3, .int x1), (2, .int (0 : Int32)), (0, .ref r.2.1), (1, .int x1)]) hx hb dX2_packed_3 rfl hl (by decide) rfl (fun ls hl => ?_)
  refine lv_iconst (v := 0) hx hb dX2_packed_4 rfl ?_
  refine lv_istore (lv' := [(4, .int (0 : Int32)), (3, .int x1), (2, .int (0 : Int32)), (0, .ref r.2.1), (1, .int x1)]) hx hb dX2_packed_5 hl (by decide) rfl (fun ls hl => ?_)
  obtain ⟨n_, hf⟩ := hf
  exact w_X2_packed_7 K hr n_ _ _ _ _ hf _ _ _ hM (lv_sub hl [3, 2, 1, 0] rfl)
theorem w_X2_judge_95 {p : Program} {l : Launch} {e : Env} {s : State} {m : MethodId} {args : Array Value} {below : List Frame} {meth : Method} {c : Code} {r : GR} {A : Nat → Prop} {P : GS → Int32 → Prop} {k83 : GS → Int32 → Prop} (K : gC p s m args meth c cX2_judge 4 RX2 r A) (hr : meth.sig.returnType = (some .int)) (H83 : ∀ (σ : GS) (x1 : Int32), k83 σ x1 → gW dM p l e (gRm 69 2663 0 0) s m args below meth c r A (zI P) 0 0 4 83 [(0, .ref r.2.1), (1, .int x1)] [] 0 0 σ) : ∀ (n : Nat) (σ : GS) (x1 : Int32) (x2 : Int32) (x3 : Int32), f_X2_judge_95 k83 P n σ x1 x2 x3 → gW dM p l e (gRm 69 2663 0 0) s m args below meth c r A (zI P) 0 0 4 95 [(0, .ref r.2.1), (1, .int x1), (2, .int x2), (3, .int x3)] [] 0 0 σ := by
  obtain ⟨hx, hb, hml, hown, hts, hlk, hKK, hA⟩ := id K
  intro n
  induction n with
  | zero =>
    intro σ x1 x2 x3 hf
    exact absurd hf (fun h => h)
  | succ n ih =>
    intro σ x1 x2 x3 hf H locs ls hM hl
    rw [f_X2_judge_95] at hf
    refine lv_iload_n hx hb dX2_judge_95 rfl (lv_at hl 3 rfl) ?_
    refine lv_aload_n hx hb dX2_judge_96 rfl (lv_at hl 0 rfl) ?_
    refine g_geti K kM hM 8 rfl q1461 rfl dX2_judge_97 rfl ?_
    refine lv_icmp_ge (tgt := 142) hx hb dX2_judge_100 (by decide) (fun b1 => ?_) (fun b1 => ?_)
    · replace hf := hf.1 b1
      refine lv_iload_n hx hb dX2_judge_142 rfl (lv_at hl 2 rfl) ?_
      refine lv_aload_n hx hb dX2_judge_143 rfl (lv_at hl 0 rfl) ?_
      refine g_geta K kM hM 0 rfl q1453 rfl dX2_judge_144 rfl ?_
      refine lv_iload_n hx hb dX2_judge_147 rfl (lv_at hl 1 rfl) ?_
      obtain ⟨g2, hf⟩ := hf
      refine g_iald K hM 0 rfl rfl rfl g2 dX2_judge_148 ?_
      refine lv_icmp_le (tgt := 157) hx hb dX2_judge_149 (by decide) (fun b3 => ?_) (fun b3 => ?_)
      · replace hf := hf.1 b3
        refine lv_iinc (v := x1 + 1) (lv' := [(1, .int (x1 + 1)), (0, .ref r.2.1), (2, .int x2), (3, .int x3)]) hx hb dX2_judge_157 hl (k := 1) rfl rfl (by decide) rfl (fun ls hl => ?_)
        refine lv_goto (tgt := 83) hx hb dX2_judge_160 (by decide) ?_
        exact H83 _ _ hf _ _ _ hM (lv_sub hl [1, 0] rfl)
      · replace hf := hf.2 b3
        refine lv_bipush (v := 30) hx hb dX2_judge_152 rfl ?_
        refine lv_iload_n hx hb dX2_judge_154 rfl (lv_at hl 1 rfl) ?_
        refine lv_iadd hx hb dX2_judge_155 ?_
        exact g_reti K hr hM ⟨Nat.le_refl _, Nat.le_refl _⟩ hf dX2_judge_156
    · replace hf := hf.2 b1
      refine lv_iload_n hx hb dX2_judge_103 rfl (lv_at hl 2 rfl) ?_
      refine lv_aload_n hx hb dX2_judge_104 rfl (lv_at hl 0 rfl) ?_
      refine g_geta K kM hM 9 rfl q1462 rfl dX2_judge_105 rfl ?_
      refine lv_iload_n hx hb dX2_judge_108 rfl (lv_at hl 3 rfl) ?_
      obtain ⟨g4, hf⟩ := hf
      refine g_iald K hM 9 rfl rfl rfl g4 dX2_judge_109 ?_
      refine lv_aload_n hx hb dX2_judge_110 rfl (lv_at hl 0 rfl) ?_
      refine lv_aload_n hx hb dX2_judge_111 rfl (lv_at hl 0 rfl) ?_
      refine g_geta K kM hM 12 rfl q1465 rfl dX2_judge_112 rfl ?_
      refine lv_iload_n hx hb dX2_judge_115 rfl (lv_at hl 3 rfl) ?_
      obtain ⟨g5, hf⟩ := hf
      refine g_iald K hM 12 rfl rfl rfl g5 dX2_judge_116 ?_
      refine g_cVi [.int (gA σ 12 x3.toNatClampNeg)] [.int (gA σ 9 x3.toNatClampNeg), .int x2] K kM hM hl (c_X2_packed l r A _ _ _ hf) q1836 q1838 qs69 q84 q1839 hdX2_packed ⟨Nat.le_of_ble_eq_true rfl, Nat.le_of_ble_eq_true rfl⟩ ⟨Nat.le_refl _, Nat.le_refl _⟩ rfl (Nat.le_of_ble_eq_true rfl) dX2_judge_117 (fun σ6 v7 H locs hf hM => ?_)
      refine lv_iconst (v := 2) hx hb dX2_judge_120 rfl ?_
      refine lv_aload_n hx hb dX2_judge_121 rfl (lv_at hl 0 rfl) ?_
      refine g_geti K kM hM 6 rfl q1459 rfl dX2_judge_122 rfl ?_
      refine lv_iconst (v := 1) hx hb dX2_judge_125 rfl ?_
      refine lv_isub hx hb dX2_judge_126 ?_
      refine lv_iload_n hx hb dX2_judge_127 rfl (lv_at hl 1 rfl) ?_
      refine lv_isub hx hb dX2_judge_128 ?_
      refine lv_imul hx hb dX2_judge_129 ?_
      refine lv_ishr hx hb dX2_judge_130 ?_
      refine lv_iconst (v := 3) hx hb dX2_judge_131 rfl ?_
      refine lv_iand hx hb dX2_judge_132 ?_
      refine lv_imul hx hb dX2_judge_133 ?_
      refine lv_iadd hx hb dX2_judge_134 ?_
      refine lv_topi (fun z8 hz8 => ?_)
      have hf := hf z8 hz8
      refine lv_istore_n (lv' := [(2, .int z8), (0, .ref r.2.1), (1, .int x1), (3, .int x3)]) hx hb dX2_judge_135 rfl hl (by decide) rfl (fun ls hl => ?_)
      refine lv_iinc (v := x3 + 1) (lv' := [(3, .int (x3 + 1)), (2, .int z8), (0, .ref r.2.1), (1, .int x1)]) hx hb dX2_judge_136 hl (k := 3) rfl rfl (by decide) rfl (fun ls hl => ?_)
      refine lv_goto (tgt := 95) hx hb dX2_judge_139 (by decide) ?_
      exact ih _ _ _ _ hf _ _ _ hM (lv_sub hl [2, 3, 1, 0] rfl)
theorem w_X2_judge_83 {p : Program} {l : Launch} {e : Env} {s : State} {m : MethodId} {args : Array Value} {below : List Frame} {meth : Method} {c : Code} {r : GR} {A : Nat → Prop} {P : GS → Int32 → Prop} (K : gC p s m args meth c cX2_judge 4 RX2 r A) (hr : meth.sig.returnType = (some .int)) : ∀ (n : Nat) (σ : GS) (x1 : Int32), f_X2_judge_83 P n σ x1 → gW dM p l e (gRm 69 2663 0 0) s m args below meth c r A (zI P) 0 0 4 83 [(0, .ref r.2.1), (1, .int x1)] [] 0 0 σ := by
  obtain ⟨hx, hb, hml, hown, hts, hlk, hKK, hA⟩ := id K
  intro n
  induction n with
  | zero =>
    intro σ x1 hf
    exact absurd hf (fun h => h)
  | succ n ih =>
    intro σ x1 hf H locs ls hM hl
    rw [f_X2_judge_83] at hf
    refine lv_iload_n hx hb dX2_judge_83 rfl (lv_at hl 1 rfl) ?_
    refine lv_aload_n hx hb dX2_judge_84 rfl (lv_at hl 0 rfl) ?_
    refine g_geti K kM hM 6 rfl q1459 rfl dX2_judge_85 rfl ?_
    refine lv_icmp_ge (tgt := 163) hx hb dX2_judge_88 (by decide) (fun b1 => ?_) (fun b1 => ?_)
    · replace hf := hf.1 b1
      refine lv_bipush (v := -2) hx hb dX2_judge_163 rfl ?_
      exact g_reti K hr hM ⟨Nat.le_refl _, Nat.le_refl _⟩ hf dX2_judge_165
    · replace hf := hf.2 b1
      refine lv_iconst (v := 0) hx hb dX2_judge_91 rfl ?_
      refine lv_istore_n (lv' := [(2, .int (0 : Int32)), (0, .ref r.2.1), (1, .int x1)]) hx hb dX2_judge_92 rfl hl (by decide) rfl (fun ls hl => ?_)
      refine lv_iconst (v := 0) hx hb dX2_judge_93 rfl ?_
      refine lv_istore_n (lv' := [(3, .int (0 : Int32)), (2, .int (0 : Int32)), (0, .ref r.2.1), (1, .int x1)]) hx hb dX2_judge_94 rfl hl (by decide) rfl (fun ls hl => ?_)
      obtain ⟨n_, hf⟩ := hf
      exact w_X2_judge_95 K hr ih n_ _ _ _ _ hf _ _ _ hM (lv_sub hl [2, 3, 1, 0] rfl)
theorem w_X2_judge_54 {p : Program} {l : Launch} {e : Env} {s : State} {m : MethodId} {args : Array Value} {below : List Frame} {meth : Method} {c : Code} {r : GR} {A : Nat → Prop} {P : GS → Int32 → Prop} (K : gC p s m args meth c cX2_judge 4 RX2 r A) (hr : meth.sig.returnType = (some .int)) : ∀ (σ : GS) (x1 : Int32), f_X2_judge_54 P σ x1 → gW dM p l e (gRm 69 2663 0 0) s m args below meth c r A (zI P) 0 0 4 54 [(1, .int x1)] [] 0 0 σ := by
  obtain ⟨hx, hb, hml, hown, hts, hlk, hKK, hA⟩ := id K
  intro σ x1 hf H locs ls hM hl
  unfold f_X2_judge_54 at hf
  refine lv_bipush (v := 10) hx hb dX2_judge_54 rfl ?_
  refine lv_iload_n hx hb dX2_judge_56 rfl (lv_at hl 0 rfl) ?_
  refine lv_iadd hx hb dX2_judge_57 ?_
  exact g_reti K hr hM ⟨Nat.le_refl _, Nat.le_refl _⟩ hf dX2_judge_58
theorem w_X2_judge_2 {p : Program} {l : Launch} {e : Env} {s : State} {m : MethodId} {args : Array Value} {below : List Frame} {meth : Method} {c : Code} {r : GR} {A : Nat → Prop} {P : GS → Int32 → Prop} (K : gC p s m args meth c cX2_judge 4 RX2 r A) (hr : meth.sig.returnType = (some .int)) : ∀ (n : Nat) (σ : GS) (x1 : Int32), f_X2_judge_2 P n σ x1 → gW dM p l e (gRm 69 2663 0 0) s m args below meth c r A (zI P) 0 0 4 2 [(0, .ref r.2.1), (1, .int x1)] [] 0 0 σ := by
  obtain ⟨hx, hb, hml, hown, hts, hlk, hKK, hA⟩ := id K
  intro n
  induction n with
  | zero =>
    intro σ x1 hf
    exact absurd hf (fun h => h)
  | succ n ih =>
    intro σ x1 hf H locs ls hM hl
    rw [f_X2_judge_2] at hf
    refine lv_iload_n hx hb dX2_judge_2 rfl (lv_at hl 1 rfl) ?_
    refine lv_aload_n hx hb dX2_judge_3 rfl (lv_at hl 0 rfl) ?_
    refine g_geti K kM hM 8 rfl q1461 rfl dX2_judge_4 rfl ?_
    refine lv_icmp_ge (tgt := 81) hx hb dX2_judge_7 (by decide) (fun b1 => ?_) (fun b1 => ?_)
    · replace hf := hf.1 b1
      refine lv_iconst (v := 0) hx hb dX2_judge_81 rfl ?_
      refine lv_istore_n (lv' := [(1, .int (0 : Int32)), (0, .ref r.2.1)]) hx hb dX2_judge_82 rfl hl (by decide) rfl (fun ls hl => ?_)
      obtain ⟨n_, hf⟩ := hf
      exact w_X2_judge_83 K hr n_ _ _ hf _ _ _ hM (lv_sub hl [1, 0] rfl)
    · replace hf := hf.2 b1
      refine lv_aload_n hx hb dX2_judge_10 rfl (lv_at hl 0 rfl) ?_
      refine lv_iload_n hx hb dX2_judge_11 rfl (lv_at hl 1 rfl) ?_
      refine g_cVi [.int x1] [] K kM hM hl (c_X2_bestOf l r A _ _ _ hf) q1755 q1757 qs57 q84 q1758 hdX2_bestOf ⟨Nat.le_of_ble_eq_true rfl, Nat.le_of_ble_eq_true rfl⟩ ⟨Nat.le_refl _, Nat.le_refl _⟩ rfl (Nat.le_of_ble_eq_true rfl) dX2_judge_12 (fun σ2 v3 H locs hf hM => ?_)
      refine lv_istore_n (lv' := [(2, .int v3), (0, .ref r.2.1), (1, .int x1)]) hx hb dX2_judge_15 rfl hl (by decide) rfl (fun ls hl => ?_)
      refine lv_aload_n hx hb dX2_judge_16 rfl (lv_at hl 1 rfl) ?_
      refine lv_aload_n hx hb dX2_judge_17 rfl (lv_at hl 1 rfl) ?_
      refine lv_aload_n hx hb dX2_judge_18 rfl (lv_at hl 1 rfl) ?_
      refine g_geta K kM hM 12 rfl q1465 rfl dX2_judge_19 rfl ?_
      refine lv_iload_n hx hb dX2_judge_22 rfl (lv_at hl 2 rfl) ?_
      obtain ⟨g4, hf⟩ := hf
      refine g_iald K hM 12 rfl rfl rfl g4 dX2_judge_23 ?_
      refine g_cVi [.int (gA σ2 12 x1.toNatClampNeg)] [.ref r.2.1] K kM hM hl (c_X2_packed l r A _ _ _ hf) q1836 q1838 qs69 q84 q1839 hdX2_packed ⟨Nat.le_of_ble_eq_true rfl, Nat.le_of_ble_eq_true rfl⟩ ⟨Nat.le_refl _, Nat.le_refl _⟩ rfl (Nat.le_of_ble_eq_true rfl) dX2_judge_24 (fun σ5 v6 H locs hf hM => ?_)
      refine g_cVv [.int v6] [] K kM hM hl (c_X2_unpack l r A _ _ _ hf) q1771 q1773 qs61 q84 q1774 hdX2_unpack ⟨Nat.le_of_ble_eq_true rfl, Nat.le_of_ble_eq_true rfl⟩ ⟨Nat.le_refl _, Nat.le_refl _⟩ rfl (Nat.le_of_ble_eq_true rfl) dX2_judge_27 (fun σ7 H locs hf hM => ?_)
      refine lv_aload_n hx hb dX2_judge_30 rfl (lv_at hl 1 rfl) ?_
      refine g_geti K kM hM 27 rfl q1480 rfl dX2_judge_31 rfl ?_
      refine lv_aload_n hx hb dX2_judge_34 rfl (lv_at hl 1 rfl) ?_
      refine lv_iload_n hx hb dX2_judge_35 rfl (lv_at hl 2 rfl) ?_
      refine g_cVi [.int x1] [.int (gI σ7 27)] K kM hM hl (c_X2_purseOf l r A _ _ _ hf) q1683 q1685 qs44 q84 q1686 hdX2_purseOf ⟨Nat.le_of_ble_eq_true rfl, Nat.le_of_ble_eq_true rfl⟩ ⟨Nat.le_refl _, Nat.le_refl _⟩ rfl (Nat.le_of_ble_eq_true rfl) dX2_judge_36 (fun σ9 v10 H locs hf hM => ?_)
      refine lv_icmp_gt (tgt := 54) hx hb dX2_judge_39 (by decide) (fun b11 => ?_) (fun b11 => ?_)
      · replace hf := hf.1 b11
        exact w_X2_judge_54 K hr _ _ hf _ _ _ hM (lv_sub hl [2] rfl)
      · replace hf := hf.2 b11
        refine lv_aload_n hx hb dX2_judge_42 rfl (lv_at hl 1 rfl) ?_
        refine g_geti K kM hM 28 rfl q1481 rfl dX2_judge_43 rfl ?_
        refine lv_aload_n hx hb dX2_judge_46 rfl (lv_at hl 1 rfl) ?_
        refine lv_iload_n hx hb dX2_judge_47 rfl (lv_at hl 2 rfl) ?_
        refine g_cVi [.int x1] [.int (gI σ9 28)] K kM hM hl (c_X2_pointsInAll l r A _ _ _ hf) q1687 q1689 qs45 q84 q1690 hdX2_pointsInAll ⟨Nat.le_of_ble_eq_true rfl, Nat.le_of_ble_eq_true rfl⟩ ⟨Nat.le_refl _, Nat.le_refl _⟩ rfl (Nat.le_of_ble_eq_true rfl) dX2_judge_48 (fun σ12 v13 H locs hf hM => ?_)
        refine lv_icmp_le (tgt := 59) hx hb dX2_judge_51 (by decide) (fun b14 => ?_) (fun b14 => ?_)
        · replace hf := hf.1 b14
          refine lv_aload_n hx hb dX2_judge_59 rfl (lv_at hl 1 rfl) ?_
          refine g_geti K kM hM 26 rfl q1479 rfl dX2_judge_60 rfl ?_
          refine lv_aload_n hx hb dX2_judge_63 rfl (lv_at hl 1 rfl) ?_
          refine g_geti K kM hM 30 rfl q1483 rfl dX2_judge_64 rfl ?_
          refine lv_icmp_ge (tgt := 75) hx hb dX2_judge_67 (by decide) (fun b15 => ?_) (fun b15 => ?_)
          · replace hf := hf.1 b15
            refine lv_iinc (v := x1 + 1) (lv' := [(1, .int (x1 + 1)), (2, .int v3), (0, .ref r.2.1)]) hx hb dX2_judge_75 hl (k := 2) rfl rfl (by decide) rfl (fun ls hl => ?_)
            refine lv_goto (tgt := 2) hx hb dX2_judge_78 (by decide) ?_
            exact ih _ _ hf _ _ _ hM (lv_sub hl [2, 0] rfl)
          · replace hf := hf.2 b15
            refine lv_bipush (v := 20) hx hb dX2_judge_70 rfl ?_
            refine lv_iload_n hx hb dX2_judge_72 rfl (lv_at hl 2 rfl) ?_
            refine lv_iadd hx hb dX2_judge_73 ?_
            exact g_reti K hr hM ⟨Nat.le_refl _, Nat.le_refl _⟩ hf dX2_judge_74
        · replace hf := hf.2 b14
          exact w_X2_judge_54 K hr _ _ hf _ _ _ hM (lv_sub hl [2] rfl)
theorem c_X2_judge (l : Launch) (r : GR) (A : Nat → Prop) (σ : GS) (P : GS → Int32 → Prop) (hf : f_X2_judge σ P) : gMet dM l yX2_judge cX2_judge 4 (some .int) 69 2663 0 0 r A σ [.ref r.2.1] (zI P) := by
  refine g_enter (lv := [(0, .ref r.2.1)]) (by decide) (Nat.le_of_ble_eq_true rfl) rfl ?_
  intro p e s m below meth c ls K hr hM hl _
  obtain ⟨hx, hb, hml, hown, hts, hlk, hKK, hA⟩ := id K
  unfold f_X2_judge at hf
  refine lv_iconst (v := 0) hx hb dX2_judge_0 rfl ?_
  refine lv_istore_n (lv' := [(1, .int (0 : Int32)), (0, .ref r.2.1)]) hx hb dX2_judge_1 rfl hl (by decide) rfl (fun ls hl => ?_)
  obtain ⟨n_, hf⟩ := hf
  exact w_X2_judge_2 K hr n_ _ _ hf _ _ _ hM (lv_sub hl [1, 0] rfl)
theorem w_X2_findChanged_148 {p : Program} {l : Launch} {e : Env} {s : State} {m : MethodId} {args : Array Value} {below : List Frame} {meth : Method} {c : Code} {r : GR} {A : Nat → Prop} {P : GS → Prop} {k13 : GS → Int32 → Int32 → Int32 → Int32 → Int32 → Prop} (K : gC p s m args meth c cX2_findChanged 8 RX2 r A) (hr : meth.sig.returnType = none) (H13 : ∀ (σ : GS) (x1 : Int32) (x2 : Int32) (x3 : Int32) (x4 : Int32) (x5 : Int32), k13 σ x1 x2 x3 x4 x5 → gW dM p l e (gRm 67 2616 0 0) s m args below meth c r A (zV P) 0 0 8 13 [(0, .ref r.2.1), (1, .int x1), (2, .int x2), (3, .int x3), (4, .int x4), (5, .int x5)] [] 0 0 σ) : ∀ (σ : GS) (x1 : Int32) (x2 : Int32) (x3 : Int32) (x4 : Int32) (x5 : Int32), f_X2_findChanged_148 k13 P σ x1 x2 x3 x4 x5 → gW dM p l e (gRm 67 2616 0 0) s m args below meth c r A (zV P) 0 0 8 148 [(0, .ref r.2.1), (1, .int x1), (2, .int x2), (3, .int x3), (4, .int x4), (5, .int x5)] [] 0 0 σ := by
  obtain ⟨hx, hb, hml, hown, hts, hlk, hKK, hA⟩ := id K
  intro σ x1 x2 x3 x4 x5 hf H locs ls hM hl
  unfold f_X2_findChanged_148 at hf
  refine lv_iinc (v := x5 + 1) (lv' := [(5, .int (x5 + 1)), (0, .ref r.2.1), (1, .int x1), (2, .int x2), (3, .int x3), (4, .int x4)]) hx hb dX2_findChanged_148 hl (k := 5) rfl rfl (by decide) rfl (fun ls hl => ?_)
  refine lv_goto (tgt := 13) hx hb dX2_findChanged_151 (by decide) ?_
  exact H13 _ _ _ _ _ _ hf _ _ _ hM (lv_sub hl [1, 2, 3, 4, 5, 0] rfl)
theorem w_X2_findChanged_118 {p : Program} {l : Launch} {e : Env} {s : State} {m : MethodId} {args : Array Value} {below : List Frame} {meth : Method} {c : Code} {r : GR} {A : Nat → Prop} {P : GS → Prop} {k13 : GS → Int32 → Int32 → Int32 → Int32 → Int32 → Prop} (K : gC p s m args meth c cX2_findChanged 8 RX2 r A) (hr : meth.sig.returnType = none) (H13 : ∀ (σ : GS) (x1 : Int32) (x2 : Int32) (x3 : Int32) (x4 : Int32) (x5 : Int32), k13 σ x1 x2 x3 x4 x5 → gW dM p l e (gRm 67 2616 0 0) s m args below meth c r A (zV P) 0 0 8 13 [(0, .ref r.2.1), (1, .int x1), (2, .int x2), (3, .int x3), (4, .int x4), (5, .int x5)] [] 0 0 σ) : ∀ (σ : GS) (x1 : Int32) (x2 : Int32) (x3 : Int32) (x4 : Int32) (x5 : Int32) (x6 : Int32) (t0 : Int32), f_X2_findChanged_118 k13 P σ x1 x2 x3 x4 x5 x6 t0 → gW dM p l e (gRm 67 2616 0 0) s m args below meth c r A (zV P) 0 0 8 118 [(0, .ref r.2.1), (1, .int x1), (2, .int x2), (3, .int x3), (4, .int x4), (5, .int x5), (6, .int x6)] [.int t0] 0 0 σ := by
  obtain ⟨hx, hb, hml, hown, hts, hlk, hKK, hA⟩ := id K
  intro σ x1 x2 x3 x4 x5 x6 t0 hf H locs ls hM hl
  unfold f_X2_findChanged_118 at hf
  refine lv_istore (lv' := [(7, .int t0), (0, .ref r.2.1), (1, .int x1), (2, .int x2), (3, .int x3), (4, .int x4), (5, .int x5), (6, .int x6)]) hx hb dX2_findChanged_118 hl (by decide) rfl (fun ls hl => ?_)
  refine lv_iload hx hb dX2_findChanged_120 (lv_at hl 0 rfl) ?_
  refine lv_if_eq (tgt := 148) hx hb dX2_findChanged_122 (by decide) (fun b1 => ?_) (fun b1 => ?_)
  · replace hf := hf.1 b1
    exact w_X2_findChanged_148 K hr H13 _ _ _ _ _ _ hf _ _ _ hM (lv_sub hl [1, 2, 3, 4, 5, 6] rfl)
  · replace hf := hf.2 b1
    refine lv_iload hx hb dX2_findChanged_125 (lv_at hl 6 rfl) ?_
    refine lv_istore_n (lv' := [(3, .int x5), (7, .int t0), (0, .ref r.2.1), (1, .int x1), (2, .int x2), (4, .int x4), (5, .int x5), (6, .int x6)]) hx hb dX2_findChanged_127 rfl hl (by decide) rfl (fun ls hl => ?_)
    refine lv_iload hx hb dX2_findChanged_128 (lv_at hl 7 rfl) ?_
    refine lv_istore (lv' := [(4, .int x6), (3, .int x5), (7, .int t0), (0, .ref r.2.1), (1, .int x1), (2, .int x2), (5, .int x5), (6, .int x6)]) hx hb dX2_findChanged_130 hl (by decide) rfl (fun ls hl => ?_)
    refine lv_aload_n hx hb dX2_findChanged_132 rfl (lv_at hl 3 rfl) ?_
    refine lv_aload_n hx hb dX2_findChanged_133 rfl (lv_at hl 3 rfl) ?_
    refine g_geti K kM hM 26 rfl q1479 rfl dX2_findChanged_134 rfl ?_
    refine g_putiN K kM hM 42 rfl q1495 rfl dX2_findChanged_137 rfl rfl rfl (fun H locs σ2 hσ2 hM => ?_)
    have hf := hf σ2 hσ2
    refine lv_aload_n hx hb dX2_findChanged_140 rfl (lv_at hl 3 rfl) ?_
    refine lv_aload_n hx hb dX2_findChanged_141 rfl (lv_at hl 3 rfl) ?_
    refine g_geti K kM hM 28 rfl q1481 rfl dX2_findChanged_142 rfl ?_
    refine g_putiN K kM hM 43 rfl q1496 rfl dX2_findChanged_145 rfl rfl rfl (fun H locs σ3 hσ3 hM => ?_)
    have hf := hf σ3 hσ3
    exact w_X2_findChanged_148 K hr H13 _ _ _ _ _ _ hf _ _ _ hM (lv_sub hl [3, 4, 5, 1, 0, 6] rfl)
theorem w_X2_findChanged_117 {p : Program} {l : Launch} {e : Env} {s : State} {m : MethodId} {args : Array Value} {below : List Frame} {meth : Method} {c : Code} {r : GR} {A : Nat → Prop} {P : GS → Prop} {k13 : GS → Int32 → Int32 → Int32 → Int32 → Int32 → Prop} (K : gC p s m args meth c cX2_findChanged 8 RX2 r A) (hr : meth.sig.returnType = none) (H13 : ∀ (σ : GS) (x1 : Int32) (x2 : Int32) (x3 : Int32) (x4 : Int32) (x5 : Int32), k13 σ x1 x2 x3 x4 x5 → gW dM p l e (gRm 67 2616 0 0) s m args below meth c r A (zV P) 0 0 8 13 [(0, .ref r.2.1), (1, .int x1), (2, .int x2), (3, .int x3), (4, .int x4), (5, .int x5)] [] 0 0 σ) : ∀ (σ : GS) (x1 : Int32) (x2 : Int32) (x3 : Int32) (x4 : Int32) (x5 : Int32) (x6 : Int32), f_X2_findChanged_117 k13 P σ x1 x2 x3 x4 x5 x6 → gW dM p l e (gRm 67 2616 0 0) s m args below meth c r A (zV P) 0 0 8 117 [(0, .ref r.2.1), (1, .int x1), (2, .int x2), (3, .int x3), (4, .int x4), (5, .int x5), (6, .int x6)] [] 0 0 σ := by
  obtain ⟨hx, hb, hml, hown, hts, hlk, hKK, hA⟩ := id K
  intro σ x1 x2 x3 x4 x5 x6 hf H locs ls hM hl
  unfold f_X2_findChanged_117 at hf
  refine lv_iconst (v := 0) hx hb dX2_findChanged_117 rfl ?_
  exact w_X2_findChanged_118 K hr H13 _ _ _ _ _ _ _ _ hf _ _ _ hM (lv_sub hl [0, 1, 2, 3, 4, 5, 6] rfl)
theorem w_X2_findChanged_113 {p : Program} {l : Launch} {e : Env} {s : State} {m : MethodId} {args : Array Value} {below : List Frame} {meth : Method} {c : Code} {r : GR} {A : Nat → Prop} {P : GS → Prop} {k13 : GS → Int32 → Int32 → Int32 → Int32 → Int32 → Prop} (K : gC p s m args meth c cX2_findChanged 8 RX2 r A) (hr : meth.sig.returnType = none) (H13 : ∀ (σ : GS) (x1 : Int32) (x2 : Int32) (x3 : Int32) (x4 : Int32) (x5 : Int32), k13 σ x1 x2 x3 x4 x5 → gW dM p l e (gRm 67 2616 0 0) s m args below meth c r A (zV P) 0 0 8 13 [(0, .ref r.2.1), (1, .int x1), (2, .int x2), (3, .int x3), (4, .int x4), (5, .int x5)] [] 0 0 σ) : ∀ (σ : GS) (x1 : Int32) (x2 : Int32) (x3 : Int32) (x4 : Int32) (x5 : Int32) (x6 : Int32), f_X2_findChanged_113 k13 P σ x1 x2 x3 x4 x5 x6 → gW dM p l e (gRm 67 2616 0 0) s m args below meth c r A (zV P) 0 0 8 113 [(0, .ref r.2.1), (1, .int x1), (2, .int x2), (3, .int x3), (4, .int x4), (5, .int x5), (6, .int x6)] [] 0 0 σ := by
  obtain ⟨hx, hb, hml, hown, hts, hlk, hKK, hA⟩ := id K
  intro σ x1 x2 x3 x4 x5 x6 hf H locs ls hM hl
  unfold f_X2_findChanged_113 at hf
  refine lv_iconst (v := 1) hx hb dX2_findChanged_113 rfl ?_
  refine lv_goto (tgt := 118) hx hb dX2_findChanged_114 (by decide) ?_
  exact w_X2_findChanged_118 K hr H13 _ _ _ _ _ _ _ _ hf _ _ _ hM (lv_sub hl [0, 1, 2, 3, 4, 5, 6] rfl)
theorem w_X2_findChanged_13 {p : Program} {l : Launch} {e : Env} {s : State} {m : MethodId} {args : Array Value} {below : List Frame} {meth : Method} {c : Code} {r : GR} {A : Nat → Prop} {P : GS → Prop} (K : gC p s m args meth c cX2_findChanged 8 RX2 r A) (hr : meth.sig.returnType = none) : ∀ (n : Nat) (σ : GS) (x1 : Int32) (x2 : Int32) (x3 : Int32) (x4 : Int32) (x5 : Int32), f_X2_findChanged_13 P n σ x1 x2 x3 x4 x5 → gW dM p l e (gRm 67 2616 0 0) s m args below meth c r A (zV P) 0 0 8 13 [(0, .ref r.2.1), (1, .int x1), (2, .int x2), (3, .int x3), (4, .int x4), (5, .int x5)] [] 0 0 σ := by
  obtain ⟨hx, hb, hml, hown, hts, hlk, hKK, hA⟩ := id K
  intro n
  induction n with
  | zero =>
    intro σ x1 x2 x3 x4 x5 hf
    exact absurd hf (fun h => h)
  | succ n ih =>
    intro σ x1 x2 x3 x4 x5 hf H locs ls hM hl
    rw [f_X2_findChanged_13] at hf
    refine lv_iload hx hb dX2_findChanged_13 (lv_at hl 5 rfl) ?_
    refine lv_aload_n hx hb dX2_findChanged_15 rfl (lv_at hl 0 rfl) ?_
    refine g_cVi [] [.int x5] K kM hM hl (c_X2_baskets l r A _ _ hf) q1767 q1769 qs60 q84 q1770 hdX2_baskets ⟨Nat.le_of_ble_eq_true rfl, Nat.le_of_ble_eq_true rfl⟩ ⟨Nat.le_refl _, Nat.le_refl _⟩ rfl (Nat.le_of_ble_eq_true rfl) dX2_findChanged_16 (fun σ1 v2 H locs hf hM => ?_)
    refine lv_icmp_ge (tgt := 154) hx hb dX2_findChanged_19 (by decide) (fun b3 => ?_) (fun b3 => ?_)
    · replace hf := hf.1 b3
      exact g_retv K hr hM ⟨Nat.le_refl _, Nat.le_refl _⟩ hf dX2_findChanged_154
    · replace hf := hf.2 b3
      refine lv_aload_n hx hb dX2_findChanged_22 rfl (lv_at hl 0 rfl) ?_
      refine lv_iload hx hb dX2_findChanged_23 (lv_at hl 5 rfl) ?_
      refine g_cVv [.int x5] [] K kM hM hl (c_X2_unpack l r A _ _ _ hf) q1771 q1773 qs61 q84 q1774 hdX2_unpack ⟨Nat.le_of_ble_eq_true rfl, Nat.le_of_ble_eq_true rfl⟩ ⟨Nat.le_refl _, Nat.le_refl _⟩ rfl (Nat.le_of_ble_eq_true rfl) dX2_findChanged_25 (fun σ4 H locs hf hM => ?_)
      refine lv_aload_n hx hb dX2_findChanged_28 rfl (lv_at hl 0 rfl) ?_
      refine g_geti K kM hM 27 rfl q1480 rfl dX2_findChanged_29 rfl ?_
      refine lv_iload_n hx hb dX2_findChanged_32 rfl (lv_at hl 2 rfl) ?_
      refine lv_aload_n hx hb dX2_findChanged_33 rfl (lv_at hl 0 rfl) ?_
      refine g_geti K kM hM 28 rfl q1481 rfl dX2_findChanged_34 rfl ?_
      refine lv_imul hx hb dX2_findChanged_37 ?_
      refine lv_iadd hx hb dX2_findChanged_38 ?_
      refine lv_istore (lv' := [(6, .int ((gI σ4 27) + (x2 * (gI σ4 28)))), (0, .ref r.2.1), (1, .int x1), (2, .int x2), (3, .int x3), (4, .int x4), (5, .int x5)]) hx hb dX2_findChanged_39 hl (by decide) rfl (fun ls hl => ?_)
      refine lv_iload hx hb dX2_findChanged_41 (lv_at hl 0 rfl) ?_
      refine lv_iload_n hx hb dX2_findChanged_43 rfl (lv_at hl 3 rfl) ?_
      refine lv_aload_n hx hb dX2_findChanged_44 rfl (lv_at hl 1 rfl) ?_
      refine lv_iload_n hx hb dX2_findChanged_45 rfl (lv_at hl 2 rfl) ?_
      refine g_cVi [.int x1] [.int x2, .int ((gI σ4 27) + (x2 * (gI σ4 28)))] K kM hM hl (c_X2_pointsInAll l r A _ _ _ hf) q1687 q1689 qs45 q84 q1690 hdX2_pointsInAll ⟨Nat.le_of_ble_eq_true rfl, Nat.le_of_ble_eq_true rfl⟩ ⟨Nat.le_refl _, Nat.le_refl _⟩ rfl (Nat.le_of_ble_eq_true rfl) dX2_findChanged_46 (fun σ6 v7 H locs hf hM => ?_)
      refine lv_imul hx hb dX2_findChanged_49 ?_
      refine lv_isub hx hb dX2_findChanged_50 ?_
      refine lv_aload_n hx hb dX2_findChanged_51 rfl (lv_at hl 1 rfl) ?_
      refine lv_iload_n hx hb dX2_findChanged_52 rfl (lv_at hl 2 rfl) ?_
      refine g_cVi [.int x1] [.int (((gI σ4 27) + (x2 * (gI σ4 28))) - (x2 * v7))] K kM hM hl (c_X2_purseOf l r A _ _ _ hf) q1683 q1685 qs44 q84 q1686 hdX2_purseOf ⟨Nat.le_of_ble_eq_true rfl, Nat.le_of_ble_eq_true rfl⟩ ⟨Nat.le_refl _, Nat.le_refl _⟩ rfl (Nat.le_of_ble_eq_true rfl) dX2_findChanged_53 (fun σ8 v9 H locs hf hM => ?_)
      refine lv_icmp_le (tgt := 62) hx hb dX2_findChanged_56 (by decide) (fun b10 => ?_) (fun b10 => ?_)
      · replace hf := hf.1 b10
        refine lv_iload_n hx hb dX2_findChanged_62 rfl (lv_at hl 4 rfl) ?_
        refine lv_if_lt (tgt := 113) hx hb dX2_findChanged_63 (by decide) (fun b11 => ?_) (fun b11 => ?_)
        · replace hf := hf.1 b11
          exact w_X2_findChanged_113 K hr ih _ _ _ _ _ _ _ hf _ _ _ hM (lv_sub hl [1, 2, 3, 4, 5, 6, 0] rfl)
        · replace hf := hf.2 b11
          refine lv_aload_n hx hb dX2_findChanged_66 rfl (lv_at hl 1 rfl) ?_
          refine g_geti K kM hM 26 rfl q1479 rfl dX2_findChanged_67 rfl ?_
          refine lv_aload_n hx hb dX2_findChanged_70 rfl (lv_at hl 1 rfl) ?_
          refine g_geti K kM hM 42 rfl q1495 rfl dX2_findChanged_71 rfl ?_
          refine lv_icmp_gt (tgt := 113) hx hb dX2_findChanged_74 (by decide) (fun b12 => ?_) (fun b12 => ?_)
          · replace hf := hf.1 b12
            exact w_X2_findChanged_113 K hr ih _ _ _ _ _ _ _ hf _ _ _ hM (lv_sub hl [1, 2, 3, 4, 5, 6, 0] rfl)
          · replace hf := hf.2 b12
            refine lv_aload_n hx hb dX2_findChanged_77 rfl (lv_at hl 1 rfl) ?_
            refine g_geti K kM hM 26 rfl q1479 rfl dX2_findChanged_78 rfl ?_
            refine lv_aload_n hx hb dX2_findChanged_81 rfl (lv_at hl 1 rfl) ?_
            refine g_geti K kM hM 42 rfl q1495 rfl dX2_findChanged_82 rfl ?_
            refine lv_icmp_ne (tgt := 117) hx hb dX2_findChanged_85 (by decide) (fun b13 => ?_) (fun b13 => ?_)
            · replace hf := hf.2 b13
              exact w_X2_findChanged_117 K hr ih _ _ _ _ _ _ _ hf _ _ _ hM (lv_sub hl [1, 2, 3, 4, 5, 6, 0] rfl)
            · replace hf := hf.1 b13
              refine lv_iload hx hb dX2_findChanged_88 (lv_at hl 0 rfl) ?_
              refine lv_iload hx hb dX2_findChanged_90 (lv_at hl 5 rfl) ?_
              refine lv_icmp_lt (tgt := 113) hx hb dX2_findChanged_92 (by decide) (fun b14 => ?_) (fun b14 => ?_)
              · replace hf := hf.1 b14
                exact w_X2_findChanged_113 K hr ih _ _ _ _ _ _ _ hf _ _ _ hM (lv_sub hl [1, 2, 3, 4, 5, 6, 0] rfl)
              · replace hf := hf.2 b14
                refine lv_iload hx hb dX2_findChanged_95 (lv_at hl 0 rfl) ?_
                refine lv_iload hx hb dX2_findChanged_97 (lv_at hl 5 rfl) ?_
                refine lv_icmp_ne (tgt := 117) hx hb dX2_findChanged_99 (by decide) (fun b15 => ?_) (fun b15 => ?_)
                · replace hf := hf.2 b15
                  exact w_X2_findChanged_117 K hr ih _ _ _ _ _ _ _ hf _ _ _ hM (lv_sub hl [1, 2, 3, 4, 5, 6, 0] rfl)
                · replace hf := hf.1 b15
                  refine lv_aload_n hx hb dX2_findChanged_102 rfl (lv_at hl 1 rfl) ?_
                  refine g_geti K kM hM 28 rfl q1481 rfl dX2_findChanged_103 rfl ?_
                  refine lv_aload_n hx hb dX2_findChanged_106 rfl (lv_at hl 1 rfl) ?_
                  refine g_geti K kM hM 43 rfl q1496 rfl dX2_findChanged_107 rfl ?_
                  refine lv_icmp_ge (tgt := 117) hx hb dX2_findChanged_110 (by decide) (fun b16 => ?_) (fun b16 => ?_)
                  · replace hf := hf.1 b16
                    exact w_X2_findChanged_117 K hr ih _ _ _ _ _ _ _ hf _ _ _ hM (lv_sub hl [1, 2, 3, 4, 5, 6, 0] rfl)
                  · replace hf := hf.2 b16
                    exact w_X2_findChanged_113 K hr ih _ _ _ _ _ _ _ hf _ _ _ hM (lv_sub hl [1, 2, 3, 4, 5, 6, 0] rfl)
      · replace hf := hf.2 b10
        refine lv_goto (tgt := 148) hx hb dX2_findChanged_59 (by decide) ?_
        exact w_X2_findChanged_148 K hr ih _ _ _ _ _ _ hf _ _ _ hM (lv_sub hl [1, 2, 3, 4, 5, 6] rfl)
theorem c_X2_findChanged (l : Launch) (r : GR) (A : Nat → Prop) (σ : GS) (x1 : Int32) (x2 : Int32) (P : GS → Prop) (hf : f_X2_findChanged σ x1 x2 P) : gMet dM l yX2_findChanged cX2_findChanged 8 none 67 2616 0 0 r A σ [.ref r.2.1, .int x1, .int x2] (zV P) := by
  refine g_enter (lv := [(0, .ref r.2.1), (1, .int x1), (2, .int x2)]) (by decide) (Nat.le_of_ble_eq_true rfl) rfl ?_
  intro p e s m below meth c ls K hr hM hl _
  obtain ⟨hx, hb, hml, hown, hts, hlk, hKK, hA⟩ := id K
  unfold f_X2_findChanged at hf
  refine lv_aload_n hx hb dX2_findChanged_0 rfl (lv_at hl 0 rfl) ?_
  refine lv_iload_n hx hb dX2_findChanged_1 rfl (lv_at hl 1 rfl) ?_
  refine g_cVv [.int x1] [] K kM hM hl (c_X2_layWorths l r A _ _ _ hf) q1763 q1765 qs59 q84 q1766 hdX2_layWorths ⟨Nat.le_of_ble_eq_true rfl, Nat.le_of_ble_eq_true rfl⟩ ⟨Nat.le_refl _, Nat.le_refl _⟩ rfl (Nat.le_of_ble_eq_true rfl) dX2_findChanged_2 (fun σ1 H locs hf hM => ?_)
  refine lv_iconst (v := -1) hx hb dX2_findChanged_5 rfl ?_
  refine lv_istore_n (lv' := [(3, .int (-1 : Int32)), (0, .ref r.2.1), (1, .int x1), (2, .int x2)]) hx hb dX2_findChanged_6 rfl hl (by decide) rfl (fun ls hl => ?_)
  refine lv_iconst (v := 0) hx hb dX2_findChanged_7 rfl ?_
  refine lv_istore (lv' := [(4, .int (0 : Int32)), (3, .int (-1 : Int32)), (0, .ref r.2.1), (1, .int x1), (2, .int x2)]) hx hb dX2_findChanged_8 hl (by decide) rfl (fun ls hl => ?_)
  refine lv_iconst (v := 0) hx hb dX2_findChanged_10 rfl ?_
  refine lv_istore (lv' := [(5, .int (0 : Int32)), (4, .int (0 : Int32)), (3, .int (-1 : Int32)), (0, .ref r.2.1), (1, .int x1), (2, .int x2)]) hx hb dX2_findChanged_11 hl (by decide) rfl (fun ls hl => ?_)
  obtain ⟨n_, hf⟩ := hf
  exact w_X2_findChanged_13 K hr n_ _ _ _ _ _ _ hf _ _ _ hM (lv_sub hl [3, 4, 5, 2, 1, 0] rfl)
theorem c_X2_isRate (l : Launch) (r : GR) (A : Nat → Prop) (σ : GS) (x0 : Int32) (P : GS → Int32 → Prop) (hf : f_X2_isRate σ x0 P) : gMet dM l yX2_isRate cX2_isRate 1 (some .boolean) 1 25 0 0 r A σ [.int x0] (zI P) := by
  refine g_enter (lv := [(0, .int x0)]) (by decide) (Nat.le_of_ble_eq_true rfl) rfl ?_
  intro p e s m below meth c ls K hr hM hl _
  obtain ⟨hx, hb, hml, hown, hts, hlk, hKK, hA⟩ := id K
  unfold f_X2_isRate at hf
  refine lv_iload_n hx hb dX2_isRate_0 rfl (lv_at hl 0 rfl) ?_
  refine lv_i2l hx hb dX2_isRate_1 rfl ?_
  refine lv_lconst (v := 1) hx hb dX2_isRate_2 rfl ?_
  refine lv_ldc2 hx hb hown (hts _ q1639) dX2_isRate_3 ?_
  refine g_cSi [.long x0.toInt64, .long (1 : Int64), .long (99 : Int64)] [] K hM hl (c_X2_within l r A _ _ _ _ _ hf) q1632 q1633 q84 q1634 hdX2_within ⟨Nat.le_of_ble_eq_true rfl, Nat.le_of_ble_eq_true rfl⟩ ⟨Nat.le_refl _, Nat.le_refl _⟩ rfl (Nat.le_of_ble_eq_true rfl) dX2_isRate_6 (fun σ1 v2 H locs hf hM => ?_)
  obtain ⟨g3, hf⟩ := hf
  exact g_retz K hr hM ⟨Nat.le_refl _, Nat.le_refl _⟩ g3 hf dX2_isRate_9
theorem c_X2_changed (l : Launch) (r : GR) (A : Nat → Prop) (σ : GS) (x1 : Int32) (x2 : Int32) (x3 : Int32) (P : GS → Int32 → Prop) (hf : f_X2_changed σ x1 x2 x3 P) : gMet dM l yX2_changed cX2_changed 5 (some .int) 69 2663 0 0 r A σ [.ref r.2.1, .int x1, .int x2, .int x3] (zI P) := by
  refine g_enter (lv := [(0, .ref r.2.1), (1, .int x1), (2, .int x2), (3, .int x3)]) (by decide) (Nat.le_of_ble_eq_true rfl) rfl ?_
  intro p e s m below meth c ls K hr hM hl _
  obtain ⟨hx, hb, hml, hown, hts, hlk, hKK, hA⟩ := id K
  unfold f_X2_changed at hf
  refine lv_aload_n hx hb dX2_changed_0 rfl (lv_at hl 0 rfl) ?_
  refine lv_iload_n hx hb dX2_changed_1 rfl (lv_at hl 1 rfl) ?_
  refine g_cVi [.int x1] [] K kM hM hl (c_X2_isSort l r A _ _ _ hf) q1674 q1676 qs43 q84 q1677 hdX2_isSort ⟨Nat.le_of_ble_eq_true rfl, Nat.le_of_ble_eq_true rfl⟩ ⟨Nat.le_refl _, Nat.le_refl _⟩ rfl (Nat.le_of_ble_eq_true rfl) dX2_changed_2 (fun σ1 v2 H locs hf hM => ?_)
  refine lv_if_eq (tgt := 25) hx hb dX2_changed_5 (by decide) (fun b3 => ?_) (fun b3 => ?_)
  · replace hf := hf.1 b3
    refine lv_iconst (v := -1) hx hb dX2_changed_25 rfl ?_
    exact g_reti K hr hM ⟨Nat.le_refl _, Nat.le_refl _⟩ hf dX2_changed_26
  · replace hf := hf.2 b3
    refine lv_iload_n hx hb dX2_changed_8 rfl (lv_at hl 2 rfl) ?_
    refine g_cSi [.int x2] [] K hM hl (c_X2_isRate l r A _ _ _ hf) q1844 q1845 q84 q1846 hdX2_isRate ⟨Nat.le_of_ble_eq_true rfl, Nat.le_of_ble_eq_true rfl⟩ ⟨Nat.le_refl _, Nat.le_refl _⟩ rfl (Nat.le_of_ble_eq_true rfl) dX2_changed_9 (fun σ4 v5 H locs hf hM => ?_)
    refine lv_if_eq (tgt := 25) hx hb dX2_changed_12 (by decide) (fun b6 => ?_) (fun b6 => ?_)
    · replace hf := hf.1 b6
      refine lv_iconst (v := -1) hx hb dX2_changed_25 rfl ?_
      exact g_reti K hr hM ⟨Nat.le_refl _, Nat.le_refl _⟩ hf dX2_changed_26
    · replace hf := hf.2 b6
      refine lv_iload_n hx hb dX2_changed_15 rfl (lv_at hl 3 rfl) ?_
      refine lv_i2l hx hb dX2_changed_16 rfl ?_
      refine lv_lconst (v := 0) hx hb dX2_changed_17 rfl ?_
      refine lv_lconst (v := 1) hx hb dX2_changed_18 rfl ?_
      refine g_cSi [.long x3.toInt64, .long (0 : Int64), .long (1 : Int64)] [] K hM hl (c_X2_within l r A _ _ _ _ _ hf) q1632 q1633 q84 q1634 hdX2_within ⟨Nat.le_of_ble_eq_true rfl, Nat.le_of_ble_eq_true rfl⟩ ⟨Nat.le_refl _, Nat.le_refl _⟩ rfl (Nat.le_of_ble_eq_true rfl) dX2_changed_19 (fun σ7 v8 H locs hf hM => ?_)
      refine lv_if_ne (tgt := 27) hx hb dX2_changed_22 (by decide) (fun b9 => ?_) (fun b9 => ?_)
      · replace hf := hf.2 b9
        refine lv_aload_n hx hb dX2_changed_27 rfl (lv_at hl 0 rfl) ?_
        refine lv_iload_n hx hb dX2_changed_28 rfl (lv_at hl 1 rfl) ?_
        refine g_cVi [.int x1] [] K kM hM hl (c_X2_bestOf l r A _ _ _ hf) q1755 q1757 qs57 q84 q1758 hdX2_bestOf ⟨Nat.le_of_ble_eq_true rfl, Nat.le_of_ble_eq_true rfl⟩ ⟨Nat.le_refl _, Nat.le_refl _⟩ rfl (Nat.le_of_ble_eq_true rfl) dX2_changed_29 (fun σ10 v11 H locs hf hM => ?_)
        refine lv_istore (lv' := [(4, .int v11), (0, .ref r.2.1), (1, .int x1), (2, .int x2), (3, .int x3)]) hx hb dX2_changed_32 hl (by decide) rfl (fun ls hl => ?_)
        refine lv_aload_n hx hb dX2_changed_34 rfl (lv_at hl 1 rfl) ?_
        refine lv_iload_n hx hb dX2_changed_35 rfl (lv_at hl 2 rfl) ?_
        refine lv_iload_n hx hb dX2_changed_36 rfl (lv_at hl 3 rfl) ?_
        refine g_cVv [.int x1, .int x2] [] K kM hM hl (c_X2_findChanged l r A _ _ _ _ hf) q1847 q1849 qs70 q84 q1850 hdX2_findChanged ⟨Nat.le_of_ble_eq_true rfl, Nat.le_of_ble_eq_true rfl⟩ ⟨Nat.le_refl _, Nat.le_refl _⟩ rfl (Nat.le_of_ble_eq_true rfl) dX2_changed_37 (fun σ12 H locs hf hM => ?_)
        refine lv_iload_n hx hb dX2_changed_40 rfl (lv_at hl 4 rfl) ?_
        refine lv_if_ne (tgt := 51) hx hb dX2_changed_41 (by decide) (fun b14 => ?_) (fun b14 => ?_)
        · replace hf := hf.2 b14
          refine lv_aload_n hx hb dX2_changed_51 rfl (lv_at hl 1 rfl) ?_
          refine g_geti K kM hM 42 rfl q1495 rfl dX2_changed_52 rfl ?_
          refine lv_aload_n hx hb dX2_changed_55 rfl (lv_at hl 1 rfl) ?_
          refine g_geti K kM hM 30 rfl q1483 rfl dX2_changed_56 rfl ?_
          refine lv_isub hx hb dX2_changed_59 ?_
          exact g_reti K hr hM ⟨Nat.le_refl _, Nat.le_refl _⟩ hf dX2_changed_60
        · replace hf := hf.1 b14
          refine lv_aload_n hx hb dX2_changed_44 rfl (lv_at hl 1 rfl) ?_
          refine g_geti K kM hM 42 rfl q1495 rfl dX2_changed_45 rfl ?_
          refine lv_goto (tgt := 60) hx hb dX2_changed_48 (by decide) ?_
          exact g_reti K hr hM ⟨Nat.le_refl _, Nat.le_refl _⟩ hf dX2_changed_60
      · replace hf := hf.1 b9
        refine lv_iconst (v := -1) hx hb dX2_changed_25 rfl ?_
        exact g_reti K hr hM ⟨Nat.le_refl _, Nat.le_refl _⟩ hf dX2_changed_26
theorem w_X2_free_12 {p : Program} {l : Launch} {e : Env} {s : State} {m : MethodId} {args : Array Value} {below : List Frame} {meth : Method} {c : Code} {r : GR} {A : Nat → Prop} {P : GS → Int32 → Prop} {k2 : GS → Int32 → Prop} (K : gC p s m args meth c cX2_free 4 RX2 r A) (hr : meth.sig.returnType = (some .int)) (H2 : ∀ (σ : GS) (x1 : Int32), k2 σ x1 → gW dM p l e (gRm 68 2643 0 0) s m args below meth c r A (zI P) 0 0 4 2 [(0, .ref r.2.1), (1, .int x1)] [] 0 0 σ) : ∀ (n : Nat) (σ : GS) (x1 : Int32) (x2 : Int32) (x3 : Int32), f_X2_free_12 k2 P n σ x1 x2 x3 → gW dM p l e (gRm 68 2643 0 0) s m args below meth c r A (zI P) 0 0 4 12 [(0, .ref r.2.1), (1, .int x1), (2, .int x2), (3, .int x3)] [] 0 0 σ := by
  obtain ⟨hx, hb, hml, hown, hts, hlk, hKK, hA⟩ := id K
  intro n
  induction n with
  | zero =>
    intro σ x1 x2 x3 hf
    exact absurd hf (fun h => h)
  | succ n ih =>
    intro σ x1 x2 x3 hf H locs ls hM hl
    rw [f_X2_free_12] at hf
    refine lv_iload_n hx hb dX2_free_12 rfl (lv_at hl 3 rfl) ?_
    refine lv_aload_n hx hb dX2_free_13 rfl (lv_at hl 0 rfl) ?_
    refine g_geti K kM hM 8 rfl q1461 rfl dX2_free_14 rfl ?_
    refine lv_icmp_ge (tgt := 52) hx hb dX2_free_17 (by decide) (fun b1 => ?_) (fun b1 => ?_)
    · replace hf := hf.1 b1
      refine lv_iload_n hx hb dX2_free_52 rfl (lv_at hl 2 rfl) ?_
      refine lv_if_gt (tgt := 58) hx hb dX2_free_53 (by decide) (fun b2 => ?_) (fun b2 => ?_)
      · replace hf := hf.1 b2
        refine lv_iinc (v := x1 + 1) (lv' := [(1, .int (x1 + 1)), (0, .ref r.2.1), (2, .int x2), (3, .int x3)]) hx hb dX2_free_58 hl (k := 1) rfl rfl (by decide) rfl (fun ls hl => ?_)
        refine lv_goto (tgt := 2) hx hb dX2_free_61 (by decide) ?_
        exact H2 _ _ hf _ _ _ hM (lv_sub hl [1, 0] rfl)
      · replace hf := hf.2 b2
        refine lv_iload_n hx hb dX2_free_56 rfl (lv_at hl 1 rfl) ?_
        exact g_reti K hr hM ⟨Nat.le_refl _, Nat.le_refl _⟩ hf dX2_free_57
    · replace hf := hf.2 b1
      refine lv_aload_n hx hb dX2_free_20 rfl (lv_at hl 0 rfl) ?_
      refine lv_iload_n hx hb dX2_free_21 rfl (lv_at hl 3 rfl) ?_
      refine lv_iload_n hx hb dX2_free_22 rfl (lv_at hl 1 rfl) ?_
      refine g_cVv [.int x3, .int x1] [] K kM hM hl (c_X2_findChanged l r A _ _ _ _ hf) q1847 q1849 qs70 q84 q1850 hdX2_findChanged ⟨Nat.le_of_ble_eq_true rfl, Nat.le_of_ble_eq_true rfl⟩ ⟨Nat.le_refl _, Nat.le_refl _⟩ rfl (Nat.le_of_ble_eq_true rfl) dX2_free_23 (fun σ3 H locs hf hM => ?_)
      refine lv_iload_n hx hb dX2_free_26 rfl (lv_at hl 2 rfl) ?_
      refine lv_aload_n hx hb dX2_free_27 rfl (lv_at hl 0 rfl) ?_
      refine g_geta K kM hM 9 rfl q1462 rfl dX2_free_28 rfl ?_
      refine lv_iload_n hx hb dX2_free_31 rfl (lv_at hl 3 rfl) ?_
      obtain ⟨g5, hf⟩ := hf
      refine g_iald K hM 9 rfl rfl rfl g5 dX2_free_32 ?_
      refine lv_aload_n hx hb dX2_free_33 rfl (lv_at hl 0 rfl) ?_
      refine g_geti K kM hM 43 rfl q1496 rfl dX2_free_34 rfl ?_
      refine lv_aload_n hx hb dX2_free_37 rfl (lv_at hl 0 rfl) ?_
      refine lv_iload_n hx hb dX2_free_38 rfl (lv_at hl 3 rfl) ?_
      refine g_cVi [.int x3] [.int (gI σ3 43), .int (gA σ3 9 x3.toNatClampNeg), .int x2] K kM hM hl (c_X2_pointsInAll l r A _ _ _ hf) q1687 q1689 qs45 q84 q1690 hdX2_pointsInAll ⟨Nat.le_of_ble_eq_true rfl, Nat.le_of_ble_eq_true rfl⟩ ⟨Nat.le_refl _, Nat.le_refl _⟩ rfl (Nat.le_of_ble_eq_true rfl) dX2_free_39 (fun σ6 v7 H locs hf hM => ?_)
      refine lv_isub hx hb dX2_free_42 ?_
      refine lv_imul hx hb dX2_free_43 ?_
      refine lv_iadd hx hb dX2_free_44 ?_
      refine lv_topi (fun z8 hz8 => ?_)
      have hf := hf z8 hz8
      refine lv_istore_n (lv' := [(2, .int z8), (0, .ref r.2.1), (1, .int x1), (3, .int x3)]) hx hb dX2_free_45 rfl hl (by decide) rfl (fun ls hl => ?_)
      refine lv_iinc (v := x3 + 1) (lv' := [(3, .int (x3 + 1)), (2, .int z8), (0, .ref r.2.1), (1, .int x1)]) hx hb dX2_free_46 hl (k := 3) rfl rfl (by decide) rfl (fun ls hl => ?_)
      refine lv_goto (tgt := 12) hx hb dX2_free_49 (by decide) ?_
      exact ih _ _ _ _ hf _ _ _ hM (lv_sub hl [2, 3, 1, 0] rfl)
theorem w_X2_free_2 {p : Program} {l : Launch} {e : Env} {s : State} {m : MethodId} {args : Array Value} {below : List Frame} {meth : Method} {c : Code} {r : GR} {A : Nat → Prop} {P : GS → Int32 → Prop} (K : gC p s m args meth c cX2_free 4 RX2 r A) (hr : meth.sig.returnType = (some .int)) : ∀ (n : Nat) (σ : GS) (x1 : Int32), f_X2_free_2 P n σ x1 → gW dM p l e (gRm 68 2643 0 0) s m args below meth c r A (zI P) 0 0 4 2 [(0, .ref r.2.1), (1, .int x1)] [] 0 0 σ := by
  obtain ⟨hx, hb, hml, hown, hts, hlk, hKK, hA⟩ := id K
  intro n
  induction n with
  | zero =>
    intro σ x1 hf
    exact absurd hf (fun h => h)
  | succ n ih =>
    intro σ x1 hf H locs ls hM hl
    rw [f_X2_free_2] at hf
    refine lv_iload_n hx hb dX2_free_2 rfl (lv_at hl 1 rfl) ?_
    refine lv_bipush (v := 99) hx hb dX2_free_3 rfl ?_
    refine lv_icmp_gt (tgt := 64) hx hb dX2_free_5 (by decide) (fun b1 => ?_) (fun b1 => ?_)
    · replace hf := hf.1 b1
      refine lv_bipush (v := -2) hx hb dX2_free_64 rfl ?_
      exact g_reti K hr hM ⟨Nat.le_refl _, Nat.le_refl _⟩ hf dX2_free_66
    · replace hf := hf.2 b1
      refine lv_iconst (v := 0) hx hb dX2_free_8 rfl ?_
      refine lv_istore_n (lv' := [(2, .int (0 : Int32)), (0, .ref r.2.1), (1, .int x1)]) hx hb dX2_free_9 rfl hl (by decide) rfl (fun ls hl => ?_)
      refine lv_iconst (v := 0) hx hb dX2_free_10 rfl ?_
      refine lv_istore_n (lv' := [(3, .int (0 : Int32)), (2, .int (0 : Int32)), (0, .ref r.2.1), (1, .int x1)]) hx hb dX2_free_11 rfl hl (by decide) rfl (fun ls hl => ?_)
      obtain ⟨n_, hf⟩ := hf
      exact w_X2_free_12 K hr ih n_ _ _ _ _ hf _ _ _ hM (lv_sub hl [2, 3, 1, 0] rfl)
theorem c_X2_free (l : Launch) (r : GR) (A : Nat → Prop) (σ : GS) (P : GS → Int32 → Prop) (hf : f_X2_free σ P) : gMet dM l yX2_free cX2_free 4 (some .int) 68 2643 0 0 r A σ [.ref r.2.1] (zI P) := by
  refine g_enter (lv := [(0, .ref r.2.1)]) (by decide) (Nat.le_of_ble_eq_true rfl) rfl ?_
  intro p e s m below meth c ls K hr hM hl _
  obtain ⟨hx, hb, hml, hown, hts, hlk, hKK, hA⟩ := id K
  unfold f_X2_free at hf
  refine lv_iconst (v := 1) hx hb dX2_free_0 rfl ?_
  refine lv_istore_n (lv' := [(1, .int (1 : Int32)), (0, .ref r.2.1)]) hx hb dX2_free_1 rfl hl (by decide) rfl (fun ls hl => ?_)
  obtain ⟨n_, hf⟩ := hf
  exact w_X2_free_2 K hr n_ _ _ hf _ _ _ hM (lv_sub hl [1, 0] rfl)
theorem w_X2_black_145 {p : Program} {l : Launch} {e : Env} {s : State} {m : MethodId} {args : Array Value} {below : List Frame} {meth : Method} {c : Code} {r : GR} {A : Nat → Prop} {P : GS → Int32 → Prop} {k66 : GS → Int32 → Int32 → Int32 → Int32 → Prop} (K : gC p s m args meth c cX2_black 8 RX2 r A) (hr : meth.sig.returnType = (some .int)) (H66 : ∀ (σ : GS) (x1 : Int32) (x4 : Int32) (x5 : Int32) (x6 : Int32), k66 σ x1 x4 x5 x6 → gW dM p l e (gRm 67 2616 0 0) s m args below meth c r A (zI P) 0 0 8 66 [(0, .ref r.2.1), (1, .int x1), (4, .int x4), (5, .int x5), (6, .int x6)] [] 0 0 σ) : ∀ (σ : GS) (x1 : Int32) (x4 : Int32) (x6 : Int32) (t0 : Int32), f_X2_black_145 k66 P σ x1 x4 x6 t0 → gW dM p l e (gRm 67 2616 0 0) s m args below meth c r A (zI P) 0 0 8 145 [(0, .ref r.2.1), (1, .int x1), (4, .int x4), (6, .int x6)] [.int t0] 0 0 σ := by
  obtain ⟨hx, hb, hml, hown, hts, hlk, hKK, hA⟩ := id K
  intro σ x1 x4 x6 t0 hf H locs ls hM hl
  unfold f_X2_black_145 at hf
  refine lv_istore (lv' := [(5, .int t0), (0, .ref r.2.1), (1, .int x1), (4, .int x4), (6, .int x6)]) hx hb dX2_black_145 hl (by decide) rfl (fun ls hl => ?_)
  refine lv_iinc (v := x6 + 1) (lv' := [(6, .int (x6 + 1)), (5, .int t0), (0, .ref r.2.1), (1, .int x1), (4, .int x4)]) hx hb dX2_black_147 hl (k := 4) rfl rfl (by decide) rfl (fun ls hl => ?_)
  refine lv_goto (tgt := 66) hx hb dX2_black_150 (by decide) ?_
  exact H66 _ _ _ _ _ hf _ _ _ hM (lv_sub hl [2, 3, 4, 1, 0] rfl)
theorem w_X2_black_143 {p : Program} {l : Launch} {e : Env} {s : State} {m : MethodId} {args : Array Value} {below : List Frame} {meth : Method} {c : Code} {r : GR} {A : Nat → Prop} {P : GS → Int32 → Prop} {k66 : GS → Int32 → Int32 → Int32 → Int32 → Prop} (K : gC p s m args meth c cX2_black 8 RX2 r A) (hr : meth.sig.returnType = (some .int)) (H66 : ∀ (σ : GS) (x1 : Int32) (x4 : Int32) (x5 : Int32) (x6 : Int32), k66 σ x1 x4 x5 x6 → gW dM p l e (gRm 67 2616 0 0) s m args below meth c r A (zI P) 0 0 8 66 [(0, .ref r.2.1), (1, .int x1), (4, .int x4), (5, .int x5), (6, .int x6)] [] 0 0 σ) : ∀ (σ : GS) (x1 : Int32) (x4 : Int32) (x5 : Int32) (x6 : Int32), f_X2_black_143 k66 P σ x1 x4 x5 x6 → gW dM p l e (gRm 67 2616 0 0) s m args below meth c r A (zI P) 0 0 8 143 [(0, .ref r.2.1), (1, .int x1), (4, .int x4), (5, .int x5), (6, .int x6)] [] 0 0 σ := by
  obtain ⟨hx, hb, hml, hown, hts, hlk, hKK, hA⟩ := id K
  intro σ x1 x4 x5 x6 hf H locs ls hM hl
  unfold f_X2_black_143 at hf
  refine lv_iload hx hb dX2_black_143 (lv_at hl 3 rfl) ?_
  exact w_X2_black_145 K hr H66 _ _ _ _ _ hf _ _ _ hM (lv_sub hl [0, 1, 2, 4] rfl)
theorem w_X2_black_107 {p : Program} {l : Launch} {e : Env} {s : State} {m : MethodId} {args : Array Value} {below : List Frame} {meth : Method} {c : Code} {r : GR} {A : Nat → Prop} {P : GS → Int32 → Prop} {k66 : GS → Int32 → Int32 → Int32 → Int32 → Prop} (K : gC p s m args meth c cX2_black 8 RX2 r A) (hr : meth.sig.returnType = (some .int)) (H66 : ∀ (σ : GS) (x1 : Int32) (x4 : Int32) (x5 : Int32) (x6 : Int32), k66 σ x1 x4 x5 x6 → gW dM p l e (gRm 67 2616 0 0) s m args below meth c r A (zI P) 0 0 8 66 [(0, .ref r.2.1), (1, .int x1), (4, .int x4), (5, .int x5), (6, .int x6)] [] 0 0 σ) : ∀ (σ : GS) (x1 : Int32) (x4 : Int32) (x5 : Int32) (x6 : Int32) (t0 : Int32), f_X2_black_107 k66 P σ x1 x4 x5 x6 t0 → gW dM p l e (gRm 67 2616 0 0) s m args below meth c r A (zI P) 0 0 8 107 [(0, .ref r.2.1), (1, .int x1), (4, .int x4), (5, .int x5), (6, .int x6)] [.int t0] 0 0 σ := by
  obtain ⟨hx, hb, hml, hown, hts, hlk, hKK, hA⟩ := id K
  intro σ x1 x4 x5 x6 t0 hf H locs ls hM hl
  unfold f_X2_black_107 at hf
  refine lv_istore (lv' := [(7, .int t0), (0, .ref r.2.1), (1, .int x1), (4, .int x4), (5, .int x5), (6, .int x6)]) hx hb dX2_black_107 hl (by decide) rfl (fun ls hl => ?_)
  refine lv_aload_n hx hb dX2_black_109 rfl (lv_at hl 1 rfl) ?_
  refine g_geti K kM hM 27 rfl q1480 rfl dX2_black_110 rfl ?_
  refine lv_iload hx hb dX2_black_113 (lv_at hl 0 rfl) ?_
  refine lv_iload hx hb dX2_black_115 (lv_at hl 3 rfl) ?_
  refine lv_imul hx hb dX2_black_117 ?_
  refine lv_iadd hx hb dX2_black_118 ?_
  refine lv_aload_n hx hb dX2_black_119 rfl (lv_at hl 1 rfl) ?_
  refine lv_iload_n hx hb dX2_black_120 rfl (lv_at hl 2 rfl) ?_
  refine g_cVi [.int x1] [.int ((gI σ 27) + (t0 * x4))] K kM hM hl (c_X2_purseOf l r A _ _ _ hf) q1683 q1685 qs44 q84 q1686 hdX2_purseOf ⟨Nat.le_of_ble_eq_true rfl, Nat.le_of_ble_eq_true rfl⟩ ⟨Nat.le_refl _, Nat.le_refl _⟩ rfl (Nat.le_of_ble_eq_true rfl) dX2_black_121 (fun σ1 v2 H locs hf hM => ?_)
  refine lv_icmp_gt (tgt := 143) hx hb dX2_black_124 (by decide) (fun b3 => ?_) (fun b3 => ?_)
  · replace hf := hf.1 b3
    exact w_X2_black_143 K hr H66 _ _ _ _ _ hf _ _ _ hM (lv_sub hl [1, 2, 3, 4, 5] rfl)
  · replace hf := hf.2 b3
    refine lv_aload_n hx hb dX2_black_127 rfl (lv_at hl 1 rfl) ?_
    refine g_geti K kM hM 26 rfl q1479 rfl dX2_black_128 rfl ?_
    refine lv_iload hx hb dX2_black_131 (lv_at hl 4 rfl) ?_
    refine lv_icmp_le (tgt := 143) hx hb dX2_black_133 (by decide) (fun b4 => ?_) (fun b4 => ?_)
    · replace hf := hf.1 b4
      exact w_X2_black_143 K hr H66 _ _ _ _ _ hf _ _ _ hM (lv_sub hl [1, 2, 3, 4, 5] rfl)
    · replace hf := hf.2 b4
      refine lv_aload_n hx hb dX2_black_136 rfl (lv_at hl 1 rfl) ?_
      refine g_geti K kM hM 26 rfl q1479 rfl dX2_black_137 rfl ?_
      refine lv_goto (tgt := 145) hx hb dX2_black_140 (by decide) ?_
      exact w_X2_black_145 K hr H66 _ _ _ _ _ hf _ _ _ hM (lv_sub hl [1, 2, 3, 5] rfl)
theorem w_X2_black_66 {p : Program} {l : Launch} {e : Env} {s : State} {m : MethodId} {args : Array Value} {below : List Frame} {meth : Method} {c : Code} {r : GR} {A : Nat → Prop} {P : GS → Int32 → Prop} (K : gC p s m args meth c cX2_black 8 RX2 r A) (hr : meth.sig.returnType = (some .int)) : ∀ (n : Nat) (σ : GS) (x1 : Int32) (x4 : Int32) (x5 : Int32) (x6 : Int32), f_X2_black_66 P n σ x1 x4 x5 x6 → gW dM p l e (gRm 67 2616 0 0) s m args below meth c r A (zI P) 0 0 8 66 [(0, .ref r.2.1), (1, .int x1), (4, .int x4), (5, .int x5), (6, .int x6)] [] 0 0 σ := by
  obtain ⟨hx, hb, hml, hown, hts, hlk, hKK, hA⟩ := id K
  intro n
  induction n with
  | zero =>
    intro σ x1 x4 x5 x6 hf
    exact absurd hf (fun h => h)
  | succ n ih =>
    intro σ x1 x4 x5 x6 hf H locs ls hM hl
    rw [f_X2_black_66] at hf
    refine lv_iload hx hb dX2_black_66 (lv_at hl 4 rfl) ?_
    refine lv_aload_n hx hb dX2_black_68 rfl (lv_at hl 0 rfl) ?_
    refine g_cVi [] [.int x6] K kM hM hl (c_X2_baskets l r A _ _ hf) q1767 q1769 qs60 q84 q1770 hdX2_baskets ⟨Nat.le_of_ble_eq_true rfl, Nat.le_of_ble_eq_true rfl⟩ ⟨Nat.le_refl _, Nat.le_refl _⟩ rfl (Nat.le_of_ble_eq_true rfl) dX2_black_69 (fun σ1 v2 H locs hf hM => ?_)
    refine lv_icmp_ge (tgt := 153) hx hb dX2_black_72 (by decide) (fun b3 => ?_) (fun b3 => ?_)
    · replace hf := hf.1 b3
      refine lv_iload hx hb dX2_black_153 (lv_at hl 3 rfl) ?_
      exact g_reti K hr hM ⟨Nat.le_refl _, Nat.le_refl _⟩ hf dX2_black_155
    · replace hf := hf.2 b3
      refine lv_aload_n hx hb dX2_black_75 rfl (lv_at hl 0 rfl) ?_
      refine lv_iload hx hb dX2_black_76 (lv_at hl 4 rfl) ?_
      refine g_cVv [.int x6] [] K kM hM hl (c_X2_unpack l r A _ _ _ hf) q1771 q1773 qs61 q84 q1774 hdX2_unpack ⟨Nat.le_of_ble_eq_true rfl, Nat.le_of_ble_eq_true rfl⟩ ⟨Nat.le_refl _, Nat.le_refl _⟩ rfl (Nat.le_of_ble_eq_true rfl) dX2_black_78 (fun σ4 H locs hf hM => ?_)
      refine lv_aload_n hx hb dX2_black_81 rfl (lv_at hl 0 rfl) ?_
      refine g_geti K kM hM 28 rfl q1481 rfl dX2_black_82 rfl ?_
      refine lv_aload_n hx hb dX2_black_85 rfl (lv_at hl 0 rfl) ?_
      refine lv_iload_n hx hb dX2_black_86 rfl (lv_at hl 1 rfl) ?_
      refine g_cVi [.int x1] [.int (gI σ4 28)] K kM hM hl (c_X2_pointsInAll l r A _ _ _ hf) q1687 q1689 qs45 q84 q1690 hdX2_pointsInAll ⟨Nat.le_of_ble_eq_true rfl, Nat.le_of_ble_eq_true rfl⟩ ⟨Nat.le_refl _, Nat.le_refl _⟩ rfl (Nat.le_of_ble_eq_true rfl) dX2_black_87 (fun σ6 v7 H locs hf hM => ?_)
      refine lv_icmp_le (tgt := 106) hx hb dX2_black_90 (by decide) (fun b8 => ?_) (fun b8 => ?_)
      · replace hf := hf.1 b8
        refine lv_iconst (v := 0) hx hb dX2_black_106 rfl ?_
        exact w_X2_black_107 K hr ih _ _ _ _ _ _ hf _ _ _ hM (lv_sub hl [0, 1, 2, 3, 4] rfl)
      · replace hf := hf.2 b8
        refine lv_aload_n hx hb dX2_black_93 rfl (lv_at hl 0 rfl) ?_
        refine g_geti K kM hM 28 rfl q1481 rfl dX2_black_94 rfl ?_
        refine lv_aload_n hx hb dX2_black_97 rfl (lv_at hl 0 rfl) ?_
        refine lv_iload_n hx hb dX2_black_98 rfl (lv_at hl 1 rfl) ?_
        refine g_cVi [.int x1] [.int (gI σ6 28)] K kM hM hl (c_X2_pointsInAll l r A _ _ _ hf) q1687 q1689 qs45 q84 q1690 hdX2_pointsInAll ⟨Nat.le_of_ble_eq_true rfl, Nat.le_of_ble_eq_true rfl⟩ ⟨Nat.le_refl _, Nat.le_refl _⟩ rfl (Nat.le_of_ble_eq_true rfl) dX2_black_99 (fun σ9 v10 H locs hf hM => ?_)
        refine lv_isub hx hb dX2_black_102 ?_
        refine lv_goto (tgt := 107) hx hb dX2_black_103 (by decide) ?_
        exact w_X2_black_107 K hr ih _ _ _ _ _ _ hf _ _ _ hM (lv_sub hl [0, 1, 2, 3, 4] rfl)
theorem c_X2_black (l : Launch) (r : GR) (A : Nat → Prop) (σ : GS) (x1 : Int32) (x2 : Int32) (x3 : Int32) (P : GS → Int32 → Prop) (hf : f_X2_black σ x1 x2 x3 P) : gMet dM l yX2_black cX2_black 8 (some .int) 67 2616 0 0 r A σ [.ref r.2.1, .int x1, .int x2, .int x3] (zI P) := by
  refine g_enter (lv := [(0, .ref r.2.1), (1, .int x1), (2, .int x2), (3, .int x3)]) (by decide) (Nat.le_of_ble_eq_true rfl) rfl ?_
  intro p e s m below meth c ls K hr hM hl _
  obtain ⟨hx, hb, hml, hown, hts, hlk, hKK, hA⟩ := id K
  unfold f_X2_black at hf
  refine lv_aload_n hx hb dX2_black_0 rfl (lv_at hl 0 rfl) ?_
  refine lv_iload_n hx hb dX2_black_1 rfl (lv_at hl 1 rfl) ?_
  refine g_cVi [.int x1] [] K kM hM hl (c_X2_isSort l r A _ _ _ hf) q1674 q1676 qs43 q84 q1677 hdX2_isSort ⟨Nat.le_of_ble_eq_true rfl, Nat.le_of_ble_eq_true rfl⟩ ⟨Nat.le_refl _, Nat.le_refl _⟩ rfl (Nat.le_of_ble_eq_true rfl) dX2_black_2 (fun σ1 v2 H locs hf hM => ?_)
  refine lv_if_eq (tgt := 34) hx hb dX2_black_5 (by decide) (fun b3 => ?_) (fun b3 => ?_)
  · replace hf := hf.1 b3
    refine lv_iconst (v := -1) hx hb dX2_black_34 rfl ?_
    exact g_reti K hr hM ⟨Nat.le_refl _, Nat.le_refl _⟩ hf dX2_black_35
  · replace hf := hf.2 b3
    refine lv_iload_n hx hb dX2_black_8 rfl (lv_at hl 2 rfl) ?_
    refine lv_if_lt (tgt := 34) hx hb dX2_black_9 (by decide) (fun b4 => ?_) (fun b4 => ?_)
    · replace hf := hf.1 b4
      refine lv_iconst (v := -1) hx hb dX2_black_34 rfl ?_
      exact g_reti K hr hM ⟨Nat.le_refl _, Nat.le_refl _⟩ hf dX2_black_35
    · replace hf := hf.2 b4
      refine lv_iload_n hx hb dX2_black_12 rfl (lv_at hl 2 rfl) ?_
      refine lv_bipush (v := 100) hx hb dX2_black_13 rfl ?_
      refine lv_idiv hx hb dX2_black_15 (by decide) ?_
      refine g_cSi [.int (x2 / (100 : Int32))] [] K hM hl (c_X2_isRate l r A _ _ _ hf) q1844 q1845 q84 q1846 hdX2_isRate ⟨Nat.le_of_ble_eq_true rfl, Nat.le_of_ble_eq_true rfl⟩ ⟨Nat.le_refl _, Nat.le_refl _⟩ rfl (Nat.le_of_ble_eq_true rfl) dX2_black_16 (fun σ5 v6 H locs hf hM => ?_)
      refine lv_if_eq (tgt := 34) hx hb dX2_black_19 (by decide) (fun b7 => ?_) (fun b7 => ?_)
      · replace hf := hf.1 b7
        refine lv_iconst (v := -1) hx hb dX2_black_34 rfl ?_
        exact g_reti K hr hM ⟨Nat.le_refl _, Nat.le_refl _⟩ hf dX2_black_35
      · replace hf := hf.2 b7
        refine lv_iload_n hx hb dX2_black_22 rfl (lv_at hl 3 rfl) ?_
        refine lv_i2l hx hb dX2_black_23 rfl ?_
        refine lv_lconst (v := 0) hx hb dX2_black_24 rfl ?_
        refine lv_ldc2 hx hb hown (hts _ q1859) dX2_black_25 ?_
        refine g_cSi [.long x3.toInt64, .long (0 : Int64), .long (100 : Int64)] [] K hM hl (c_X2_within l r A _ _ _ _ _ hf) q1632 q1633 q84 q1634 hdX2_within ⟨Nat.le_of_ble_eq_true rfl, Nat.le_of_ble_eq_true rfl⟩ ⟨Nat.le_refl _, Nat.le_refl _⟩ rfl (Nat.le_of_ble_eq_true rfl) dX2_black_28 (fun σ8 v9 H locs hf hM => ?_)
        refine lv_if_ne (tgt := 36) hx hb dX2_black_31 (by decide) (fun b10 => ?_) (fun b10 => ?_)
        · replace hf := hf.2 b10
          refine lv_iload_n hx hb dX2_black_36 rfl (lv_at hl 2 rfl) ?_
          refine lv_bipush (v := 100) hx hb dX2_black_37 rfl ?_
          refine lv_idiv hx hb dX2_black_39 (by decide) ?_
          refine lv_iload_n hx hb dX2_black_40 rfl (lv_at hl 2 rfl) ?_
          refine lv_bipush (v := 100) hx hb dX2_black_41 rfl ?_
          refine lv_irem hx hb dX2_black_43 (by decide) ?_
          refine lv_iload_n hx hb dX2_black_44 rfl (lv_at hl 3 rfl) ?_
          refine lv_imul hx hb dX2_black_45 ?_
          refine lv_bipush (v := 99) hx hb dX2_black_46 rfl ?_
          refine lv_iadd hx hb dX2_black_48 ?_
          refine lv_bipush (v := 100) hx hb dX2_black_49 rfl ?_
          refine lv_idiv hx hb dX2_black_51 (by decide) ?_
          refine lv_iadd hx hb dX2_black_52 ?_
          refine lv_topi (fun z11 hz11 => ?_)
          have hf := hf z11 hz11
          refine lv_istore (lv' := [(4, .int z11), (0, .ref r.2.1), (1, .int x1), (2, .int x2), (3, .int x3)]) hx hb dX2_black_53 hl (by decide) rfl (fun ls hl => ?_)
          refine lv_aload_n hx hb dX2_black_55 rfl (lv_at hl 1 rfl) ?_
          refine lv_iload_n hx hb dX2_black_56 rfl (lv_at hl 2 rfl) ?_
          refine g_cVv [.int x1] [] K kM hM hl (c_X2_layWorths l r A _ _ _ hf) q1763 q1765 qs59 q84 q1766 hdX2_layWorths ⟨Nat.le_of_ble_eq_true rfl, Nat.le_of_ble_eq_true rfl⟩ ⟨Nat.le_refl _, Nat.le_refl _⟩ rfl (Nat.le_of_ble_eq_true rfl) dX2_black_57 (fun σ12 H locs hf hM => ?_)
          refine lv_iconst (v := 0) hx hb dX2_black_60 rfl ?_
          refine lv_istore (lv' := [(5, .int (0 : Int32)), (4, .int z11), (0, .ref r.2.1), (1, .int x1), (2, .int x2), (3, .int x3)]) hx hb dX2_black_61 hl (by decide) rfl (fun ls hl => ?_)
          refine lv_iconst (v := 0) hx hb dX2_black_63 rfl ?_
          refine lv_istore (lv' := [(6, .int (0 : Int32)), (5, .int (0 : Int32)), (4, .int z11), (0, .ref r.2.1), (1, .int x1), (2, .int x2), (3, .int x3)]) hx hb dX2_black_64 hl (by decide) rfl (fun ls hl => ?_)
          obtain ⟨n_, hf⟩ := hf
          exact w_X2_black_66 K hr n_ _ _ _ _ _ hf _ _ _ hM (lv_sub hl [3, 4, 2, 1, 0] rfl)
        · replace hf := hf.1 b10
          refine lv_iconst (v := -1) hx hb dX2_black_34 rfl ?_
          exact g_reti K hr hM ⟨Nat.le_refl _, Nat.le_refl _⟩ hf dX2_black_35
theorem w_X2_besideOf_117 {p : Program} {l : Launch} {e : Env} {s : State} {m : MethodId} {args : Array Value} {below : List Frame} {meth : Method} {c : Code} {r : GR} {A : Nat → Prop} {P : GS → Int32 → Prop} {k75 : GS → Int32 → Int32 → Int32 → Prop} (K : gC p s m args meth c cX2_besideOf 7 RX2 r A) (hr : meth.sig.returnType = (some .int)) (H75 : ∀ (σ : GS) (x3 : Int32) (x4 : Int32) (x5 : Int32), k75 σ x3 x4 x5 → gW dM p l e (gRm 68 2642 0 0) s m args below meth c r A (zI P) 0 0 7 75 [(0, .ref r.2.1), (3, .int x3), (4, .int x4), (5, .int x5)] [] 0 0 σ) : ∀ (σ : GS) (x3 : Int32) (x5 : Int32) (t3 : Int32) (t2 : Int32) (t0 : Int32), f_X2_besideOf_117 k75 P σ x3 x5 t3 t2 t0 → gW dM p l e (gRm 68 2642 0 0) s m args below meth c r A (zI P) 0 0 7 117 [(0, .ref r.2.1), (3, .int x3), (5, .int x5)] [.int t3, .int t2, .ref (r.2.2.1 24), .int t0] 0 0 σ := by
  obtain ⟨hx, hb, hml, hown, hts, hlk, hKK, hA⟩ := id K
  intro σ x3 x5 t3 t2 t0 hf H locs ls hM hl
  unfold f_X2_besideOf_117 at hf
  refine lv_iadd hx hb dX2_besideOf_117 ?_
  obtain ⟨g1, hf⟩ := hf
  refine g_iald K hM 24 rfl rfl rfl g1 dX2_besideOf_118 ?_
  refine lv_iadd hx hb dX2_besideOf_119 ?_
  refine lv_topi (fun z2 hz2 => ?_)
  have hf := hf z2 hz2
  refine lv_istore (lv' := [(4, .int z2), (0, .ref r.2.1), (3, .int x3), (5, .int x5)]) hx hb dX2_besideOf_120 hl (by decide) rfl (fun ls hl => ?_)
  refine lv_iinc (v := x5 + 1) (lv' := [(5, .int (x5 + 1)), (4, .int z2), (0, .ref r.2.1), (3, .int x3)]) hx hb dX2_besideOf_122 hl (k := 3) rfl rfl (by decide) rfl (fun ls hl => ?_)
  refine lv_goto (tgt := 75) hx hb dX2_besideOf_125 (by decide) ?_
  exact H75 _ _ _ _ hf _ _ _ hM (lv_sub hl [2, 3, 1, 0] rfl)
theorem w_X2_besideOf_75 {p : Program} {l : Launch} {e : Env} {s : State} {m : MethodId} {args : Array Value} {below : List Frame} {meth : Method} {c : Code} {r : GR} {A : Nat → Prop} {P : GS → Int32 → Prop} (K : gC p s m args meth c cX2_besideOf 7 RX2 r A) (hr : meth.sig.returnType = (some .int)) : ∀ (n : Nat) (σ : GS) (x3 : Int32) (x4 : Int32) (x5 : Int32), f_X2_besideOf_75 P n σ x3 x4 x5 → gW dM p l e (gRm 68 2642 0 0) s m args below meth c r A (zI P) 0 0 7 75 [(0, .ref r.2.1), (3, .int x3), (4, .int x4), (5, .int x5)] [] 0 0 σ := by
  obtain ⟨hx, hb, hml, hown, hts, hlk, hKK, hA⟩ := id K
  intro n
  induction n with
  | zero =>
    intro σ x3 x4 x5 hf
    exact absurd hf (fun h => h)
  | succ n ih =>
    intro σ x3 x4 x5 hf H locs ls hM hl
    rw [f_X2_besideOf_75] at hf
    refine lv_iload hx hb dX2_besideOf_75 (lv_at hl 3 rfl) ?_
    refine lv_aload_n hx hb dX2_besideOf_77 rfl (lv_at hl 0 rfl) ?_
    refine g_geti K kM hM 6 rfl q1459 rfl dX2_besideOf_78 rfl ?_
    refine lv_icmp_ge (tgt := 128) hx hb dX2_besideOf_81 (by decide) (fun b1 => ?_) (fun b1 => ?_)
    · replace hf := hf.1 b1
      refine lv_iload hx hb dX2_besideOf_128 (lv_at hl 2 rfl) ?_
      exact g_reti K hr hM ⟨Nat.le_refl _, Nat.le_refl _⟩ hf dX2_besideOf_130
    · replace hf := hf.2 b1
      refine lv_aload_n hx hb dX2_besideOf_84 rfl (lv_at hl 0 rfl) ?_
      refine g_geta K kM hM 0 rfl q1453 rfl dX2_besideOf_85 rfl ?_
      refine lv_iload hx hb dX2_besideOf_88 (lv_at hl 3 rfl) ?_
      obtain ⟨g2, hf⟩ := hf
      refine g_iald K hM 0 rfl rfl rfl g2 dX2_besideOf_90 ?_
      refine lv_iload_n hx hb dX2_besideOf_91 rfl (lv_at hl 1 rfl) ?_
      obtain ⟨g3, hf⟩ := hf
      refine lv_idiv hx hb dX2_besideOf_92 g3 ?_
      refine lv_istore (lv' := [(6, .int ((gA σ 0 x5.toNatClampNeg) / x3)), (0, .ref r.2.1), (3, .int x3), (4, .int x4), (5, .int x5)]) hx hb dX2_besideOf_93 hl (by decide) rfl (fun ls hl => ?_)
      refine lv_iload hx hb dX2_besideOf_95 (lv_at hl 3 rfl) ?_
      refine lv_aload_n hx hb dX2_besideOf_97 rfl (lv_at hl 1 rfl) ?_
      refine g_geta K kM hM 24 rfl q1477 rfl dX2_besideOf_98 rfl ?_
      refine lv_iconst (v := 4) hx hb dX2_besideOf_101 rfl ?_
      refine lv_iload hx hb dX2_besideOf_102 (lv_at hl 4 rfl) ?_
      refine lv_imul hx hb dX2_besideOf_104 ?_
      refine lv_iload hx hb dX2_besideOf_105 (lv_at hl 0 rfl) ?_
      refine lv_iconst (v := 3) hx hb dX2_besideOf_107 rfl ?_
      refine lv_icmp_le (tgt := 115) hx hb dX2_besideOf_108 (by decide) (fun b4 => ?_) (fun b4 => ?_)
      · replace hf := hf.1 b4
        refine lv_iload hx hb dX2_besideOf_115 (lv_at hl 0 rfl) ?_
        exact w_X2_besideOf_117 K hr ih _ _ _ _ _ _ hf _ _ _ hM (lv_sub hl [1, 2, 4] rfl)
      · replace hf := hf.2 b4
        refine lv_iconst (v := 3) hx hb dX2_besideOf_111 rfl ?_
        refine lv_goto (tgt := 117) hx hb dX2_besideOf_112 (by decide) ?_
        exact w_X2_besideOf_117 K hr ih _ _ _ _ _ _ hf _ _ _ hM (lv_sub hl [1, 2, 4] rfl)
theorem w_X2_besideOf_39 {p : Program} {l : Launch} {e : Env} {s : State} {m : MethodId} {args : Array Value} {below : List Frame} {meth : Method} {c : Code} {r : GR} {A : Nat → Prop} {P : GS → Int32 → Prop} (K : gC p s m args meth c cX2_besideOf 7 RX2 r A) (hr : meth.sig.returnType = (some .int)) : ∀ (n : Nat) (σ : GS) (x1 : Int32) (x3 : Int32) (x4 : Int32), f_X2_besideOf_39 P n σ x1 x3 x4 → gW dM p l e (gRm 68 2642 0 0) s m args below meth c r A (zI P) 0 0 7 39 [(0, .ref r.2.1), (1, .int x1), (3, .int x3), (4, .int x4)] [] 0 0 σ := by
  obtain ⟨hx, hb, hml, hown, hts, hlk, hKK, hA⟩ := id K
  intro n
  induction n with
  | zero =>
    intro σ x1 x3 x4 hf
    exact absurd hf (fun h => h)
  | succ n ih =>
    intro σ x1 x3 x4 hf H locs ls hM hl
    rw [f_X2_besideOf_39] at hf
    refine lv_iload hx hb dX2_besideOf_39 (lv_at hl 3 rfl) ?_
    refine lv_aload_n hx hb dX2_besideOf_41 rfl (lv_at hl 0 rfl) ?_
    refine g_geti K kM hM 8 rfl q1461 rfl dX2_besideOf_42 rfl ?_
    refine lv_icmp_ge (tgt := 64) hx hb dX2_besideOf_45 (by decide) (fun b1 => ?_) (fun b1 => ?_)
    · replace hf := hf.1 b1
      refine lv_aload_n hx hb dX2_besideOf_64 rfl (lv_at hl 0 rfl) ?_
      refine lv_iload_n hx hb dX2_besideOf_65 rfl (lv_at hl 1 rfl) ?_
      refine g_cVv [.int x1] [] K kM hM hl (c_X2_layWorths l r A _ _ _ hf) q1763 q1765 qs59 q84 q1766 hdX2_layWorths ⟨Nat.le_of_ble_eq_true rfl, Nat.le_of_ble_eq_true rfl⟩ ⟨Nat.le_refl _, Nat.le_refl _⟩ rfl (Nat.le_of_ble_eq_true rfl) dX2_besideOf_66 (fun σ2 H locs hf hM => ?_)
      refine lv_iconst (v := 0) hx hb dX2_besideOf_69 rfl ?_
      refine lv_istore (lv' := [(4, .int (0 : Int32)), (0, .ref r.2.1), (1, .int x1), (3, .int x3)]) hx hb dX2_besideOf_70 hl (by decide) rfl (fun ls hl => ?_)
      refine lv_iconst (v := 0) hx hb dX2_besideOf_72 rfl ?_
      refine lv_istore (lv' := [(5, .int (0 : Int32)), (4, .int (0 : Int32)), (0, .ref r.2.1), (1, .int x1), (3, .int x3)]) hx hb dX2_besideOf_73 hl (by decide) rfl (fun ls hl => ?_)
      obtain ⟨n_, hf⟩ := hf
      exact w_X2_besideOf_75 K hr n_ _ _ _ _ hf _ _ _ hM (lv_sub hl [2, 4, 1, 0] rfl)
    · replace hf := hf.2 b1
      refine lv_iload_n hx hb dX2_besideOf_48 rfl (lv_at hl 2 rfl) ?_
      refine lv_aload_n hx hb dX2_besideOf_49 rfl (lv_at hl 0 rfl) ?_
      refine g_geta K kM hM 9 rfl q1462 rfl dX2_besideOf_50 rfl ?_
      refine lv_iload hx hb dX2_besideOf_53 (lv_at hl 3 rfl) ?_
      obtain ⟨g4, hf⟩ := hf
      refine g_iald K hM 9 rfl rfl rfl g4 dX2_besideOf_55 ?_
      refine lv_iadd hx hb dX2_besideOf_56 ?_
      refine lv_istore_n (lv' := [(3, .int (x3 + (gA σ 9 x4.toNatClampNeg))), (0, .ref r.2.1), (1, .int x1), (4, .int x4)]) hx hb dX2_besideOf_57 rfl hl (by decide) rfl (fun ls hl => ?_)
      refine lv_iinc (v := x4 + 1) (lv' := [(4, .int (x4 + 1)), (3, .int (x3 + (gA σ 9 x4.toNatClampNeg))), (0, .ref r.2.1), (1, .int x1)]) hx hb dX2_besideOf_58 hl (k := 3) rfl rfl (by decide) rfl (fun ls hl => ?_)
      refine lv_goto (tgt := 39) hx hb dX2_besideOf_61 (by decide) ?_
      exact ih _ _ _ _ hf _ _ _ hM (lv_sub hl [2, 3, 1, 0] rfl)
theorem c_X2_besideOf (l : Launch) (r : GR) (A : Nat → Prop) (σ : GS) (x1 : Int32) (x2 : Int32) (P : GS → Int32 → Prop) (hf : f_X2_besideOf σ x1 x2 P) : gMet dM l yX2_besideOf cX2_besideOf 7 (some .int) 68 2642 0 0 r A σ [.ref r.2.1, .int x1, .int x2] (zI P) := by
  refine g_enter (lv := [(0, .ref r.2.1), (1, .int x1), (2, .int x2)]) (by decide) (Nat.le_of_ble_eq_true rfl) rfl ?_
  intro p e s m below meth c ls K hr hM hl _
  obtain ⟨hx, hb, hml, hown, hts, hlk, hKK, hA⟩ := id K
  unfold f_X2_besideOf at hf
  refine lv_iload_n hx hb dX2_besideOf_0 rfl (lv_at hl 2 rfl) ?_
  refine lv_if_le (tgt := 34) hx hb dX2_besideOf_1 (by decide) (fun b1 => ?_) (fun b1 => ?_)
  · replace hf := hf.1 b1
    refine lv_iconst (v := 0) hx hb dX2_besideOf_34 rfl ?_
    refine lv_istore_n (lv' := [(3, .int (0 : Int32)), (0, .ref r.2.1), (1, .int x1), (2, .int x2)]) hx hb dX2_besideOf_35 rfl hl (by decide) rfl (fun ls hl => ?_)
    refine lv_iconst (v := 0) hx hb dX2_besideOf_36 rfl ?_
    refine lv_istore (lv' := [(4, .int (0 : Int32)), (3, .int (0 : Int32)), (0, .ref r.2.1), (1, .int x1), (2, .int x2)]) hx hb dX2_besideOf_37 hl (by decide) rfl (fun ls hl => ?_)
    obtain ⟨n_, hf⟩ := hf
    exact w_X2_besideOf_39 K hr n_ _ _ _ _ hf _ _ _ hM (lv_sub hl [2, 3, 1, 0] rfl)
  · replace hf := hf.2 b1
    refine lv_aload_n hx hb dX2_besideOf_4 rfl (lv_at hl 0 rfl) ?_
    refine lv_iload_n hx hb dX2_besideOf_5 rfl (lv_at hl 2 rfl) ?_
    refine g_putiN K kM hM 29 rfl q1482 rfl dX2_besideOf_6 rfl rfl rfl (fun H locs σ2 hσ2 hM => ?_)
    have hf := hf σ2 hσ2
    refine lv_aload_n hx hb dX2_besideOf_9 rfl (lv_at hl 0 rfl) ?_
    refine lv_iload_n hx hb dX2_besideOf_10 rfl (lv_at hl 1 rfl) ?_
    refine lv_aload_n hx hb dX2_besideOf_11 rfl (lv_at hl 0 rfl) ?_
    refine lv_iload_n hx hb dX2_besideOf_12 rfl (lv_at hl 1 rfl) ?_
    refine g_cVi [.int x1] [.int x1, .ref r.2.1] K kM hM hl (c_X2_purseOf l r A _ _ _ hf) q1683 q1685 qs44 q84 q1686 hdX2_purseOf ⟨Nat.le_of_ble_eq_true rfl, Nat.le_of_ble_eq_true rfl⟩ ⟨Nat.le_refl _, Nat.le_refl _⟩ rfl (Nat.le_of_ble_eq_true rfl) dX2_besideOf_13 (fun σ3 v4 H locs hf hM => ?_)
    refine lv_ldcw hx hb hown (hts _ q1872) dX2_besideOf_16 ?_
    refine g_cVi [.int x1, .int v4, .int (1000000000 : Int32)] [] K kM hM hl (c_X2_findBest l r A _ _ _ _ _ hf) q1759 q1761 qs58 q84 q1762 hdX2_findBest ⟨Nat.le_of_ble_eq_true rfl, Nat.le_of_ble_eq_true rfl⟩ ⟨Nat.le_refl _, Nat.le_refl _⟩ rfl (Nat.le_of_ble_eq_true rfl) dX2_besideOf_19 (fun σ5 v6 H locs hf hM => ?_)
    refine lv_istore_n (lv' := [(3, .int v6), (0, .ref r.2.1), (1, .int x1), (2, .int x2)]) hx hb dX2_besideOf_22 rfl hl (by decide) rfl (fun ls hl => ?_)
    refine lv_aload_n hx hb dX2_besideOf_23 rfl (lv_at hl 1 rfl) ?_
    refine lv_bipush (v := 100) hx hb dX2_besideOf_24 rfl ?_
    refine g_putiN K kM hM 29 rfl q1482 rfl dX2_besideOf_26 rfl rfl rfl (fun H locs σ7 hσ7 hM => ?_)
    have hf := hf σ7 hσ7
    refine lv_aload_n hx hb dX2_besideOf_29 rfl (lv_at hl 1 rfl) ?_
    refine g_geti K kM hM 30 rfl q1483 rfl dX2_besideOf_30 rfl ?_
    exact g_reti K hr hM ⟨Nat.le_refl _, Nat.le_refl _⟩ hf dX2_besideOf_33
theorem w_X2_isHow_18 {p : Program} {l : Launch} {e : Env} {s : State} {m : MethodId} {args : Array Value} {below : List Frame} {meth : Method} {c : Code} {r : GR} {A : Nat → Prop} {P : GS → Int32 → Prop} (K : gC p s m args meth c cX2_isHow 1 RX2 r A) (hr : meth.sig.returnType = (some .boolean)) : ∀ (σ : GS), f_X2_isHow_18 P σ → gW dM p l e (gRm 1 25 0 0) s m args below meth c r A (zI P) 0 0 1 18 [] [] 0 0 σ := by
  obtain ⟨hx, hb, hml, hown, hts, hlk, hKK, hA⟩ := id K
  intro σ hf H locs ls hM hl
  unfold f_X2_isHow_18 at hf
  refine lv_iconst (v := 1) hx hb dX2_isHow_18 rfl ?_
  refine lv_goto (tgt := 23) hx hb dX2_isHow_19 (by decide) ?_
  exact g_retz K hr hM ⟨Nat.le_refl _, Nat.le_refl _⟩ gZ_1 hf dX2_isHow_23
theorem c_X2_isHow (l : Launch) (r : GR) (A : Nat → Prop) (σ : GS) (x0 : Int32) (P : GS → Int32 → Prop) (hf : f_X2_isHow σ x0 P) : gMet dM l yX2_isHow cX2_isHow 1 (some .boolean) 1 25 0 0 r A σ [.int x0] (zI P) := by
  refine g_enter (lv := [(0, .int x0)]) (by decide) (Nat.le_of_ble_eq_true rfl) rfl ?_
  intro p e s m below meth c ls K hr hM hl _
  obtain ⟨hx, hb, hml, hown, hts, hlk, hKK, hA⟩ := id K
  unfold f_X2_isHow at hf
  refine lv_iload_n hx hb dX2_isHow_0 rfl (lv_at hl 0 rfl) ?_
  refine lv_if_eq (tgt := 18) hx hb dX2_isHow_1 (by decide) (fun b1 => ?_) (fun b1 => ?_)
  · replace hf := hf.1 b1
    exact w_X2_isHow_18 K hr _ hf _ _ _ hM (lv_sub hl [] rfl)
  · replace hf := hf.2 b1
    refine lv_iload_n hx hb dX2_isHow_4 rfl (lv_at hl 0 rfl) ?_
    refine lv_i2l hx hb dX2_isHow_5 rfl ?_
    refine lv_ldc2 hx hb hown (hts _ q1859) dX2_isHow_6 ?_
    refine lv_ldc2 hx hb hown (hts _ q1867) dX2_isHow_9 ?_
    refine g_cSi [.long x0.toInt64, .long (100 : Int64), .long (900 : Int64)] [] K hM hl (c_X2_within l r A _ _ _ _ _ hf) q1632 q1633 q84 q1634 hdX2_within ⟨Nat.le_of_ble_eq_true rfl, Nat.le_of_ble_eq_true rfl⟩ ⟨Nat.le_refl _, Nat.le_refl _⟩ rfl (Nat.le_of_ble_eq_true rfl) dX2_isHow_12 (fun σ2 v3 H locs hf hM => ?_)
    refine lv_if_eq (tgt := 22) hx hb dX2_isHow_15 (by decide) (fun b4 => ?_) (fun b4 => ?_)
    · replace hf := hf.1 b4
      refine lv_iconst (v := 0) hx hb dX2_isHow_22 rfl ?_
      exact g_retz K hr hM ⟨Nat.le_refl _, Nat.le_refl _⟩ gZ_0 hf dX2_isHow_23
    · replace hf := hf.2 b4
      exact w_X2_isHow_18 K hr _ hf _ _ _ hM (lv_sub hl [] rfl)
theorem c_X2_beside (l : Launch) (r : GR) (A : Nat → Prop) (σ : GS) (x1 : Int32) (x2 : Int32) (P : GS → Int32 → Prop) (hf : f_X2_beside σ x1 x2 P) : gMet dM l yX2_beside cX2_beside 3 (some .int) 69 2668 0 0 r A σ [.ref r.2.1, .int x1, .int x2] (zI P) := by
  refine g_enter (lv := [(0, .ref r.2.1), (1, .int x1), (2, .int x2)]) (by decide) (Nat.le_of_ble_eq_true rfl) rfl ?_
  intro p e s m below meth c ls K hr hM hl _
  obtain ⟨hx, hb, hml, hown, hts, hlk, hKK, hA⟩ := id K
  unfold f_X2_beside at hf
  refine lv_aload_n hx hb dX2_beside_0 rfl (lv_at hl 0 rfl) ?_
  refine lv_iload_n hx hb dX2_beside_1 rfl (lv_at hl 1 rfl) ?_
  refine g_cVi [.int x1] [] K kM hM hl (c_X2_isSort l r A _ _ _ hf) q1674 q1676 qs43 q84 q1677 hdX2_isSort ⟨Nat.le_of_ble_eq_true rfl, Nat.le_of_ble_eq_true rfl⟩ ⟨Nat.le_refl _, Nat.le_refl _⟩ rfl (Nat.le_of_ble_eq_true rfl) dX2_beside_2 (fun σ1 v2 H locs hf hM => ?_)
  refine lv_if_eq (tgt := 24) hx hb dX2_beside_5 (by decide) (fun b3 => ?_) (fun b3 => ?_)
  · replace hf := hf.1 b3
    refine lv_iconst (v := -1) hx hb dX2_beside_24 rfl ?_
    exact g_reti K hr hM ⟨Nat.le_refl _, Nat.le_refl _⟩ hf dX2_beside_25
  · replace hf := hf.2 b3
    refine lv_iload_n hx hb dX2_beside_8 rfl (lv_at hl 2 rfl) ?_
    refine g_cSi [.int x2] [] K hM hl (c_X2_isHow l r A _ _ _ hf) q1864 q1865 q84 q1866 hdX2_isHow ⟨Nat.le_of_ble_eq_true rfl, Nat.le_of_ble_eq_true rfl⟩ ⟨Nat.le_refl _, Nat.le_refl _⟩ rfl (Nat.le_of_ble_eq_true rfl) dX2_beside_9 (fun σ4 v5 H locs hf hM => ?_)
    refine lv_if_eq (tgt := 24) hx hb dX2_beside_12 (by decide) (fun b6 => ?_) (fun b6 => ?_)
    · replace hf := hf.1 b6
      refine lv_iconst (v := -1) hx hb dX2_beside_24 rfl ?_
      exact g_reti K hr hM ⟨Nat.le_refl _, Nat.le_refl _⟩ hf dX2_beside_25
    · replace hf := hf.2 b6
      refine lv_aload_n hx hb dX2_beside_15 rfl (lv_at hl 0 rfl) ?_
      refine lv_iload_n hx hb dX2_beside_16 rfl (lv_at hl 1 rfl) ?_
      refine lv_iload_n hx hb dX2_beside_17 rfl (lv_at hl 2 rfl) ?_
      refine g_cVi [.int x1, .int x2] [] K kM hM hl (c_X2_besideOf l r A _ _ _ _ hf) q1868 q1870 qs71 q84 q1871 hdX2_besideOf ⟨Nat.le_of_ble_eq_true rfl, Nat.le_of_ble_eq_true rfl⟩ ⟨Nat.le_refl _, Nat.le_refl _⟩ rfl (Nat.le_of_ble_eq_true rfl) dX2_beside_18 (fun σ7 v8 H locs hf hM => ?_)
      refine lv_goto (tgt := 25) hx hb dX2_beside_21 (by decide) ?_
      exact g_reti K hr hM ⟨Nat.le_refl _, Nat.le_refl _⟩ hf dX2_beside_25
theorem w_X2_loses_53 {p : Program} {l : Launch} {e : Env} {s : State} {m : MethodId} {args : Array Value} {below : List Frame} {meth : Method} {c : Code} {r : GR} {A : Nat → Prop} {P : GS → Int32 → Prop} {k13 : GS → Int32 → Int32 → Int32 → Prop} (K : gC p s m args meth c cX2_loses 6 RX2 r A) (hr : meth.sig.returnType = (some .int)) (H13 : ∀ (σ : GS) (x1 : Int32) (x2 : Int32) (x3 : Int32), k13 σ x1 x2 x3 → gW dM p l e (gRm 69 2668 0 0) s m args below meth c r A (zI P) 0 0 6 13 [(0, .ref r.2.1), (1, .int x1), (2, .int x2), (3, .int x3)] [] 0 0 σ) : ∀ (σ : GS) (x1 : Int32) (x3 : Int32) (t1 : Int32) (t0 : Int32), f_X2_loses_53 k13 P σ x1 x3 t1 t0 → gW dM p l e (gRm 69 2668 0 0) s m args below meth c r A (zI P) 0 0 6 53 [(0, .ref r.2.1), (1, .int x1), (3, .int x3)] [.int t1, .int t0] 0 0 σ := by
  obtain ⟨hx, hb, hml, hown, hts, hlk, hKK, hA⟩ := id K
  intro σ x1 x3 t1 t0 hf H locs ls hM hl
  unfold f_X2_loses_53 at hf
  refine lv_ior hx hb dX2_loses_53 ?_
  refine lv_istore_n (lv' := [(2, .int (t0 ||| t1)), (0, .ref r.2.1), (1, .int x1), (3, .int x3)]) hx hb dX2_loses_54 rfl hl (by decide) rfl (fun ls hl => ?_)
  refine lv_iinc (v := x3 + 1) (lv' := [(3, .int (x3 + 1)), (2, .int (t0 ||| t1)), (0, .ref r.2.1), (1, .int x1)]) hx hb dX2_loses_55 hl (k := 3) rfl rfl (by decide) rfl (fun ls hl => ?_)
  refine lv_goto (tgt := 13) hx hb dX2_loses_58 (by decide) ?_
  exact H13 _ _ _ _ hf _ _ _ hM (lv_sub hl [2, 3, 1, 0] rfl)
theorem w_X2_loses_13 {p : Program} {l : Launch} {e : Env} {s : State} {m : MethodId} {args : Array Value} {below : List Frame} {meth : Method} {c : Code} {r : GR} {A : Nat → Prop} {P : GS → Int32 → Prop} (K : gC p s m args meth c cX2_loses 6 RX2 r A) (hr : meth.sig.returnType = (some .int)) : ∀ (n : Nat) (σ : GS) (x1 : Int32) (x2 : Int32) (x3 : Int32), f_X2_loses_13 P n σ x1 x2 x3 → gW dM p l e (gRm 69 2668 0 0) s m args below meth c r A (zI P) 0 0 6 13 [(0, .ref r.2.1), (1, .int x1), (2, .int x2), (3, .int x3)] [] 0 0 σ := by
  obtain ⟨hx, hb, hml, hown, hts, hlk, hKK, hA⟩ := id K
  intro n
  induction n with
  | zero =>
    intro σ x1 x2 x3 hf
    exact absurd hf (fun h => h)
  | succ n ih =>
    intro σ x1 x2 x3 hf H locs ls hM hl
    rw [f_X2_loses_13] at hf
    refine lv_iload_n hx hb dX2_loses_13 rfl (lv_at hl 3 rfl) ?_
    refine lv_aload_n hx hb dX2_loses_14 rfl (lv_at hl 0 rfl) ?_
    refine g_geti K kM hM 8 rfl q1461 rfl dX2_loses_15 rfl ?_
    refine lv_icmp_ge (tgt := 61) hx hb dX2_loses_18 (by decide) (fun b1 => ?_) (fun b1 => ?_)
    · replace hf := hf.1 b1
      refine lv_iload_n hx hb dX2_loses_61 rfl (lv_at hl 2 rfl) ?_
      exact g_reti K hr hM ⟨Nat.le_refl _, Nat.le_refl _⟩ hf dX2_loses_62
    · replace hf := hf.2 b1
      refine lv_aload_n hx hb dX2_loses_21 rfl (lv_at hl 0 rfl) ?_
      refine lv_iload_n hx hb dX2_loses_22 rfl (lv_at hl 3 rfl) ?_
      refine g_cVi [.int x3] [] K kM hM hl (c_X2_bestOf l r A _ _ _ hf) q1755 q1757 qs57 q84 q1758 hdX2_bestOf ⟨Nat.le_of_ble_eq_true rfl, Nat.le_of_ble_eq_true rfl⟩ ⟨Nat.le_refl _, Nat.le_refl _⟩ rfl (Nat.le_of_ble_eq_true rfl) dX2_loses_23 (fun σ2 v3 H locs hf hM => ?_)
      refine lv_istore (lv' := [(4, .int v3), (0, .ref r.2.1), (1, .int x1), (2, .int x2), (3, .int x3)]) hx hb dX2_loses_26 hl (by decide) rfl (fun ls hl => ?_)
      refine lv_aload_n hx hb dX2_loses_28 rfl (lv_at hl 1 rfl) ?_
      refine g_geti K kM hM 30 rfl q1483 rfl dX2_loses_29 rfl ?_
      refine lv_istore (lv' := [(5, .int (gI σ2 30)), (4, .int v3), (0, .ref r.2.1), (1, .int x1), (2, .int x2), (3, .int x3)]) hx hb dX2_loses_32 hl (by decide) rfl (fun ls hl => ?_)
      refine lv_iload_n hx hb dX2_loses_34 rfl (lv_at hl 4 rfl) ?_
      refine lv_iload hx hb dX2_loses_35 (lv_at hl 0 rfl) ?_
      refine lv_aload_n hx hb dX2_loses_37 rfl (lv_at hl 2 rfl) ?_
      refine lv_iload_n hx hb dX2_loses_38 rfl (lv_at hl 5 rfl) ?_
      refine lv_iload_n hx hb dX2_loses_39 rfl (lv_at hl 3 rfl) ?_
      refine g_cVi [.int x3, .int x1] [.int (gI σ2 30), .int x2] K kM hM hl (c_X2_besideOf l r A _ _ _ _ hf) q1868 q1870 qs71 q84 q1871 hdX2_besideOf ⟨Nat.le_of_ble_eq_true rfl, Nat.le_of_ble_eq_true rfl⟩ ⟨Nat.le_refl _, Nat.le_refl _⟩ rfl (Nat.le_of_ble_eq_true rfl) dX2_loses_40 (fun σ4 v5 H locs hf hM => ?_)
      refine lv_icmp_ge (tgt := 52) hx hb dX2_loses_43 (by decide) (fun b6 => ?_) (fun b6 => ?_)
      · replace hf := hf.1 b6
        refine lv_iconst (v := 0) hx hb dX2_loses_52 rfl ?_
        exact w_X2_loses_53 K hr ih _ _ _ _ _ hf _ _ _ hM (lv_sub hl [2, 3, 5] rfl)
      · replace hf := hf.2 b6
        refine lv_iconst (v := 1) hx hb dX2_loses_46 rfl ?_
        refine lv_iload_n hx hb dX2_loses_47 rfl (lv_at hl 5 rfl) ?_
        refine lv_ishl hx hb dX2_loses_48 ?_
        refine lv_goto (tgt := 53) hx hb dX2_loses_49 (by decide) ?_
        exact w_X2_loses_53 K hr ih _ _ _ _ _ hf _ _ _ hM (lv_sub hl [2, 3, 5] rfl)
theorem c_X2_loses (l : Launch) (r : GR) (A : Nat → Prop) (σ : GS) (x1 : Int32) (P : GS → Int32 → Prop) (hf : f_X2_loses σ x1 P) : gMet dM l yX2_loses cX2_loses 6 (some .int) 69 2668 0 0 r A σ [.ref r.2.1, .int x1] (zI P) := by
  refine g_enter (lv := [(0, .ref r.2.1), (1, .int x1)]) (by decide) (Nat.le_of_ble_eq_true rfl) rfl ?_
  intro p e s m below meth c ls K hr hM hl _
  obtain ⟨hx, hb, hml, hown, hts, hlk, hKK, hA⟩ := id K
  unfold f_X2_loses at hf
  refine lv_iload_n hx hb dX2_loses_0 rfl (lv_at hl 1 rfl) ?_
  refine g_cSi [.int x1] [] K hM hl (c_X2_isHow l r A _ _ _ hf) q1864 q1865 q84 q1866 hdX2_isHow ⟨Nat.le_of_ble_eq_true rfl, Nat.le_of_ble_eq_true rfl⟩ ⟨Nat.le_refl _, Nat.le_refl _⟩ rfl (Nat.le_of_ble_eq_true rfl) dX2_loses_1 (fun σ1 v2 H locs hf hM => ?_)
  refine lv_if_ne (tgt := 9) hx hb dX2_loses_4 (by decide) (fun b3 => ?_) (fun b3 => ?_)
  · replace hf := hf.2 b3
    refine lv_iconst (v := 0) hx hb dX2_loses_9 rfl ?_
    refine lv_istore_n (lv' := [(2, .int (0 : Int32)), (0, .ref r.2.1), (1, .int x1)]) hx hb dX2_loses_10 rfl hl (by decide) rfl (fun ls hl => ?_)
    refine lv_iconst (v := 0) hx hb dX2_loses_11 rfl ?_
    refine lv_istore_n (lv' := [(3, .int (0 : Int32)), (2, .int (0 : Int32)), (0, .ref r.2.1), (1, .int x1)]) hx hb dX2_loses_12 rfl hl (by decide) rfl (fun ls hl => ?_)
    obtain ⟨n_, hf⟩ := hf
    exact w_X2_loses_13 K hr n_ _ _ _ _ hf _ _ _ hM (lv_sub hl [2, 3, 1, 0] rfl)
  · replace hf := hf.1 b3
    refine lv_iconst (v := -1) hx hb dX2_loses_7 rfl ?_
    exact g_reti K hr hM ⟨Nat.le_refl _, Nat.le_refl _⟩ hf dX2_loses_8
theorem w_X2_bitsOf_4 {p : Program} {l : Launch} {e : Env} {s : State} {m : MethodId} {args : Array Value} {below : List Frame} {meth : Method} {c : Code} {r : GR} {A : Nat → Prop} {P : GS → Int32 → Prop} (K : gC p s m args meth c cX2_bitsOf 3 RX2 r A) (hr : meth.sig.returnType = (some .int)) : ∀ (n : Nat) (σ : GS) (x1 : Int32) (x2 : Int32), f_X2_bitsOf_4 P n σ x1 x2 → gW dM p l e (gRm 0 0 0 0) s m args below meth c r A (zI P) 0 0 3 4 [(1, .int x1), (2, .int x2)] [] 0 0 σ := by
  obtain ⟨hx, hb, hml, hown, hts, hlk, hKK, hA⟩ := id K
  intro n
  induction n with
  | zero =>
    intro σ x1 x2 hf
    exact absurd hf (fun h => h)
  | succ n ih =>
    intro σ x1 x2 hf H locs ls hM hl
    rw [f_X2_bitsOf_4] at hf
    refine lv_iload_n hx hb dX2_bitsOf_4 rfl (lv_at hl 1 rfl) ?_
    refine lv_if_eq (tgt := 20) hx hb dX2_bitsOf_5 (by decide) (fun b1 => ?_) (fun b1 => ?_)
    · replace hf := hf.1 b1
      refine lv_iload_n hx hb dX2_bitsOf_20 rfl (lv_at hl 0 rfl) ?_
      exact g_reti K hr hM ⟨Nat.le_refl _, Nat.le_refl _⟩ hf dX2_bitsOf_21
    · replace hf := hf.2 b1
      refine lv_iinc (v := x1 + 1) (lv' := [(1, .int (x1 + 1)), (2, .int x2)]) hx hb dX2_bitsOf_8 hl (k := 0) rfl rfl (by decide) rfl (fun ls hl => ?_)
      refine lv_iload_n hx hb dX2_bitsOf_11 rfl (lv_at hl 1 rfl) ?_
      refine lv_iload_n hx hb dX2_bitsOf_12 rfl (lv_at hl 1 rfl) ?_
      refine lv_iconst (v := 1) hx hb dX2_bitsOf_13 rfl ?_
      refine lv_isub hx hb dX2_bitsOf_14 ?_
      refine lv_iand hx hb dX2_bitsOf_15 ?_
      refine lv_istore_n (lv' := [(2, .int (x2 &&& (x2 - (1 : Int32)))), (1, .int (x1 + 1))]) hx hb dX2_bitsOf_16 rfl hl (by decide) rfl (fun ls hl => ?_)
      refine lv_goto (tgt := 4) hx hb dX2_bitsOf_17 (by decide) ?_
      exact ih _ _ _ hf _ _ _ hM (lv_sub hl [1, 0] rfl)
theorem c_X2_bitsOf (l : Launch) (r : GR) (A : Nat → Prop) (σ : GS) (x0 : Int32) (P : GS → Int32 → Prop) (hf : f_X2_bitsOf σ x0 P) : gMet dM l yX2_bitsOf cX2_bitsOf 3 (some .int) 0 0 0 0 r A σ [.int x0] (zI P) := by
  refine g_enter (lv := [(0, .int x0)]) (by decide) (Nat.le_of_ble_eq_true rfl) rfl ?_
  intro p e s m below meth c ls K hr hM hl _
  obtain ⟨hx, hb, hml, hown, hts, hlk, hKK, hA⟩ := id K
  unfold f_X2_bitsOf at hf
  refine lv_iconst (v := 0) hx hb dX2_bitsOf_0 rfl ?_
  refine lv_istore_n (lv' := [(1, .int (0 : Int32)), (0, .int x0)]) hx hb dX2_bitsOf_1 rfl hl (by decide) rfl (fun ls hl => ?_)
  refine lv_iload_n hx hb dX2_bitsOf_2 rfl (lv_at hl 1 rfl) ?_
  refine lv_istore_n (lv' := [(2, .int x0), (1, .int (0 : Int32)), (0, .int x0)]) hx hb dX2_bitsOf_3 rfl hl (by decide) rfl (fun ls hl => ?_)
  obtain ⟨n_, hf⟩ := hf
  exact w_X2_bitsOf_4 K hr n_ _ _ _ hf _ _ _ hM (lv_sub hl [1, 0] rfl)

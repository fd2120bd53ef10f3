/-! CALLS: the run of a call by its kind (r..), and how it goes on by the answer's kind (g_run..) -/
section CALLS2
variable {p : Program} {l : Launch} {e : Env} {R : Room} {s : State} {m : MethodId} {args : Array Value} {below : List Frame} {meth : Method} {c : Code} {H : Heap} {locs : List Loc} {cells slots : Nat} {Q : State → Prop}
variable {cc : ByteArray} {nL pc index : Nat} {ls : Array Slot} {own : String} {r : GR} {g : GD} {A : Nat → Prop} {σ : GS} {C : String} {T : u_T} {N : Nat} {ty : Nat → FieldType} {ci b : Nat}
variable {y : MethodName} {code : ByteArray} {nY fr lo mc ms : Nat} {ret : Option FieldType} {st0 : List Value} {lv : List (Nat × Value)} {Z : GS → Option Value → Prop} {rest0 : List Value} {a : Array Value}
theorem g_runi {P : GS → Int32 → Prop} (hr : va_Run p l e R s m args below meth c H locs cells slots mc ms (F0 m pc ls st0) rest0 (gEnd g r A (zI P) a) A) (hM : gM g r A σ s.heap H locs)
    (kk : ∀ (σ1 : GS) (x : Int32) (H1 : Heap) (locs1 : List Loc), P σ1 x → gM g r A σ1 s.heap H1 locs1 → W p l e R s m args below meth c H1 locs1 (cells + mc) (slots + ms) Q (F0 m (pc + 3) ls (.int x :: rest0))) : W p l e R s m args below meth c H locs cells slots Q (F0 m pc ls st0) := by
  refine g_run hr hM fun σ1 v H1 locs1 hz hM1 => ?_
  obtain ⟨x, rfl, hz⟩ := hz
  exact kk σ1 x H1 locs1 hz hM1
theorem g_runl {P : GS → Int64 → Prop} (hr : va_Run p l e R s m args below meth c H locs cells slots mc ms (F0 m pc ls st0) rest0 (gEnd g r A (zL P) a) A) (hM : gM g r A σ s.heap H locs)
    (kk : ∀ (σ1 : GS) (x : Int64) (H1 : Heap) (locs1 : List Loc), P σ1 x → gM g r A σ1 s.heap H1 locs1 → W p l e R s m args below meth c H1 locs1 (cells + mc) (slots + ms) Q (F0 m (pc + 3) ls (.long x :: rest0))) : W p l e R s m args below meth c H locs cells slots Q (F0 m pc ls st0) := by
  refine g_run hr hM fun σ1 v H1 locs1 hz hM1 => ?_
  obtain ⟨x, rfl, hz⟩ := hz
  exact kk σ1 x H1 locs1 hz hM1
theorem g_runq {P : GS → Option Nat → Prop} (hr : va_Run p l e R s m args below meth c H locs cells slots mc ms (F0 m pc ls st0) rest0 (gEnd g r A (zQ P) a) A) (hM : gM g r A σ s.heap H locs)
    (kk : ∀ (σ1 : GS) (x : Option Nat) (H1 : Heap) (locs1 : List Loc), P σ1 x → gM g r A σ1 s.heap H1 locs1 → W p l e R s m args below meth c H1 locs1 (cells + mc) (slots + ms) Q (F0 m (pc + 3) ls (va_rf x :: rest0))) : W p l e R s m args below meth c H locs cells slots Q (F0 m pc ls st0) := by
  refine g_run hr hM fun σ1 v H1 locs1 hz hM1 => ?_
  obtain ⟨x, rfl, hz⟩ := hz
  exact kk σ1 x H1 locs1 hz hM1
theorem g_runv {P : GS → Prop} (hr : va_Run p l e R s m args below meth c H locs cells slots mc ms (F0 m pc ls st0) rest0 (gEnd g r A (zV P) a) A) (hM : gM g r A σ s.heap H locs)
    (kk : ∀ (σ1 : GS) (H1 : Heap) (locs1 : List Loc), P σ1 → gM g r A σ1 s.heap H1 locs1 → W p l e R s m args below meth c H1 locs1 (cells + mc) (slots + ms) Q (F0 m (pc + 3) ls rest0)) : W p l e R s m args below meth c H locs cells slots Q (F0 m pc ls st0) := by
  refine g_run hr hM fun σ1 v H1 locs1 hz hM1 => ?_
  obtain ⟨rfl, hz⟩ := hz
  exact kk σ1 H1 locs1 hz hM1
/-- virtual, on the world's own object -/
theorem rV (As rest : List Value) (K : gC p s m args meth c cc nL own r A) (X : gX g C T (N + 1) ty) (hM : gM g r A σ s.heap H locs) (hl : lv_has ls nL lv) (Y : gMet g l y code nY ret fr lo mc ms r A σ (.ref r.2.1 :: As) Z)
    (q1 : Cond.methodLink own index y ∈ lw_all) (q2 : Cond.instanceMethod y ∈ lw_all) (q3 : Cond.selects C y y ∈ lw_all) (q4 : Cond.initialized C ∈ lw_all) (q5 : Cond.code y code nY ret ∈ lw_all)
    (hd : y.cls = C ∧ y.cls ≠ "java/lang/invoke/MethodHandle" ∧ y.cls ≠ "java/lang/invoke/VarHandle" ∧ (parseMethodDescriptor y.desc).map (fun d => d.parameters.length) = some As.length)
    (hR : fr + 1 ≤ R.frames ∧ 8 + (nY + 11) + lo ≤ R.locals) (hf : cells + mc ≤ R.cells ∧ slots + ms ≤ R.slots) (hst : st0 = As.reverse ++ .ref r.2.1 :: rest) (hw : (rest.map fun v => v.category).sum ≤ 8) (hdg : decode cc pc = .ok (.invokevirtual index, 3)) :
    va_Run p l e R s m args below meth c H locs cells slots mc ms (F0 m pc ls st0) rest (gEnd g r A Z (Value.ref r.2.1 :: As).toArray) A := by
  subst hst
  exact va_runV (As := As) (rest := rest) ⟨K.1, K.2.1, K.2.2.1, K.2.2.2.1, K.2.2.2.2.1⟩ Y (cwV As.length K.2.2.2.2.1 (lw_V q1 q2 q3 q4 q5) rfl rfl rfl hd hR) ⟨g_blind, va_recv (q0 := 0) K.2.2.2.2.2.2.1 (g_one (hM.1.1 (by rw [X.2.1]; exact Nat.succ_pos N))) X.1 rfl, g_pre K hM⟩ rfl rfl hl.1 rfl (lv_room hw) hdg hf
/-- virtual, on a pooled object whose class has the method -/
theorem rP (As rest : List Value) (K : gC p s m args meth c cc nL own r A) (X : gY ci C T N ty) (hM : gM g r A σ s.heap H locs) (hl : lv_has ls nL lv) {fs : List Value} (hb : gO σ b = some (.inr (ci, fs))) (Y : gMet g l y code nY ret fr lo mc ms r A σ (.ref b :: As) Z)
    (q1 : Cond.methodLink own index y ∈ lw_all) (q2 : Cond.instanceMethod y ∈ lw_all) (q3 : Cond.selects C y y ∈ lw_all) (q4 : Cond.initialized C ∈ lw_all) (q5 : Cond.code y code nY ret ∈ lw_all)
    (hd : y.cls = C ∧ y.cls ≠ "java/lang/invoke/MethodHandle" ∧ y.cls ≠ "java/lang/invoke/VarHandle" ∧ (parseMethodDescriptor y.desc).map (fun d => d.parameters.length) = some As.length)
    (hR : fr + 1 ≤ R.frames ∧ 8 + (nY + 11) + lo ≤ R.locals) (hf : cells + mc ≤ R.cells ∧ slots + ms ≤ R.slots) (hst : st0 = As.reverse ++ .ref b :: rest) (hw : (rest.map fun v => v.category).sum ≤ 8) (hdg : decode cc pc = .ok (.invokevirtual index, 3)) :
    va_Run p l e R s m args below meth c H locs cells slots mc ms (F0 m pc ls st0) rest (gEnd g r A Z (Value.ref b :: As).toArray) A := by
  subst hst
  exact va_runV (As := As) (rest := rest) ⟨K.1, K.2.1, K.2.2.1, K.2.2.2.1, K.2.2.2.2.1⟩ Y (cwV As.length K.2.2.2.2.1 (lw_V q1 q2 q3 q4 q5) rfl rfl rfl hd hR) ⟨g_blind, va_recv (q0 := 0) K.2.2.2.2.2.2.1 (g_one (hM.1.2.2.1 b _ hb)) X.1 rfl, g_pre K hM⟩ rfl rfl hl.1 rfl (lv_room hw) hdg hf
/-- static -/
theorem rS (As rest : List Value) (K : gC p s m args meth c cc nL own r A) (hM : gM g r A σ s.heap H locs) (hl : lv_has ls nL lv) (Y : gMet g l y code nY ret fr lo mc ms r A σ As Z)
    (q1 : Cond.methodLink own index y ∈ lw_all) (q2 : Cond.static y ∈ lw_all) (q3 : Cond.initialized y.cls ∈ lw_all) (q4 : Cond.code y code nY ret ∈ lw_all)
    (hd : y.cls ≠ "java/lang/invoke/MethodHandle" ∧ y.cls ≠ "java/lang/invoke/VarHandle" ∧ (parseMethodDescriptor y.desc).map (fun d => d.parameters.length) = some As.length)
    (hR : fr + 1 ≤ R.frames ∧ 8 + (nY + 11) + lo ≤ R.locals) (hf : cells + mc ≤ R.cells ∧ slots + ms ≤ R.slots) (hst : st0 = As.reverse ++ rest) (hw : (rest.map fun v => v.category).sum ≤ 8) (hdg : decode cc pc = .ok (.invokestatic index, 3)) :
    va_Run p l e R s m args below meth c H locs cells slots mc ms (F0 m pc ls st0) rest (gEnd g r A Z As.toArray) A := by
  subst hst
  exact va_runS (As := As) (rest := rest) ⟨K.1, K.2.1, K.2.2.1, K.2.2.2.1, K.2.2.2.2.1⟩ Y (va_cwS As.length K.2.2.2.2.1 (lw_S q1 q2 q3 q4) rfl rfl rfl hd hR) ⟨g_blind, g_pre K hM⟩ rfl rfl hl.1 rfl (lv_room hw) hdg hf
/-- static, of a nest mate -/
theorem rSN {host : String} (As rest : List Value) (K : gC p s m args meth c cc nL own r A) (hM : gM g r A σ s.heap H locs) (hl : lv_has ls nL lv) (Y : gMet g l y code nY ret fr lo mc ms r A σ As Z)
    (q1 : Cond.methodLinkNest own index y host ∈ lw_tbl) (q2 : Cond.static y ∈ lw_all) (q3 : Cond.initialized y.cls ∈ lw_all) (q4 : Cond.code y code nY ret ∈ lw_all)
    (hd : y.cls ≠ "java/lang/invoke/MethodHandle" ∧ y.cls ≠ "java/lang/invoke/VarHandle" ∧ (parseMethodDescriptor y.desc).map (fun d => d.parameters.length) = some As.length)
    (hR : fr + 1 ≤ R.frames ∧ 8 + (nY + 11) + lo ≤ R.locals) (hf : cells + mc ≤ R.cells ∧ slots + ms ≤ R.slots) (hst : st0 = As.reverse ++ rest) (hw : (rest.map fun v => v.category).sum ≤ 8) (hdg : decode cc pc = .ok (.invokestatic index, 3)) :
    va_Run p l e R s m args below meth c H locs cells slots mc ms (F0 m pc ls st0) rest (gEnd g r A Z As.toArray) A := by
  subst hst
  exact va_runSN (As := As) (rest := rest) ⟨K.1, K.2.1, K.2.2.1, K.2.2.2.1, K.2.2.2.2.1⟩ Y ⟨va_cnB As.length K.2.2.2.2.1 (lw_meth q4) rfl rfl rfl (K.2.2.2.2.2.2.2.2.1.1 _ q1 rfl) (K.2.2.2.2.1 _ q3) hd hR, K.2.2.2.2.1 _ q2, trivial⟩ ⟨g_blind, g_pre K hM⟩ rfl rfl hl.1 rfl (lv_room hw) hdg hf
/-- virtual, a nest mate's private method, on the world's own object -/
theorem rVN {host : String} (As rest : List Value) (K : gC p s m args meth c cc nL own r A) (X : gX g C T (N + 1) ty) (hM : gM g r A σ s.heap H locs) (hl : lv_has ls nL lv) (Y : gMet g l y code nY ret fr lo mc ms r A σ (.ref r.2.1 :: As) Z)
    (q1 : Cond.methodLinkNest own index y host ∈ lw_tbl) (q2 : Cond.instanceMethod y ∈ lw_all) (q3 : Cond.selects C y y ∈ lw_all) (q4 : Cond.initialized y.cls ∈ lw_all) (q5 : Cond.code y code nY ret ∈ lw_all)
    (hd : y.cls ≠ "java/lang/invoke/MethodHandle" ∧ y.cls ≠ "java/lang/invoke/VarHandle" ∧ (parseMethodDescriptor y.desc).map (fun d => d.parameters.length) = some As.length)
    (hR : fr + 1 ≤ R.frames ∧ 8 + (nY + 11) + lo ≤ R.locals) (hf : cells + mc ≤ R.cells ∧ slots + ms ≤ R.slots) (hst : st0 = As.reverse ++ .ref r.2.1 :: rest) (hw : (rest.map fun v => v.category).sum ≤ 8) (hdg : decode cc pc = .ok (.invokevirtual index, 3)) :
    va_Run p l e R s m args below meth c H locs cells slots mc ms (F0 m pc ls st0) rest (gEnd g r A Z (Value.ref r.2.1 :: As).toArray) A := by
  subst hst
  exact va_runVN (As := As) (rest := rest) ⟨K.1, K.2.1, K.2.2.1, K.2.2.2.1, K.2.2.2.2.1⟩ Y ⟨va_cnB As.length K.2.2.2.2.1 (lw_meth q5) rfl rfl rfl (K.2.2.2.2.2.2.2.2.1.1 _ q1 rfl) (K.2.2.2.2.1 _ q4) hd hR, K.2.2.2.2.1 _ q2, K.2.2.2.2.1 _ q3⟩ ⟨g_blind, va_recv (q0 := 0) K.2.2.2.2.2.2.1 (g_one (hM.1.1 (by rw [X.2.1]; exact Nat.succ_pos N))) X.1 rfl, g_pre K hM⟩ rfl rfl hl.1 rfl (lv_room hw) hdg hf
/-- a constructor -/
theorem rI (As rest : List Value) (K : gC p s m args meth c cc nL own r A) (hM : gM g r A σ s.heap H locs) (hl : lv_has ls nL lv) (Y : gMet g l y code nY none fr lo mc ms r A σ (.ref b :: As) Z)
    (q1 : Cond.methodLink own index y ∈ lw_all) (q2 : Cond.instanceMethod y ∈ lw_all) (q4 : Cond.initialized y.cls ∈ lw_all) (q5 : Cond.code y code nY none ∈ lw_all)
    (hd : y.name = "<init>" ∧ y.cls ≠ "java/lang/invoke/MethodHandle" ∧ y.cls ≠ "java/lang/invoke/VarHandle" ∧ (parseMethodDescriptor y.desc).map (fun d => d.parameters.length) = some As.length)
    (hR : fr + 1 ≤ R.frames ∧ 8 + (nY + 11) + lo ≤ R.locals) (hf : cells + mc ≤ R.cells ∧ slots + ms ≤ R.slots) (hst : st0 = As.reverse ++ .ref b :: rest) (hw : (rest.map fun v => v.category).sum ≤ 8) (hdg : decode cc pc = .ok (.invokespecial index, 3)) :
    va_Run p l e R s m args below meth c H locs cells slots mc ms (F0 m pc ls st0) rest (gEnd g r A Z (Value.ref b :: As).toArray) A := by
  subst hst
  exact va_runI (As := As) (rest := rest) ⟨K.1, K.2.1, K.2.2.1, K.2.2.2.1, K.2.2.2.2.1⟩ Y (cwI As.length K.2.2.2.2.1 (lw_meth q5) rfl rfl rfl (K.2.2.2.2.1 _ q4) (K.2.2.2.2.1 _ q1) (K.2.2.2.2.1 _ q2) hd.1 hd.2 hR) ⟨g_blind, g_pre K hM⟩ rfl rfl hl.1 rfl (lv_room hw) hdg hf
/-- a nest mate's private constructor -/
theorem rIN {host : String} (As rest : List Value) (K : gC p s m args meth c cc nL own r A) (hM : gM g r A σ s.heap H locs) (hl : lv_has ls nL lv) (Y : gMet g l y code nY none fr lo mc ms r A σ (.ref b :: As) Z)
    (q1 : Cond.methodLinkNest own index y host ∈ lw_tbl) (q2 : Cond.instanceMethod y ∈ lw_all) (q4 : Cond.initialized y.cls ∈ lw_all) (q5 : Cond.code y code nY none ∈ lw_all)
    (hd : y.name = "<init>" ∧ y.cls ≠ "java/lang/invoke/MethodHandle" ∧ y.cls ≠ "java/lang/invoke/VarHandle" ∧ (parseMethodDescriptor y.desc).map (fun d => d.parameters.length) = some As.length)
    (hR : fr + 1 ≤ R.frames ∧ 8 + (nY + 11) + lo ≤ R.locals) (hf : cells + mc ≤ R.cells ∧ slots + ms ≤ R.slots) (hst : st0 = As.reverse ++ .ref b :: rest) (hw : (rest.map fun v => v.category).sum ≤ 8) (hdg : decode cc pc = .ok (.invokespecial index, 3)) :
    va_Run p l e R s m args below meth c H locs cells slots mc ms (F0 m pc ls st0) rest (gEnd g r A Z (Value.ref b :: As).toArray) A := by
  subst hst
  exact va_runIN (As := As) (rest := rest) ⟨K.1, K.2.1, K.2.2.1, K.2.2.2.1, K.2.2.2.2.1⟩ Y ⟨va_cnB As.length K.2.2.2.2.1 (lw_meth q5) rfl rfl rfl (K.2.2.2.2.2.2.2.2.1.1 _ q1 rfl) (K.2.2.2.2.1 _ q4) hd.2 hR, hd.1, K.2.2.2.2.1 _ q2⟩ ⟨g_blind, g_pre K hM⟩ rfl rfl hl.1 rfl (lv_room hw) hdg hf
/-- a call of a super method -/
theorem rSU (As rest : List Value) (K : gC p s m args meth c cc nL own r A) (X : gY ci C T N ty) (hM : gM g r A σ s.heap H locs) (hl : lv_has ls nL lv) {fs : List Value} (hb : gO σ b = some (.inr (ci, fs))) (Y : gMet g l y code nY ret fr lo mc ms r A σ (.ref b :: As) Z)
    (q1 : ∀ w ∈ va_wsSU own index y [], w ∈ lw_all) (q5 : Cond.code y code nY ret ∈ lw_all)
    (hd : y.name ≠ "<init>" ∧ (parseMethodDescriptor y.desc).map (fun d => d.parameters.length) = some As.length)
    (hR : fr + 1 ≤ R.frames ∧ 8 + (nY + 11) + lo ≤ R.locals) (hf : cells + mc ≤ R.cells ∧ slots + ms ≤ R.slots) (hst : st0 = As.reverse ++ .ref b :: rest) (hw : (rest.map fun v => v.category).sum ≤ 8) (hdg : decode cc pc = .ok (.invokespecial index, 3)) :
    va_Run p l e R s m args below meth c H locs cells slots mc ms (F0 m pc ls st0) rest (gEnd g r A Z (Value.ref b :: As).toArray) A := by
  subst hst
  have hG : GoodIn lw_all (va_wsSU own index y (ws_ y code nY ret)) := lw_app (fun w hw => q1 w (by unfold va_wsSU; exact List.mem_append_left _ hw)) (lw_meth q5)
  exact va_runSU (As := As) (rest := rest) (K.2.2.2.2.2.2.1.1 ci _ X.1).2 ⟨K.1, K.2.1, K.2.2.1, K.2.2.2.1, K.2.2.2.2.1⟩ Y (va_cwSU As.length K.2.2.2.2.1 hG rfl rfl rfl hd hR) ⟨g_blind, va_recv (q0 := 0) K.2.2.2.2.2.2.1 (g_one (hM.1.2.2.1 b _ hb)) X.1 rfl, g_pre K hM⟩ rfl rfl hl.1 rfl (lv_room hw) hdg hf
/-- Object's constructor -/
theorem rO {rest : List Value} (K : gC p s m args meth c cc nL own r A) (hl : lv_has ls nL lv) (q1 : Cond.methodLink own index Lib.objectInit ∈ lw_all) (q2 : Cond.instanceMethod Lib.objectInit ∈ lw_all) (q3 : Cond.code Lib.objectInit ⟨#[0xb1]⟩ 1 none ∈ lw_all) (hR : 1 ≤ R.frames ∧ (rest.map fun v => v.category).sum + 12 ≤ R.locals) (hdg : decode cc pc = .ok (.invokespecial index, 3))
    (kk : W p l e R s m args below meth c H locs cells slots Q (F0 m (pc + 3) ls rest)) : W p l e R s m args below meth c H locs cells slots Q (F0 m pc ls (.ref b :: rest)) :=
  W.objInit K.1 K.2.1 K.2.2.2.1 (K.2.2.2.2.1 _ q1) (K.2.2.2.2.1 _ q2) (K.2.2.2.2.1 _ q3) rfl (by rw [K.2.2.1]; exact hl.1) rfl hdg hR.1 (by show 2 * 0 + _ + 12 ≤ _; have := hR.2; omega) kk
/-! references of a kind: null or an address -/
theorem g_aload_nq {k : Fin 4} {i : Nat} {x : Option Nat} {rest : List Value} (hexec : p.tables.exec = Jvm.exec) (hb : c.code = cc) (hdg : decode cc pc = .ok (.aload_n k, 1)) (hi : (k : Nat) = i) (hl : ls[i]? = some (.val (va_rf x)))
    (kk : W p l e R s m args below meth c H locs cells slots Q (F0 m (pc + 1) ls (va_rf x :: rest))) : W p l e R s m args below meth c H locs cells slots Q (F0 m pc ls rest) := by
  cases x with
  | none => exact lv_aload_nN hexec hb hdg hi hl kk
  | some a => exact lv_aload_n hexec hb hdg hi hl kk
theorem g_aloadq {i : Nat} {x : Option Nat} {rest : List Value} (hexec : p.tables.exec = Jvm.exec) (hb : c.code = cc) (hdg : decode cc pc = .ok (.aload i, 2)) (hl : ls[i]? = some (.val (va_rf x)))
    (kk : W p l e R s m args below meth c H locs cells slots Q (F0 m (pc + 2) ls (va_rf x :: rest))) : W p l e R s m args below meth c H locs cells slots Q (F0 m pc ls rest) := by
  cases x with
  | none => exact lv_aloadN hexec hb hdg hl kk
  | some a => exact lv_aload hexec hb hdg hl kk
theorem g_astore_nq {k : Fin 4} {i nL : Nat} {x : Option Nat} {rest : List Value} {lv lv' : List (Nat × Value)} (hexec : p.tables.exec = Jvm.exec) (hb : c.code = cc) (hdg : decode cc pc = .ok (.astore_n k, 1)) (hi : (k : Nat) = i) (h : lv_has ls nL lv) (hn : i < nL) (hl : (i, va_rf x) :: lv.filter (fun q => !(q.1 == i) && !(q.1 + 1 == i && q.2.category == 2)) = lv')
    (kk : ∀ ls' : Array Slot, lv_has ls' nL lv' → W p l e R s m args below meth c H locs cells slots Q (F0 m (pc + 1) ls' rest)) : W p l e R s m args below meth c H locs cells slots Q (F0 m pc ls (va_rf x :: rest)) := by
  cases x with
  | none => exact lv_astore_nN hexec hb hdg hi h hn hl kk
  | some a => exact lv_astore_n hexec hb hdg hi h hn hl kk
theorem g_astoreq {i nL : Nat} {x : Option Nat} {rest : List Value} {lv lv' : List (Nat × Value)} (hexec : p.tables.exec = Jvm.exec) (hb : c.code = cc) (hdg : decode cc pc = .ok (.astore i, 2)) (h : lv_has ls nL lv) (hn : i < nL) (hl : (i, va_rf x) :: lv.filter (fun q => !(q.1 == i) && !(q.1 + 1 == i && q.2.category == 2)) = lv')
    (kk : ∀ ls' : Array Slot, lv_has ls' nL lv' → W p l e R s m args below meth c H locs cells slots Q (F0 m (pc + 2) ls' rest)) : W p l e R s m args below meth c H locs cells slots Q (F0 m pc ls (va_rf x :: rest)) := by
  cases x with
  | none => exact lv_astoreN hexec hb hdg h hn hl kk
  | some a => exact lv_astore hexec hb hdg h hn hl kk
theorem g_ifnull {x : Option Nat} {off : Int} {tgt : Nat} {rest : List Value} (hexec : p.tables.exec = Jvm.exec) (hb : c.code = cc) (hdg : decode cc pc = .ok (.ifnull off, 3)) (ht : (pc : Int) + off = (tgt : Int)) (kt : x = none → W p l e R s m args below meth c H locs cells slots Q (F0 m tgt ls rest)) (kf : ¬ x = none → W p l e R s m args below meth c H locs cells slots Q (F0 m (pc + 3) ls rest)) : W p l e R s m args below meth c H locs cells slots Q (F0 m pc ls (va_rf x :: rest)) := by
  cases x with
  | none => exact lv_ifnullN hexec hb hdg ht (kt rfl)
  | some a => exact lv_ifnull hexec hb hdg (kf (fun h => by cases h))
theorem g_ifnonnull {x : Option Nat} {off : Int} {tgt : Nat} {rest : List Value} (hexec : p.tables.exec = Jvm.exec) (hb : c.code = cc) (hdg : decode cc pc = .ok (.ifnonnull off, 3)) (ht : (pc : Int) + off = (tgt : Int)) (kt : ¬ x = none → W p l e R s m args below meth c H locs cells slots Q (F0 m tgt ls rest)) (kf : x = none → W p l e R s m args below meth c H locs cells slots Q (F0 m (pc + 3) ls rest)) : W p l e R s m args below meth c H locs cells slots Q (F0 m pc ls (va_rf x :: rest)) := by
  cases x with
  | none => exact lv_ifnonnullN hexec hb hdg (kf rfl)
  | some a => exact lv_ifnonnull hexec hb hdg ht (kt (fun h => by cases h))
/-- an answer that is a reference, or null -/
theorem g_retq {P : GS → Option Nat → Prop} {v : Option Nat} {rt : FieldType} (K : gC p s m args meth c cc nL own r A) (hr : meth.sig.returnType = some rt) (hrt : (∃ n, rt = .object n) ∨ ∃ t, rt = .array t) (hM : gM g r A σ s.heap H locs) (hc : cells ≤ mc ∧ slots ≤ ms) (hp : P σ v) (hdg : decode cc pc = .ok (.areturn, 1)) : W p l e R s m args below meth c H locs cells slots (MQ below (gEnd g r A (zQ P)) args s mc ms A) (F0 m pc ls [va_rf v]) :=
  W.widen hc.1 hc.2 (W.aret K.1 K.2.1 hr hrt (by cases v with | none => exact Or.inl rfl | some a => exact Or.inr ⟨a, rfl⟩) (fun t ht _ => ⟨⟨σ, _, rfl, ⟨v, rfl, hp⟩, by rw [ht]; exact hM.1⟩, hM.2.F ht⟩) hM.2.2.2 hdg K.2.2.2.2.2.1)
/-- a reference is put into one of the object's arrays -/
theorem g_aast (K : gC p s m args meth c cc nL own r A) (Y : gY ci C T N ty) (hM : gM g r A σ s.heap H locs) (k : Nat) (hk : gB g k = true) (hf : g.2.2.1 k = 4) {tk : Nat} (ht : g.2.2.2.2 k = tk) (htv : (gT r)[tk]? = some (r.2.2.2 tk, .object C)) {i : Int32} {rest : List Value} {fs : List Value} (hb : gO σ b = some (.inr (ci, fs))) (hin : vp_in i (g.2.2.2.1 k)) (hdg : decode cc pc = .ok (.aastore, 1))
    (kk : ∀ (H1 : Heap) (locs1 : List Loc) (σ1 : GS), σ1 = sQ σ k i.toNatClampNeg (some b) → gM g r A σ1 s.heap H1 locs1 → W p l e R s m args below meth c H1 locs1 cells slots Q (F0 m (pc + 1) ls rest)) : W p l e R s m args below meth c H locs cells slots Q (F0 m pc ls (.ref b :: .int i :: .ref (r.2.2.1 k) :: rest)) := by
  have hE := hM.1.2.1 k hk
  unfold gE at hE
  rw [hf, ht] at hE
  have hlt : i.toNatClampNeg < g.2.2.2.1 k := Nat.not_le.mp fun q => hin (Or.inr q)
  have h0 : ¬ i < 0 := fun q => hin (Or.inl q)
  have hK := K.2.2.2.2.2.2.1
  obtain ⟨r', hr', cellV, g1, g2, g3, -⟩ := hM.1.2.2.1 b _ hb
  have hcls := (hK.1 ci _ Y.1).2
  obtain ⟨kA, comp, k1, k2, k3, -⟩ := (hK.2 tk _ htv).2
  have hcomp : comp = r.1.1 ci := Option.some.inj (k3.symm.trans hcls.1)
  subst hcomp
  obtain ⟨kC, hkC, -⟩ := hcls.2
  refine W.aast K.1 K.2.1 hE (fun q h => by cases h) (fun h => by cases h) k1 k2 rfl hkC ⟨h0, by show _ < (arrV _ _ _).slots.size; rw [arrV_size]; exact hlt⟩ g1 (fun q h => by rw [g3] at h; cases h) (by rw [g2]; exact hkC) (by rw [g2]; exact va_assign hcls) rfl rfl hdg fun H1 e z oq => ?_
  refine kk H1 _ _ rfl ⟨gS_arr hM.1 hk ?_ oq rfl (fun j hj => gE_sQ_ne hj) rfl, hM.2.put z oq (hM.1.2.2.2.2.2.2.2.2.1 k hk)⟩
  unfold gE gV
  rw [hf, ht, gQ_sQ, if_pos rfl]
  show H1[r.2.2.1 k]? = some (vp_cell (r.2.2.2 tk) (g.2.2.2.1 k, .inr (.inr (.inr (.inr (va_up (gQ σ k) i.toNatClampNeg (some b)))))))
  rw [e]
  show some ((vp_cell (r.2.2.2 tk) (g.2.2.2.1 k, .inr (.inr (.inr (.inr (gQ σ k)))))).setSlot i.toNatClampNeg (.ref b)) = _
  rw [vp_cell_q, vp_cell_q, arrV_store]
  congr 2
  funext q
  by_cases hq : q = i.toNatClampNeg
  · subst hq
    simp [updV, va_up, va_rf]
  · simp [updV, va_up, hq]
/-- a null, too -/
theorem g_aastN (K : gC p s m args meth c cc nL own r A) (hM : gM g r A σ s.heap H locs) (k : Nat) (hk : gB g k = true) (hf : g.2.2.1 k = 4) {tk : Nat} (ht : g.2.2.2.2 k = tk) {Cn : String} (htv : (gT r)[tk]? = some (r.2.2.2 tk, .object Cn)) {i : Int32} {rest : List Value} (hin : vp_in i (g.2.2.2.1 k)) (hdg : decode cc pc = .ok (.aastore, 1))
    (kk : ∀ (H1 : Heap) (locs1 : List Loc) (σ1 : GS), σ1 = sQ σ k i.toNatClampNeg none → gM g r A σ1 s.heap H1 locs1 → W p l e R s m args below meth c H1 locs1 cells slots Q (F0 m (pc + 1) ls rest)) : W p l e R s m args below meth c H locs cells slots Q (F0 m pc ls (.null :: .int i :: .ref (r.2.2.1 k) :: rest)) := by
  have hE := hM.1.2.1 k hk
  unfold gE at hE
  rw [hf, ht] at hE
  have hK := K.2.2.2.2.2.2.1
  refine va_WaastN (C := Cn) K.1 K.2.1 hE ((hK.2 tk _ htv).1 _ (fun j => va_rf (gQ σ k j))) (fun h => by cases h) (by show ¬ (i < 0 ∨ (arrV _ _ _).slots.size ≤ _); rw [arrV_size]; exact hin) rfl rfl hdg fun H1 e z oq => ?_
  refine kk H1 _ _ rfl ⟨gS_arr hM.1 hk ?_ oq rfl (fun j hj => gE_sQ_ne hj) rfl, hM.2.put z oq (hM.1.2.2.2.2.2.2.2.2.1 k hk)⟩
  unfold gE gV
  rw [hf, ht, gQ_sQ, if_pos rfl]
  show H1[r.2.2.1 k]? = some (vp_cell (r.2.2.2 tk) (g.2.2.2.1 k, .inr (.inr (.inr (.inr (va_up (gQ σ k) i.toNatClampNeg none))))))
  rw [e]
  show some ((vp_cell (r.2.2.2 tk) (g.2.2.2.1 k, .inr (.inr (.inr (.inr (gQ σ k)))))).setSlot i.toNatClampNeg .null) = _
  rw [vp_cell_q, vp_cell_q, arrV_store]
  congr 2
  funext q
  by_cases hq : q = i.toNatClampNeg
  · subst hq
    simp [updV, va_up, va_rf]
  · simp [updV, va_up, hq]
end CALLS2

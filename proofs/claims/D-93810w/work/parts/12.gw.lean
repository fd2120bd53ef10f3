/-! a block's statement; calls by the answer's kind -/
def gW (g : GD) (p : Program) (l : Launch) (e : Env) (R : Room) (s : State) (m : MethodId) (args : Array Value) (below : List Frame) (meth : Method) (c : Code) (r : GR) (A : Nat → Prop) (Z : GS → Option Value → Prop) (mc ms nL pc : Nat) (lv : List (Nat × Value)) (st : List Value) (cells slots : Nat) (σ : GS) : Prop :=
  ∀ (H : Heap) (locs : List Loc) (ls : Array Slot), gM g r A σ s.heap H locs → lv_has ls nL lv → W p l e R s m args below meth c H locs cells slots (MQ below (gEnd g r A Z) args s mc ms A) (F0 m pc ls st)
section GCALLS
variable {p : Program} {l : Launch} {e : Env} {R : Room} {s : State} {m : MethodId} {args : Array Value} {below : List Frame} {meth : Method} {c : Code} {H : Heap} {locs : List Loc} {cells slots : Nat} {Q : State → Prop}
variable {cc : ByteArray} {nL pc index : Nat} {ls : Array Slot} {own : String} {r : GR} {g : GD} {A : Nat → Prop} {σ : GS} {C : String} {T : u_T} {N : Nat} {ty : Nat → FieldType}
variable {y : MethodName} {code : ByteArray} {nY fr lo : Nat} {ret : Option FieldType} {st0 : List Value} {lv : List (Nat × Value)}
theorem g_cVi {P : GS → Int32 → Prop} (As rest : List Value) (K : gC p s m args meth c cc nL own r A) (X : gX g C T (N + 1) ty) (hM : gM g r A σ s.heap H locs) (hl : lv_has ls nL lv) (Y : gMet g l y code nY ret fr lo 0 0 r A σ (.ref r.2.1 :: As) (zI P))
    (q1 : Cond.methodLink own index y ∈ lw_all) (q2 : Cond.instanceMethod y ∈ lw_all) (q3 : Cond.selects C y y ∈ lw_all) (q4 : Cond.initialized C ∈ lw_all) (q5 : Cond.code y code nY ret ∈ lw_all)
    (hd : y.cls = C ∧ y.cls ≠ "java/lang/invoke/MethodHandle" ∧ y.cls ≠ "java/lang/invoke/VarHandle" ∧ (parseMethodDescriptor y.desc).map (fun d => d.parameters.length) = some As.length)
    (hR : fr + 1 ≤ R.frames ∧ 8 + (nY + 11) + lo ≤ R.locals) (hf : cells ≤ R.cells ∧ slots ≤ R.slots) (hst : st0 = As.reverse ++ .ref r.2.1 :: rest) (hw : (rest.map fun v => v.category).sum ≤ 8) (hdg : decode cc pc = .ok (.invokevirtual index, 3))
    (kk : ∀ (σ1 : GS) (x : Int32) (H1 : Heap) (locs1 : List Loc), P σ1 x → gM g r A σ1 s.heap H1 locs1 → W p l e R s m args below meth c H1 locs1 cells slots Q (F0 m (pc + 3) ls (.int x :: rest))) : W p l e R s m args below meth c H locs cells slots Q (F0 m pc ls st0) := by
  refine g_callV As rest K X (Nat.succ_pos N) hM hl Y q1 q2 q3 q4 q5 hd hR hf hst hw hdg fun σ1 v H1 locs1 hz hM1 => ?_
  obtain ⟨x, rfl, hz⟩ := hz
  exact kk σ1 x H1 locs1 hz hM1
theorem g_cVl {P : GS → Int64 → Prop} (As rest : List Value) (K : gC p s m args meth c cc nL own r A) (X : gX g C T (N + 1) ty) (hM : gM g r A σ s.heap H locs) (hl : lv_has ls nL lv) (Y : gMet g l y code nY ret fr lo 0 0 r A σ (.ref r.2.1 :: As) (zL P))
    (q1 : Cond.methodLink own index y ∈ lw_all) (q2 : Cond.instanceMethod y ∈ lw_all) (q3 : Cond.selects C y y ∈ lw_all) (q4 : Cond.initialized C ∈ lw_all) (q5 : Cond.code y code nY ret ∈ lw_all)
    (hd : y.cls = C ∧ y.cls ≠ "java/lang/invoke/MethodHandle" ∧ y.cls ≠ "java/lang/invoke/VarHandle" ∧ (parseMethodDescriptor y.desc).map (fun d => d.parameters.length) = some As.length)
    (hR : fr + 1 ≤ R.frames ∧ 8 + (nY + 11) + lo ≤ R.locals) (hf : cells ≤ R.cells ∧ slots ≤ R.slots) (hst : st0 = As.reverse ++ .ref r.2.1 :: rest) (hw : (rest.map fun v => v.category).sum ≤ 8) (hdg : decode cc pc = .ok (.invokevirtual index, 3))
    (kk : ∀ (σ1 : GS) (x : Int64) (H1 : Heap) (locs1 : List Loc), P σ1 x → gM g r A σ1 s.heap H1 locs1 → W p l e R s m args below meth c H1 locs1 cells slots Q (F0 m (pc + 3) ls (.long x :: rest))) : W p l e R s m args below meth c H locs cells slots Q (F0 m pc ls st0) := by
  refine g_callV As rest K X (Nat.succ_pos N) hM hl Y q1 q2 q3 q4 q5 hd hR hf hst hw hdg fun σ1 v H1 locs1 hz hM1 => ?_
  obtain ⟨x, rfl, hz⟩ := hz
  exact kk σ1 x H1 locs1 hz hM1
theorem g_cVv {P : GS → Prop} (As rest : List Value) (K : gC p s m args meth c cc nL own r A) (X : gX g C T (N + 1) ty) (hM : gM g r A σ s.heap H locs) (hl : lv_has ls nL lv) (Y : gMet g l y code nY ret fr lo 0 0 r A σ (.ref r.2.1 :: As) (zV P))
    (q1 : Cond.methodLink own index y ∈ lw_all) (q2 : Cond.instanceMethod y ∈ lw_all) (q3 : Cond.selects C y y ∈ lw_all) (q4 : Cond.initialized C ∈ lw_all) (q5 : Cond.code y code nY ret ∈ lw_all)
    (hd : y.cls = C ∧ y.cls ≠ "java/lang/invoke/MethodHandle" ∧ y.cls ≠ "java/lang/invoke/VarHandle" ∧ (parseMethodDescriptor y.desc).map (fun d => d.parameters.length) = some As.length)
    (hR : fr + 1 ≤ R.frames ∧ 8 + (nY + 11) + lo ≤ R.locals) (hf : cells ≤ R.cells ∧ slots ≤ R.slots) (hst : st0 = As.reverse ++ .ref r.2.1 :: rest) (hw : (rest.map fun v => v.category).sum ≤ 8) (hdg : decode cc pc = .ok (.invokevirtual index, 3))
    (kk : ∀ (σ1 : GS) (H1 : Heap) (locs1 : List Loc), P σ1 → gM g r A σ1 s.heap H1 locs1 → W p l e R s m args below meth c H1 locs1 cells slots Q (F0 m (pc + 3) ls rest)) : W p l e R s m args below meth c H locs cells slots Q (F0 m pc ls st0) := by
  refine g_callV As rest K X (Nat.succ_pos N) hM hl Y q1 q2 q3 q4 q5 hd hR hf hst hw hdg fun σ1 v H1 locs1 hz hM1 => ?_
  obtain ⟨rfl, hz⟩ := hz
  exact kk σ1 H1 locs1 hz hM1
theorem g_cSi {P : GS → Int32 → Prop} (As rest : List Value) (K : gC p s m args meth c cc nL own r A) (hM : gM g r A σ s.heap H locs) (hl : lv_has ls nL lv) (Y : gMet g l y code nY ret fr lo 0 0 r A σ As (zI P))
    (q1 : Cond.methodLink own index y ∈ lw_all) (q2 : Cond.static y ∈ lw_all) (q3 : Cond.initialized y.cls ∈ lw_all) (q4 : Cond.code y code nY ret ∈ lw_all)
    (hd : y.cls ≠ "java/lang/invoke/MethodHandle" ∧ y.cls ≠ "java/lang/invoke/VarHandle" ∧ (parseMethodDescriptor y.desc).map (fun d => d.parameters.length) = some As.length)
    (hR : fr + 1 ≤ R.frames ∧ 8 + (nY + 11) + lo ≤ R.locals) (hf : cells ≤ R.cells ∧ slots ≤ R.slots) (hst : st0 = As.reverse ++ rest) (hw : (rest.map fun v => v.category).sum ≤ 8) (hdg : decode cc pc = .ok (.invokestatic index, 3))
    (kk : ∀ (σ1 : GS) (x : Int32) (H1 : Heap) (locs1 : List Loc), P σ1 x → gM g r A σ1 s.heap H1 locs1 → W p l e R s m args below meth c H1 locs1 cells slots Q (F0 m (pc + 3) ls (.int x :: rest))) : W p l e R s m args below meth c H locs cells slots Q (F0 m pc ls st0) := by
  refine g_callS As rest K hM hl Y q1 q2 q3 q4 hd hR hf hst hw hdg fun σ1 v H1 locs1 hz hM1 => ?_
  obtain ⟨x, rfl, hz⟩ := hz
  exact kk σ1 x H1 locs1 hz hM1
theorem g_cSl {P : GS → Int64 → Prop} (As rest : List Value) (K : gC p s m args meth c cc nL own r A) (hM : gM g r A σ s.heap H locs) (hl : lv_has ls nL lv) (Y : gMet g l y code nY ret fr lo 0 0 r A σ As (zL P))
    (q1 : Cond.methodLink own index y ∈ lw_all) (q2 : Cond.static y ∈ lw_all) (q3 : Cond.initialized y.cls ∈ lw_all) (q4 : Cond.code y code nY ret ∈ lw_all)
    (hd : y.cls ≠ "java/lang/invoke/MethodHandle" ∧ y.cls ≠ "java/lang/invoke/VarHandle" ∧ (parseMethodDescriptor y.desc).map (fun d => d.parameters.length) = some As.length)
    (hR : fr + 1 ≤ R.frames ∧ 8 + (nY + 11) + lo ≤ R.locals) (hf : cells ≤ R.cells ∧ slots ≤ R.slots) (hst : st0 = As.reverse ++ rest) (hw : (rest.map fun v => v.category).sum ≤ 8) (hdg : decode cc pc = .ok (.invokestatic index, 3))
    (kk : ∀ (σ1 : GS) (x : Int64) (H1 : Heap) (locs1 : List Loc), P σ1 x → gM g r A σ1 s.heap H1 locs1 → W p l e R s m args below meth c H1 locs1 cells slots Q (F0 m (pc + 3) ls (.long x :: rest))) : W p l e R s m args below meth c H locs cells slots Q (F0 m pc ls st0) := by
  refine g_callS As rest K hM hl Y q1 q2 q3 q4 hd hR hf hst hw hdg fun σ1 v H1 locs1 hz hM1 => ?_
  obtain ⟨x, rfl, hz⟩ := hz
  exact kk σ1 x H1 locs1 hz hM1
/-- a switch's default, gaps of the table among its cases -/
theorem g_swD {rest : List Value} (hexec : p.tables.exec = Jvm.exec) (hb : c.code = cc) {dflt lo hi : Int} {offs : Array Int} {len : Nat} {x : Int32} {tgt : Nat} (hdg : decode cc pc = .ok (.tableswitch dflt lo hi offs, len)) (ht : (pc : Int) + dflt = (tgt : Int)) (h : (x.toInt < lo ∨ hi < x.toInt) ∨ offs[(x.toInt - lo).toNat]? = some dflt)
    (k : W p l e R s m args below meth c H locs cells slots Q (F0 m tgt ls rest)) : W p l e R s m args below meth c H locs cells slots Q (F0 m pc ls (.int x :: rest)) := by
  by_cases h1 : x.toInt < lo ∨ hi < x.toInt
  · exact lv_tableOut hexec hb hdg h1 ht k
  · rcases h with h | h
    · exact absurd h h1
    · exact lv_tableIn hexec hb hdg (fun q => h1 (Or.inl q)) (fun q => h1 (Or.inr q)) h ht k
end GCALLS
section GNAMED
variable {p : Program} {l : Launch} {e : Env} {R : Room} {s : State} {m : MethodId} {args : Array Value} {below : List Frame} {meth : Method} {c : Code} {H : Heap} {locs : List Loc} {cells slots : Nat} {Q : State → Prop}
variable {cc : ByteArray} {nL pc index : Nat} {ls : Array Slot} {rest : List Value} {own : String} {r : GR} {g : GD} {A : Nat → Prop} {σ : GS} {C : String} {T : u_T} {N : Nat} {ty : Nat → FieldType}
theorem g_putiN (K : gC p s m args meth c cc nL own r A) (X : gX g C T N ty) (hM : gM g r A σ s.heap H locs) (k : Nat) (hk : Nat.blt k N = true) {ref : String} (hl : Cond.fieldLink own index ref (T k).2.1 (T k).2.2.1 ∈ lw_all) (hr : (T k).1 = ref) (hdg : decode cc pc = .ok (.putfield index, 3)) (hf : g.2.2.1 k = 0) (hfin : (T k).2.2.2 = false) (hd : ty k = .int) {v : Int32}
    (kk : ∀ (H1 : Heap) (locs1 : List Loc) (σ1 : GS), σ1 = sI σ k v → gM g r A σ1 s.heap H1 locs1 → W p l e R s m args below meth c H1 locs1 cells slots Q (F0 m (pc + 3) ls rest)) : W p l e R s m args below meth c H locs cells slots Q (F0 m pc ls (.int v :: .ref r.2.1 :: rest)) :=
  g_puti K X hM k hk hl hr hdg hf hfin hd fun H1 locs1 hM1 => kk H1 locs1 _ rfl hM1
theorem g_iastN (K : gC p s m args meth c cc nL own r A) (hM : gM g r A σ s.heap H locs) (k : Nat) (hk : gB g k = true) (hf : g.2.2.1 k = 1) (ht : g.2.2.2.2 k = 0) {i : Int32} {x : Int32} (hin : vp_in i (g.2.2.2.1 k)) (hdg : decode cc pc = .ok (.iastore, 1))
    (kk : ∀ (H1 : Heap) (locs1 : List Loc) (σ1 : GS), σ1 = sA σ k i.toNatClampNeg x → gM g r A σ1 s.heap H1 locs1 → W p l e R s m args below meth c H1 locs1 cells slots Q (F0 m (pc + 1) ls rest)) : W p l e R s m args below meth c H locs cells slots Q (F0 m pc ls (.int x :: .int i :: .ref (r.2.2.1 k) :: rest)) :=
  g_iast K hM k hk hf ht hin hdg fun H1 locs1 hM1 => kk H1 locs1 _ rfl hM1
theorem g_bastN (K : gC p s m args meth c cc nL own r A) (hM : gM g r A σ s.heap H locs) (k : Nat) (hk : gB g k = true) (hf : g.2.2.1 k = 3) (ht : g.2.2.2.2 k = 2) {i : Int32} {x : Int32} (hin : vp_in i (g.2.2.2.1 k)) (hdg : decode cc pc = .ok (.bastore, 1))
    (kk : ∀ (H1 : Heap) (locs1 : List Loc) (σ1 : GS), σ1 = sA σ k i.toNatClampNeg (vp_nar .byte x) → gM g r A σ1 s.heap H1 locs1 → W p l e R s m args below meth c H1 locs1 cells slots Q (F0 m (pc + 1) ls rest)) : W p l e R s m args below meth c H locs cells slots Q (F0 m pc ls (.int x :: .int i :: .ref (r.2.2.1 k) :: rest)) :=
  g_bast K hM k hk hf ht hin hdg fun H1 locs1 hM1 => kk H1 locs1 _ rfl hM1
theorem g_lastN (K : gC p s m args meth c cc nL own r A) (hM : gM g r A σ s.heap H locs) (k : Nat) (hk : gB g k = true) (hf : g.2.2.1 k = 2) (ht : g.2.2.2.2 k = 1) {i : Int32} {x : Int64} (hin : vp_in i (g.2.2.2.1 k)) (hdg : decode cc pc = .ok (.lastore, 1))
    (kk : ∀ (H1 : Heap) (locs1 : List Loc) (σ1 : GS), σ1 = sL σ k i.toNatClampNeg x → gM g r A σ1 s.heap H1 locs1 → W p l e R s m args below meth c H1 locs1 cells slots Q (F0 m (pc + 1) ls rest)) : W p l e R s m args below meth c H locs cells slots Q (F0 m pc ls (.long x :: .int i :: .ref (r.2.2.1 k) :: rest)) :=
  g_last K hM k hk hf ht hin hdg fun H1 locs1 hM1 => kk H1 locs1 _ rfl hM1
end GNAMED

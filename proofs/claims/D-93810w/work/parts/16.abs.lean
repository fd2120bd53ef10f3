/-! calls through a name that a subclass answers -/
section CALLS3
variable {p : Program} {l : Launch} {e : Env} {R : Room} {s : State} {m : MethodId} {args : Array Value} {below : List Frame} {meth : Method} {c : Code} {H : Heap} {locs : List Loc} {cells slots : Nat} {Q : State → Prop}
variable {cc : ByteArray} {nL pc index : Nat} {ls : Array Slot} {own : String} {r : GR} {g : GD} {A : Nat → Prop} {σ : GS} {C : String} {T : u_T} {N : Nat} {ty : Nat → FieldType} {ci b : Nat}
variable {x y : MethodName} {code : ByteArray} {nY fr lo mc ms : Nat} {ret : Option FieldType} {st0 : List Value} {lv : List (Nat × Value)} {Z : GS → Option Value → Prop} {owner : String}
theorem lw_U (h1 : Cond.methodLink own index x ∈ lw_all) (h2 : Cond.sameMethod x.cls owner x.name x.desc ∈ lw_all) (h3 : Cond.selects C x y ∈ lw_all) (h4 : Cond.instanceMethod y ∈ lw_all) (h5 : Cond.initialized y.cls ∈ lw_all) (h6 : Cond.code y code nY ret ∈ lw_all) : GoodIn lw_all (va_wsU own index C owner x y (ws_ y code nY ret)) := by
  refine lw_app ?_ (lw_meth h6)
  intro w hw
  simp only [List.mem_cons, List.not_mem_nil, or_false] at hw
  rcases hw with e | e | e | e | e
  · rw [e]; exact h1
  · rw [e]; exact h2
  · rw [e]; exact h3
  · rw [e]; exact h4
  · rw [e]; exact h5
theorem lw_O (h1 : Cond.methodLink own index x ∈ lw_all) (h2 : Cond.sameMethod x.cls owner x.name x.desc ∈ lw_all) (h2b : Cond.instanceMethod ⟨owner, x.name, x.desc⟩ ∈ lw_all) (h3 : Cond.selects C x y ∈ lw_all) (h4 : Cond.instanceMethod y ∈ lw_all) (h5 : Cond.initialized y.cls ∈ lw_all) (h6 : Cond.code y code nY ret ∈ lw_all) : GoodIn lw_all (va_wsO own index C owner x y (ws_ y code nY ret)) := by
  refine lw_app ?_ (lw_meth h6)
  intro w hw
  simp only [List.mem_cons, List.not_mem_nil, or_false] at hw
  rcases hw with e | e | e | e | e | e
  · rw [e]; exact h1
  · rw [e]; exact h2
  · rw [e]; exact h2b
  · rw [e]; exact h3
  · rw [e]; exact h4
  · rw [e]; exact h5
/-- the named method is abstract -/
theorem rA (As rest : List Value) (K : gC p s m args meth c cc nL own r A) (X : gY ci C T N ty) (hM : gM g r A σ s.heap H locs) (hl : lv_has ls nL lv) {fs : List Value} (hb : gO σ b = some (.inr (ci, fs))) (Y : gMet g l y code nY ret fr lo mc ms r A σ (.ref b :: As) Z)
    (h1 : Cond.methodLink own index x ∈ lw_all) (h2 : Cond.sameMethod x.cls owner x.name x.desc ∈ lw_all) (hz : Cond.declares ⟨owner, x.name, x.desc⟩ ∈ lw_tbl) (h3 : Cond.selects C x y ∈ lw_all) (h4 : Cond.instanceMethod y ∈ lw_all) (h5 : Cond.initialized y.cls ∈ lw_all) (h6 : Cond.code y code nY ret ∈ lw_all)
    (hd : owner ≠ "java/lang/invoke/MethodHandle" ∧ owner ≠ "java/lang/invoke/VarHandle" ∧ (parseMethodDescriptor x.desc).map (fun d => d.parameters.length) = some As.length)
    (hR : fr + 1 ≤ R.frames ∧ 8 + (nY + 11) + lo ≤ R.locals) (hf : cells + mc ≤ R.cells ∧ slots + ms ≤ R.slots) (hst : st0 = As.reverse ++ .ref b :: rest) (hw : (rest.map fun v => v.category).sum ≤ 8) (hdg : decode cc pc = .ok (.invokevirtual index, 3)) :
    va_Run p l e R s m args below meth c H locs cells slots mc ms (F0 m pc ls st0) rest (gEnd g r A Z (Value.ref b :: As).toArray) A := by
  subst hst
  exact va_runU (As := As) (rest := rest) ⟨K.1, K.2.1, K.2.2.1, K.2.2.2.1, K.2.2.2.2.1⟩ Y (va_cwA As.length K.2.2.2.2.1 (lw_U h1 h2 h3 h4 h5 h6) rfl rfl rfl (K.2.2.2.2.2.2.2.2.1.1 _ hz rfl) hd hR) ⟨g_blind, va_recv (q0 := 0) K.2.2.2.2.2.2.1 (g_one (hM.1.2.2.1 b _ hb)) X.1 rfl, g_pre K hM⟩ rfl rfl hl.1 rfl (lv_room hw) hdg hf
/-- the named method has code, another runs, or it itself in a subclass's object -/
theorem rOv (As rest : List Value) (K : gC p s m args meth c cc nL own r A) (X : gY ci C T N ty) (hM : gM g r A σ s.heap H locs) (hl : lv_has ls nL lv) {fs : List Value} (hb : gO σ b = some (.inr (ci, fs))) (Y : gMet g l y code nY ret fr lo mc ms r A σ (.ref b :: As) Z)
    (h1 : Cond.methodLink own index x ∈ lw_all) (h2 : Cond.sameMethod x.cls owner x.name x.desc ∈ lw_all) (h2b : Cond.instanceMethod ⟨owner, x.name, x.desc⟩ ∈ lw_all) {b0 : ByteArray} {m0 : Nat} {r0 : Option FieldType} (h0 : Cond.code ⟨owner, x.name, x.desc⟩ b0 m0 r0 ∈ lw_all) (h3 : Cond.selects C x y ∈ lw_all) (h4 : Cond.instanceMethod y ∈ lw_all) (h5 : Cond.initialized y.cls ∈ lw_all) (h6 : Cond.code y code nY ret ∈ lw_all)
    (hd : owner ≠ "java/lang/invoke/MethodHandle" ∧ owner ≠ "java/lang/invoke/VarHandle" ∧ (parseMethodDescriptor x.desc).map (fun d => d.parameters.length) = some As.length)
    (hR : fr + 1 ≤ R.frames ∧ 8 + (nY + 11) + lo ≤ R.locals) (hf : cells + mc ≤ R.cells ∧ slots + ms ≤ R.slots) (hst : st0 = As.reverse ++ .ref b :: rest) (hw : (rest.map fun v => v.category).sum ≤ 8) (hdg : decode cc pc = .ok (.invokevirtual index, 3)) :
    va_Run p l e R s m args below meth c H locs cells slots mc ms (F0 m pc ls st0) rest (gEnd g r A Z (Value.ref b :: As).toArray) A := by
  subst hst
  exact va_runU (As := As) (rest := rest) ⟨K.1, K.2.1, K.2.2.1, K.2.2.2.1, K.2.2.2.2.1⟩ Y (va_cwO As.length K.2.2.2.2.1 (lw_O h1 h2 h2b h3 h4 h5 h6) rfl rfl rfl h0 hd hR) ⟨g_blind, va_recv (q0 := 0) K.2.2.2.2.2.2.1 (g_one (hM.1.2.2.1 b _ hb)) X.1 rfl, g_pre K hM⟩ rfl rfl hl.1 rfl (lv_room hw) hdg hf
end CALLS3

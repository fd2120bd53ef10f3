/-! String constants: read, called -/
section STRS
variable {p : Program} {l : Launch} {e : Env} {R : Room} {s : State} {m : MethodId} {args : Array Value} {below : List Frame} {meth : Method} {c : Code} {H : Heap} {locs : List Loc} {cells slots : Nat} {Q : State → Prop}
variable {cc : ByteArray} {nL pc index : Nat} {ls : Array Slot} {own : String} {r : GR} {g : GD} {A : Nat → Prop} {σ : GS} {rest : List Value}
variable {y : MethodName} {code : ByteArray} {nY fr lo mc ms : Nat} {ret : Option FieldType} {st0 : List Value} {lv : List (Nat × Value)} {Z : GS → Option Value → Prop}
theorem s_len (K : gC p s m args meth c cc nL own r A) (hM : gM g r A σ s.heap H locs) (i : Nat) (hi : Nat.blt i 4 = true) {n : Nat} (hn : lenS.getD i 0 = n) (hdg : decode cc pc = .ok (.arraylength, 1))
    (kk : W p l e R s m args below meth c H locs cells slots Q (F0 m (pc + 1) ls (.int (Int32.ofNat n) :: rest))) : W p l e R s m args below meth c H locs cells slots Q (F0 m pc ls (.ref (r.2.2.1 (200 + i)) :: rest)) := by
  subst hn
  obtain ⟨cell, h1, h2, h3, h4, h5, h6, h7⟩ := (K.2.2.2.2.2.2.2.2.2.1.1 i (by simpa using hi)).2.2.2
  exact W.alen (n := Int32.ofNat (lenS.getD i 0)) K.1 K.2.1 (by rw [hM.2.2.1 _ (Array.getElem?_eq_some_iff.mp h1).1 h7]; exact h1) h2 h5 rfl rfl hdg kk
theorem s_bald (K : gC p s m args meth c cc nL own r A) (hM : gM g r A σ s.heap H locs) (i : Nat) (hi : Nat.blt i 4 = true) {n : Nat} (hn : lenS.getD i 0 = n) {j : Int32} (hin : vp_in j n) (hdg : decode cc pc = .ok (.baload, 1))
    (kk : W p l e R s m args below meth c H locs cells slots Q (F0 m (pc + 1) ls (.int ((bytS.getD i []).getD j.toNatClampNeg 0) :: rest))) : W p l e R s m args below meth c H locs cells slots Q (F0 m pc ls (.int j :: .ref (r.2.2.1 (200 + i)) :: rest)) := by
  subst hn
  exact va_tb K.1 K.2.1 (K.2.2.2.2.2.2.2.2.2.1.1 i (by simpa using hi)).2.2.2 hM.2 hin rfl hdg kk
theorem s_value (K : gC p s m args meth c cc nL own r A) (hM : gM g r A σ s.heap H locs) (i : Nat) (hi : Nat.blt i 4 = true) (hl : Cond.fieldLink own index "java/lang/String" "value" "[B" ∈ lw_all) (hdg : decode cc pc = .ok (.getfield index, 3))
    (kk : W p l e R s m args below meth c H locs cells slots Q (F0 m (pc + 3) ls (.ref (r.2.2.1 (200 + i)) :: rest))) : W p l e R s m args below meth c H locs cells slots Q (F0 m pc ls (.ref (r.2.2.1 (100 + i)) :: rest)) :=
  vk_getf K.1 K.2.1 (K.2.2.2.2.2.2.2.2.2.1.1 i (by simpa using hi)).2.2.1 hM.2 K.2.2.2.1 (K.2.2.2.2.1 _ hl) (fun _ h => h) hdg kk
theorem s_coder (K : gC p s m args meth c cc nL own r A) (hM : gM g r A σ s.heap H locs) (i : Nat) (hi : Nat.blt i 4 = true) (hl : Cond.fieldLink own index "java/lang/String" "coder" "B" ∈ lw_all) (hdg : decode cc pc = .ok (.getfield index, 3))
    (kk : W p l e R s m args below meth c H locs cells slots Q (F0 m (pc + 3) ls (.int 0 :: rest))) : W p l e R s m args below meth c H locs cells slots Q (F0 m pc ls (.ref (r.2.2.1 (100 + i)) :: rest)) :=
  vk_getf K.1 K.2.1 (K.2.2.2.2.2.2.2.2.2.1.1 i (by simpa using hi)).2.1 hM.2 K.2.2.2.1 (K.2.2.2.2.1 _ hl) (fun _ h => h) hdg kk
theorem s_compact (K : gC p s m args meth c cc nL own r A) (hM : gM g r A σ s.heap H locs) (hl : Cond.fieldLink own index "java/lang/String" "COMPACT_STRINGS" "Z" ∈ lw_all) (hdg : decode cc pc = .ok (.getstatic index, 3))
    (kk : W p l e R s m args below meth c H locs cells slots Q (F0 m (pc + 3) ls (.int 1 :: rest))) : W p l e R s m args below meth c H locs cells slots Q (F0 m pc ls rest) :=
  va_gets K.1 K.2.1 K.2.2.2.2.2.2.2.2.2.2.2.2.2.2.1 hM.2 K.2.2.2.1 (K.2.2.2.2.1 _ hl) (fun _ h => h) hdg kk
/-- a call on a String constant -/
theorem rStr (i : Nat) (As rest : List Value) (K : gC p s m args meth c cc nL own r A) (hM : gM g r A σ s.heap H locs) (hl : lv_has ls nL lv) (hi : Nat.blt i 4 = true) (Y : gMet g l y code nY ret fr lo mc ms r A σ (.ref (r.2.2.1 (100 + i)) :: As) Z)
    (q1 : Cond.methodLink own index y ∈ lw_all) (q2 : Cond.instanceMethod y ∈ lw_all) (q3 : Cond.selects "java/lang/String" y y ∈ lw_all) (q4 : Cond.initialized "java/lang/String" ∈ lw_all) (q5 : Cond.code y code nY ret ∈ lw_all)
    (hd : y.cls = "java/lang/String" ∧ y.cls ≠ "java/lang/invoke/MethodHandle" ∧ y.cls ≠ "java/lang/invoke/VarHandle" ∧ (parseMethodDescriptor y.desc).map (fun d => d.parameters.length) = some As.length)
    (hR : fr + 1 ≤ R.frames ∧ 8 + (nY + 11) + lo ≤ R.locals) (hf : cells + mc ≤ R.cells ∧ slots + ms ≤ R.slots) (hst : st0 = As.reverse ++ .ref (r.2.2.1 (100 + i)) :: rest) (hw : (rest.map fun v => v.category).sum ≤ 8) (hdg : decode cc pc = .ok (.invokevirtual index, 3)) :
    va_Run p l e R s m args below meth c H locs cells slots mc ms (F0 m pc ls st0) rest (gEnd g r A Z (Value.ref (r.2.2.1 (100 + i)) :: As).toArray) A := by
  subst hst
  exact va_runV (As := As) (rest := rest) ⟨K.1, K.2.1, K.2.2.1, K.2.2.2.1, K.2.2.2.2.1⟩ Y (cwV As.length K.2.2.2.2.1 (lw_V q1 q2 q3 q4 q5) rfl rfl rfl hd hR) ⟨g_blind, vk_recv (adK := fun i => r.2.2.1 (100 + i)) (adV := fun i => r.2.2.1 (200 + i)) (i := i) K.2.2.2.2.2.2.2.2.2.1 (by simpa using hi) hM.2, g_pre K hM⟩ rfl rfl hl.1 rfl (lv_room hw) hdg hf
theorem g_retb {P : GS → Int32 → Prop} {v : Int32} (K : gC p s m args meth c cc nL own r A) (hr : meth.sig.returnType = some .byte) (hM : gM g r A σ s.heap H locs) (hc : cells ≤ mc ∧ slots ≤ ms) (hz : narrow .byte (.int v) = .int v) (hp : P σ v) (hdg : decode cc pc = .ok (.ireturn, 1)) : W p l e R s m args below meth c H locs cells slots (MQ below (gEnd g r A (zI P)) args s mc ms A) (F0 m pc ls [.int v]) :=
  W.widen hc.1 hc.2 (W.zret K.1 K.2.1 hr hz (fun t ht _ => ⟨⟨σ, _, rfl, ⟨v, rfl, hp⟩, by rw [ht]; exact hM.1⟩, hM.2.F ht⟩) hM.2.2.2 hdg K.2.2.2.2.2.1)
end STRS

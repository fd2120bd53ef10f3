/-! calls through an interface; references stored where a class above is kept -/
section IFACE
variable {p : Program} {l : Launch} {e : Env} {R : Room} {s : State} {m : MethodId} {args : Array Value} {below : List Frame} {meth : Method} {c : Code} {H : Heap} {locs : List Loc} {cells slots : Nat} {Q : State → Prop}
variable {cc : ByteArray} {nL pc index : Nat} {ls : Array Slot} {own : String} {r : GR} {g : GD} {A : Nat → Prop} {σ : GS} {C : String} {T : u_T} {N : Nat} {ty : Nat → FieldType} {ci b : Nat}
variable {x y : MethodName} {code : ByteArray} {nY fr lo mc ms : Nat} {ret : Option FieldType} {st0 : List Value} {lv : List (Nat × Value)} {Z : GS → Option Value → Prop} {rest0 : List Value} {a : Array Value}
theorem g_run5i {P : GS → Int32 → Prop} (hr : va_Run5 p l e R s m args below meth c H locs cells slots mc ms (F0 m pc ls st0) rest0 (gEnd g r A (zI P) a) A) (hM : gM g r A σ s.heap H locs)
    (kk : ∀ (σ1 : GS) (x : Int32) (H1 : Heap) (locs1 : List Loc), P σ1 x → gM g r A σ1 s.heap H1 locs1 → W p l e R s m args below meth c H1 locs1 (cells + mc) (slots + ms) Q (F0 m (pc + 5) ls (.int x :: rest0))) : W p l e R s m args below meth c H locs cells slots Q (F0 m pc ls st0) := by
  intro T hT X
  obtain ⟨v, st₀, t, T', L, h0, X', hL, e1, e2, ⟨⟨σ1, v1, hv, hz, hg⟩, hz1, hk1⟩, st⟩ := hr T hT X
  cases hv
  obtain ⟨x, rfl, hz⟩ := hz
  rw [h0] at hz1 hk1
  have hS := hM.2
  obtain ⟨t2, a1, b1⟩ := kk σ1 x T'.heap (locs ++ L) hz ⟨by rw [e1]; exact hg, Nat.le_trans hS.1 (by rw [e1]; exact hz1), fun q h1 h2 => by rw [e1, hk1 q (Nat.lt_of_lt_of_le h1 hS.1) h2]; exact hS.2.1 q h1 h2, fun q hq => by
      rcases List.mem_append.mp hq with h | h
      · exact hS.2.2 q h
      · exact hL q h⟩ T' rfl X'
  exact ⟨t2, st t2 a1, b1⟩
theorem lw_F (h1 : Cond.methodLink own index x ∈ lw_all) (h3 : Cond.selects C x y ∈ lw_all) (h4 : Cond.instanceMethod y ∈ lw_all) (h5 : Cond.initialized y.cls ∈ lw_all) (h6 : Cond.code y code nY ret ∈ lw_all) : GoodIn lw_all (va_wsF own index C x y (ws_ y code nY ret)) := by
  refine lw_app ?_ (lw_meth h6)
  intro w hw
  simp only [List.mem_cons, List.not_mem_nil, or_false] at hw
  rcases hw with e | e | e | e
  · rw [e]; exact h1
  · rw [e]; exact h3
  · rw [e]; exact h4
  · rw [e]; exact h5
theorem rF {count : Nat} (As rest : List Value) (K : gC p s m args meth c cc nL own r A) (X : gY ci C T N ty) (hM : gM g r A σ s.heap H locs) (hl : lv_has ls nL lv) {fs : List Value} (hb : gO σ b = some (.inr (ci, fs))) (Y : gMet g l y code nY ret fr lo mc ms r A σ (.ref b :: As) Z)
    (h1 : Cond.methodLink own index x ∈ lw_all) (hF : (C, x, y) ∈ fwL) (h3 : Cond.selects C x y ∈ lw_all) (h4 : Cond.instanceMethod y ∈ lw_all) (h5 : Cond.initialized y.cls ∈ lw_all) (h6 : Cond.code y code nY ret ∈ lw_all)
    (hd : x.cls ≠ "java/lang/invoke/MethodHandle" ∧ x.cls ≠ "java/lang/invoke/VarHandle" ∧ (parseMethodDescriptor x.desc).map (fun d => d.parameters.length) = some As.length)
    (hR : fr + 1 ≤ R.frames ∧ 8 + (nY + 11) + lo ≤ R.locals) (hf : cells + mc ≤ R.cells ∧ slots + ms ≤ R.slots) (hst : st0 = As.reverse ++ .ref b :: rest) (hw : (rest.map fun v => v.category).sum ≤ 8) (hdg : decode cc pc = .ok (.invokeinterface index count, 5)) :
    va_Run5 p l e R s m args below meth c H locs cells slots mc ms (F0 m pc ls st0) rest (gEnd g r A Z (Value.ref b :: As).toArray) A := by
  subst hst
  exact va_runF (As := As) (rest := rest) (K.2.2.2.2.2.2.1.1 ci _ X.1).2 ⟨K.1, K.2.1, K.2.2.1, K.2.2.2.1, K.2.2.2.2.1⟩ Y (va_cwF As.length K.2.2.2.2.1 (lw_F h1 h3 h4 h5 h6) rfl rfl rfl (K.2.2.2.2.2.2.2.2.1.2.1 _ hF) hd hR) ⟨g_blind, va_recv (q0 := 0) K.2.2.2.2.2.2.1 (g_one (hM.1.2.2.1 b _ hb)) X.1 rfl, g_pre K hM⟩ rfl rfl hl.1 rfl (lv_room hw) hdg hf
theorem g_caseq {x : Option Nat} {rest : List Value} (kt : x = none → W p l e R s m args below meth c H locs cells slots Q (F0 m pc ls (.null :: rest))) (kf : ¬ x = none → W p l e R s m args below meth c H locs cells slots Q (F0 m pc ls (va_rf x :: rest))) : W p l e R s m args below meth c H locs cells slots Q (F0 m pc ls (va_rf x :: rest)) := by
  by_cases h : x = none
  · have k := kt h
    subst h
    exact k
  · exact kf h
/-- stored where a class above is kept -/
theorem g_aastC (K : gC p s m args meth c cc nL own r A) (Y : gY ci C T N ty) (hM : gM g r A σ s.heap H locs) (k : Nat) (hk : gB g k = true) (hf : g.2.2.1 k = 4) {tk : Nat} (ht : g.2.2.2.2 k = tk) {E : String} (htv : (gT r)[tk]? = some (r.2.2.2 tk, .object E)) (hca : Cond.castable C E ∈ lw_tbl) {i : Int32} {rest : List Value} {fs : List Value} (hb : gO σ b = some (.inr (ci, fs))) (hin : vp_in i (g.2.2.2.1 k)) (hdg : decode cc pc = .ok (.aastore, 1))
    (kk : ∀ (H1 : Heap) (locs1 : List Loc) (σ1 : GS), σ1 = sQ σ k i.toNatClampNeg (some b) → gM g r A σ1 s.heap H1 locs1 → W p l e R s m args below meth c H1 locs1 cells slots Q (F0 m (pc + 1) ls rest)) : W p l e R s m args below meth c H locs cells slots Q (F0 m pc ls (.ref b :: .int i :: .ref (r.2.2.1 k) :: rest)) := by
  have hE := hM.1.2.1 k hk
  unfold gE at hE
  rw [hf, ht] at hE
  have hlt : i.toNatClampNeg < g.2.2.2.1 k := Nat.not_le.mp fun q => hin (Or.inr q)
  have h0 : ¬ i < 0 := fun q => hin (Or.inl q)
  have hK := K.2.2.2.2.2.2.1
  obtain ⟨r', hr', cellV, g1, g2, g3, -⟩ := hM.1.2.2.1 b _ hb
  have hcls := (hK.1 ci _ Y.1).2
  obtain ⟨kA, comp, k1, k2, k3, -⟩ := (hK.2 tk _ htv).2
  obtain ⟨kE, hkE, -⟩ := Vm.findClass_spec k3
  obtain ⟨c0, t1, f1, f2, f3⟩ := Cond.castable_spec (va_Nw.use (A := args) rfl (K.2.2.2.2.2.2.2.2.1.1 _ hca rfl))
  cases hcls.1.symm.trans f1
  cases k3.symm.trans f2
  obtain ⟨kC, hkC, -⟩ := hcls.2
  refine W.aast K.1 K.2.1 hE (fun q h => by cases h) (fun h => by cases h) k1 k2 rfl hkE ⟨h0, by show _ < (arrV _ _ _).slots.size; rw [arrV_size]; exact hlt⟩ g1 (fun q h => by rw [g3] at h; cases h) (by rw [g2]; exact hkC) (by rw [g2]; exact f3) rfl rfl hdg fun H1 e z oq => ?_
  refine kk H1 _ _ rfl ⟨gS_arr hM.1 hk ?_ oq rfl (fun j hj => gE_sQ_ne hj) rfl, hM.2.put z oq (hM.1.2.2.2.2.2.2.2.2.1 k hk)⟩
  unfold gE gV
  rw [hf, ht, gQ_sQ, if_pos rfl]
  show H1[r.2.2.1 k]? = some (vp_cell (r.2.2.2 tk) (g.2.2.2.1 k, .inr (.inr (.inr (.inr (va_up (gQ σ k) i.toNatClampNeg (some b)))))))
  rw [e]
  show some ((vp_cell (r.2.2.2 tk) (g.2.2.2.1 k, .inr (.inr (.inr (.inr (gQ σ k)))))).setSlot i.toNatClampNeg (.ref b)) = _
  rw [vp_cell_q, vp_cell_q, arrV_store]
  congr 2
  funext q
  by_cases hq : q = i.toNatClampNeg
  · subst hq
    simp [updV, va_up, va_rf]
  · simp [updV, va_up, hq]
end IFACE

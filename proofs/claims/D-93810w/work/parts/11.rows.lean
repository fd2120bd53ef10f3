/-! ROWS over the base: single cells; the fixed object and its arrays; calls; ends -/
theorem g_one {D : va_G} {cl : List vw_C} {q : Nat × va_E} {H : Heap} (h : va_at D cl q H) : va_P D cl [q] H := by
  intro k x hx
  have hz : k < 1 := (List.getElem?_eq_some_iff.mp hx).1
  rw [show k = 0 by omega] at hx
  cases hx
  exact h
theorem gI_ext {σ σ' : GS} (h : ∀ k, gI σ k = gI σ' k) : gI σ = gI σ' := funext h
/-- a write to the object's own cell -/
theorem gS_obj {g : GD} {r : GR} {A : Nat → Prop} {σ σ' : GS} {H H1 : Heap} (hN : 0 < g.2.1) (h : gS g r A σ H) (ho : va_at r.1 vwCl (r.2.1, .inr (g.1, gF g r σ')) H1) (oq : ∀ q : Nat, q ≠ r.2.1 → H1[q]? = H[q]?) (hA : gA σ = gA σ') (hL : gL σ = gL σ') (hQ : gQ σ = gQ σ') (hO : gO σ = gO σ') : gS g r A σ' H1 := by
  obtain ⟨h1, h2, h3, h4, h5, h6, h7, h8, h9, h10⟩ := h
  have hE : ∀ k, gE g r σ k = gE g r σ' k := fun k => by
    unfold gE gV
    rw [hA, hL, hQ]
  rw [hO] at h3 h6 h7 h10
  refine ⟨fun _ => ho, fun k hk => ?_, fun a e ha => ?_, h4, h5, h6, h7, h8, h9, h10⟩
  · rw [← hE k]
    exact (h2 k hk).kept (oq _ (h5 hN k hk))
  · refine (h3 a e ha).kept (oq _ ?_)
    intro z
    have z : a = r.2.1 := z
    rw [z, h6 hN] at ha
    cases ha
/-- a write to one of its arrays -/
theorem gS_arr {g : GD} {r : GR} {A : Nat → Prop} {σ σ' : GS} {H H1 : Heap} (h : gS g r A σ H) {k : Nat} (hk : gB g k = true) (ho : va_at r.1 vwCl (r.2.2.1 k, gE g r σ' k) H1) (oq : ∀ q : Nat, q ≠ r.2.2.1 k → H1[q]? = H[q]?) (hI : gI σ = gI σ') (hE : ∀ j, j ≠ k → gE g r σ j = gE g r σ' j) (hO : gO σ = gO σ') : gS g r A σ' H1 := by
  obtain ⟨h1, h2, h3, h4, h5, h6, h7, h8, h9, h10⟩ := h
  rw [hO] at h3 h6 h7 h10
  refine ⟨fun hN => ?_, fun j hj => ?_, fun a e ha => ?_, h4, h5, h6, h7, h8, h9, h10⟩
  · rw [← gF_of hI]
    exact (h1 hN).kept (oq _ (Ne.symm (h5 hN k hk)))
  · by_cases hjk : j = k
    · subst hjk
      exact ho
    · rw [← hE j hjk]
      exact (h2 j hj).kept (oq _ (fun z => hjk (h4 j k hj hk z)))
  · refine (h3 a e ha).kept (oq _ ?_)
    intro z
    have z : a = r.2.2.1 k := z
    rw [z, h7 k hk] at ha
    cases ha
theorem gX_pos {g : GD} {C : String} {T : u_T} {N : Nat} {ty : Nat → FieldType} (X : gX g C T N ty) {k : Nat} (hk : Nat.blt k N = true) : 0 < g.2.1 := by
  rw [X.2.1]
  have : k < N := by simpa using hk
  omega
section GROWS
variable {p : Program} {l : Launch} {e : Env} {R : Room} {s : State} {m : MethodId} {args : Array Value} {below : List Frame} {meth : Method} {c : Code} {H : Heap} {locs : List Loc} {cells slots : Nat} {Q : State → Prop}
variable {cc : ByteArray} {nL pc index : Nat} {ls : Array Slot} {rest : List Value} {own : String} {r : GR} {g : GD} {A : Nat → Prop} {σ : GS} {C : String} {T : u_T} {N : Nat} {ty : Nat → FieldType}
theorem g_get0 (K : gC p s m args meth c cc nL own r A) (X : gX g C T N ty) (hM : gM g r A σ s.heap H locs) (k : Nat) (hk : Nat.blt k N = true) {ref : String} (hl : Cond.fieldLink own index ref (T k).2.1 (T k).2.2.1 ∈ lw_all) (hr : (T k).1 = ref) (hdg : decode cc pc = .ok (.getfield index, 3)) {v : Value} (hv : (gF g r σ)[k]? = some v)
    (kk : W p l e R s m args below meth c H locs cells slots Q (F0 m (pc + 3) ls (v :: rest))) : W p l e R s m args below meth c H locs cells slots Q (F0 m pc ls (.ref r.2.1 :: rest)) := by
  subst hr
  exact va_get K.1 K.2.1 K.2.2.2.2.1 X.2.2.1 K.2.2.2.1 K.2.2.2.2.2.2.1 (g_one (hM.1.1 (gX_pos X hk))) 0 rfl X.1 k (by simpa using hk) (K.2.2.2.2.1 _ hl) (fun _ h => h) hv hdg kk
theorem g_geti (K : gC p s m args meth c cc nL own r A) (X : gX g C T N ty) (hM : gM g r A σ s.heap H locs) (k : Nat) (hk : Nat.blt k N = true) {ref : String} (hl : Cond.fieldLink own index ref (T k).2.1 (T k).2.2.1 ∈ lw_all) (hr : (T k).1 = ref) (hdg : decode cc pc = .ok (.getfield index, 3)) (hf : g.2.2.1 k = 0)
    (kk : W p l e R s m args below meth c H locs cells slots Q (F0 m (pc + 3) ls (.int (gI σ k) :: rest))) : W p l e R s m args below meth c H locs cells slots Q (F0 m pc ls (.ref r.2.1 :: rest)) :=
  g_get0 K X hM k hk hl hr hdg (by rw [gF_at (by rw [X.2.1]; simpa using hk), if_pos hf]) kk
theorem g_geta (K : gC p s m args meth c cc nL own r A) (X : gX g C T N ty) (hM : gM g r A σ s.heap H locs) (k : Nat) (hk : Nat.blt k N = true) {ref : String} (hl : Cond.fieldLink own index ref (T k).2.1 (T k).2.2.1 ∈ lw_all) (hr : (T k).1 = ref) (hdg : decode cc pc = .ok (.getfield index, 3)) (hf : Nat.beq (g.2.2.1 k) 0 = false)
    (kk : W p l e R s m args below meth c H locs cells slots Q (F0 m (pc + 3) ls (.ref (r.2.2.1 k) :: rest))) : W p l e R s m args below meth c H locs cells slots Q (F0 m pc ls (.ref r.2.1 :: rest)) :=
  g_get0 K X hM k hk hl hr hdg (by rw [gF_at (by rw [X.2.1]; simpa using hk), if_neg (by intro h; rw [h] at hf; cases hf)]) kk
/-- a field of an object is written: single cell -/
theorem x_put (K : gC p s m args meth c cc nL own r A) {ref : String} {ci a : Nat} {fs : List Value} (hin : ∀ w ∈ u_ws C T N, w ∈ lw_all) (hty : ∀ k, k < N → parseFieldDescriptor (T k).2.2.1 = some (ty k)) (hnm : ∀ a, a < N → ∀ b, b < N → a ≠ b → (T a).2.1 ≠ (T b).2.1) (hat : va_at r.1 vwCl (a, .inr (ci, fs)) H) (hc : vwCl[ci]? = some (C, T, N)) (k : Nat) (hk : k < N) (hlink : (Cond.fieldLink own index ref (T k).2.1 (T k).2.2.1).before args s = true) (hsame : ∀ x, s.fieldFound? (T k).1 (T k).2.1 (T k).2.2.1 = some x → s.fieldFound? ref (T k).2.1 (T k).2.2.1 = some x) (hfin : (T k).2.2.2 = false) {tv : FieldType} {v : Value} (hd : parseFieldDescriptor (T k).2.2.1 = some tv) (hn : narrow tv v = v) (hfit : fits tv v = true) (hl : k < fs.length)
    (hdg : decode cc pc = .ok (.putfield index, 3)) (kk : ∀ (H1 : Heap) (i : Nat), va_at r.1 vwCl (a, .inr (ci, fs.set k v)) H1 → H1.size = H.size → (∀ q : Nat, q ≠ a → H1[q]? = H[q]?) → W p l e R s m args below meth c H1 (locs ++ [⟨a, i⟩]) cells slots Q (F0 m (pc + 3) ls rest)) : W p l e R s m args below meth c H locs cells slots Q (F0 m pc ls (v :: .ref a :: rest)) := by
  obtain ⟨hexec, hb, hml, hown, hts, hlk, hK, hA⟩ := K
  have hap := va_apart (own := own) hts hin ty hty hnm hK hc
  obtain ⟨r', h1, cell, q1, q2, q3, q4⟩ := hat
  have hr : r' = (C, T, N) := Option.some.inj (h1.symm.trans hc)
  subst hr
  obtain ⟨hS, hfc, kC, hkC, hkind⟩ := hK.1 ci _ hc
  obtain ⟨cf, kf, fi, f, hi, hsl⟩ := hS k hk
  have hlay := hts _ (hin _ (u_in_lay hk))
  unfold u_lay at hlay
  rw [if_neg (by rw [hfin]; decide)] at hlay
  have hst := (u_facts hfc hkC (u_lays hts hin hk) hi).1
  have h6 := u_store hfc hkC hkind hlay hi hd hn hfit
  refine W.putK hexec hb (f := f) ⟨hown, hlink, ⟨_, _, _, hsame _ hi⟩, hst⟩ (by rw [q2]; exact h6) q1 q3 (by rw [hsl]; exact k2_hasslot (q4 k hk)) rfl rfl hdg fun H' e1 e2 e3 => ?_
  rw [hsl] at e1 ⊢
  exact kk H' _ ⟨_, hc, t_OB.to (V := updV (vp_V fs) k v) ⟨_, e1, q2, q3, t_set q4 hap hk v⟩ (fun j _ => vp_updV_set hl v j)⟩ e2 e3
theorem g_puti (K : gC p s m args meth c cc nL own r A) (X : gX g C T N ty) (hM : gM g r A σ s.heap H locs) (k : Nat) (hk : Nat.blt k N = true) {ref : String} (hl : Cond.fieldLink own index ref (T k).2.1 (T k).2.2.1 ∈ lw_all) (hr : (T k).1 = ref) (hdg : decode cc pc = .ok (.putfield index, 3)) (hf : g.2.2.1 k = 0) (hfin : (T k).2.2.2 = false) (hd : ty k = .int) {v : Int32}
    (kk : ∀ (H1 : Heap) (locs1 : List Loc), gM g r A (sI σ k v) s.heap H1 locs1 → W p l e R s m args below meth c H1 locs1 cells slots Q (F0 m (pc + 3) ls rest)) : W p l e R s m args below meth c H locs cells slots Q (F0 m pc ls (.int v :: .ref r.2.1 :: rest)) := by
  subst hr
  have hk' : k < N := by simpa using hk
  have hkg : k < g.2.1 := by rw [X.2.1]; exact hk'
  refine x_put K X.2.2.1 X.2.2.2.1 X.2.2.2.2 (hM.1.1 (gX_pos X hk)) X.1 k hk' (K.2.2.2.2.1 _ hl) (fun _ h => h) hfin (tv := .int) (by rw [X.2.2.2.1 k hk', hd]) (vp_nar_int v) rfl (by rw [gF_len]; exact hkg) hdg fun H1 i e1 e2 e3 => ?_
  refine kk H1 _ ⟨gS_obj (gX_pos X hk) hM.1 ?_ e3 rfl rfl rfl rfl, hM.2.put e2 e3 (hM.1.2.2.2.2.2.2.2.1 (gX_pos X hk))⟩
  rw [← gF_sI hkg hf]
  exact e1
/-- arrays read -/
theorem g_iald (K : gC p s m args meth c cc nL own r A) (hM : gM g r A σ s.heap H locs) (k : Nat) (hk : gB g k = true) (hf : g.2.2.1 k = 1) (ht : g.2.2.2.2 k = 0) {i : Int32} (hin : vp_in i (g.2.2.2.1 k)) (hdg : decode cc pc = .ok (.iaload, 1))
    (kk : W p l e R s m args below meth c H locs cells slots Q (F0 m (pc + 1) ls (.int (gA σ k i.toNatClampNeg) :: rest))) : W p l e R s m args below meth c H locs cells slots Q (F0 m pc ls (.int i :: .ref (r.2.2.1 k) :: rest)) := by
  have h := hM.1.2.1 k hk
  unfold gE at h
  rw [hf, ht] at h
  exact va_iald K.1 K.2.1 K.2.2.2.2.2.2.1 (g_one h) 0 0 rfl rfl hin hdg kk
theorem g_lald (K : gC p s m args meth c cc nL own r A) (hM : gM g r A σ s.heap H locs) (k : Nat) (hk : gB g k = true) (hf : g.2.2.1 k = 2) (ht : g.2.2.2.2 k = 1) {i : Int32} (hin : vp_in i (g.2.2.2.1 k)) (hdg : decode cc pc = .ok (.laload, 1))
    (kk : W p l e R s m args below meth c H locs cells slots Q (F0 m (pc + 1) ls (.long (gL σ k i.toNatClampNeg) :: rest))) : W p l e R s m args below meth c H locs cells slots Q (F0 m pc ls (.int i :: .ref (r.2.2.1 k) :: rest)) := by
  have h := hM.1.2.1 k hk
  unfold gE at h
  rw [hf, ht] at h
  exact va_lald K.1 K.2.1 K.2.2.2.2.2.2.1 (g_one h) 0 1 rfl rfl hin hdg kk
theorem g_bald (K : gC p s m args meth c cc nL own r A) (hM : gM g r A σ s.heap H locs) (k : Nat) (hk : gB g k = true) (hf : g.2.2.1 k = 3) (ht : g.2.2.2.2 k = 2) {i : Int32} (hin : vp_in i (g.2.2.2.1 k)) (hdg : decode cc pc = .ok (.baload, 1))
    (kk : W p l e R s m args below meth c H locs cells slots Q (F0 m (pc + 1) ls (.int (gA σ k i.toNatClampNeg) :: rest))) : W p l e R s m args below meth c H locs cells slots Q (F0 m pc ls (.int i :: .ref (r.2.2.1 k) :: rest)) := by
  have h := hM.1.2.1 k hk
  unfold gE at h
  rw [hf, ht] at h
  exact va_bald K.1 K.2.1 K.2.2.2.2.2.2.1 (g_one h) 0 2 rfl rfl hin hdg kk
theorem g_alen (K : gC p s m args meth c cc nL own r A) (hM : gM g r A σ s.heap H locs) (k : Nat) (hk : gB g k = true) {tk : Nat} (ht : g.2.2.2.2 k = tk) {tv : FieldType} (htv : (gT r)[tk]? = some (r.2.2.2 tk, tv)) {v : Int32} (hv : Int32.ofNat (g.2.2.2.1 k) = v) (hdg : decode cc pc = .ok (.arraylength, 1))
    (kk : W p l e R s m args below meth c H locs cells slots Q (F0 m (pc + 1) ls (.int v :: rest))) : W p l e R s m args below meth c H locs cells slots Q (F0 m pc ls (.ref (r.2.2.1 k) :: rest)) := by
  have h := hM.1.2.1 k hk
  unfold gE at h
  rw [ht] at h
  exact va_alen K.1 K.2.1 K.2.2.2.2.2.2.1 (g_one h) 0 tk rfl htv hv hdg kk
/-- arrays written: single cells -/
theorem x_iast (K : gC p s m args meth c cc nL own r A) {a : Nat} {cA : ClassId} {n t0 : Nat} {f : Nat → Int32} (ha : va_at r.1 vwCl (a, .inl (cA, n, .inl f)) H) (ht : (gT r)[t0]? = some (cA, .int)) {i : Int32} {x : Int32} (hin : vp_in i n) (hdg : decode cc pc = .ok (.iastore, 1))
    (kk : ∀ H1 : Heap, va_at r.1 vwCl (a, .inl (cA, n, .inl (upd f i.toNatClampNeg x))) H1 → H1.size = H.size → (∀ q : Nat, q ≠ a → H1[q]? = H[q]?) → W p l e R s m args below meth c H1 (locs ++ [⟨a, i.toNatClampNeg⟩]) cells slots Q (F0 m (pc + 1) ls rest)) : W p l e R s m args below meth c H locs cells slots Q (F0 m pc ls (.int x :: .int i :: .ref a :: rest)) := by
  refine W.iast K.1 K.2.1 ha ((K.2.2.2.2.2.2.1.2 t0 _ ht).1 n (fun j => .int (f j))) (fun q => by cases q) (by show ¬ (i < 0 ∨ (arrV _ _ _).slots.size ≤ _); rw [arrV_size]; exact hin) rfl rfl hdg fun H1 e z oq => ?_
  refine kk H1 ?_ z oq
  show H1[a]? = some (vp_cell _ _)
  rw [e]
  rw [vp_cell_i, vp_cell_i, arrV_store]
  congr 2
  funext q
  by_cases hq : q = i.toNatClampNeg
  · subst hq
    simp [updV, upd]
  · simp [updV, upd, hq]
theorem x_bast (K : gC p s m args meth c cc nL own r A) {a : Nat} {cA : ClassId} {n t0 : Nat} {f : Nat → Int32} (ha : va_at r.1 vwCl (a, .inl (cA, n, .inl f)) H) (ht : (gT r)[t0]? = some (cA, .byte)) {i : Int32} {x : Int32} (hin : vp_in i n) (hdg : decode cc pc = .ok (.bastore, 1))
    (kk : ∀ H1 : Heap, va_at r.1 vwCl (a, .inl (cA, n, .inl (upd f i.toNatClampNeg (vp_nar .byte x)))) H1 → H1.size = H.size → (∀ q : Nat, q ≠ a → H1[q]? = H[q]?) → W p l e R s m args below meth c H1 (locs ++ [⟨a, i.toNatClampNeg⟩]) cells slots Q (F0 m (pc + 1) ls rest)) : W p l e R s m args below meth c H locs cells slots Q (F0 m pc ls (.int x :: .int i :: .ref a :: rest)) := by
  refine W.bast K.1 K.2.1 ha ((K.2.2.2.2.2.2.1.2 t0 _ ht).1 n (fun j => .int (f j))) (fun q => by cases q) (by show ¬ (i < 0 ∨ (arrV _ _ _).slots.size ≤ _); rw [arrV_size]; exact hin) rfl rfl hdg fun H1 e z oq => ?_
  refine kk H1 ?_ z oq
  show H1[a]? = some (vp_cell _ _)
  rw [e]
  rw [vp_cell_i, vp_cell_i, arrV_store]
  congr 2
  funext q
  by_cases hq : q = i.toNatClampNeg
  · subst hq
    simp [updV, upd, vp_nar]
    try rfl
  · simp [updV, upd, hq]
theorem x_last (K : gC p s m args meth c cc nL own r A) {a : Nat} {cA : ClassId} {n t0 : Nat} {f : Nat → Int64} (ha : va_at r.1 vwCl (a, .inl (cA, n, .inr (.inl f))) H) (ht : (gT r)[t0]? = some (cA, .long)) {i : Int32} {x : Int64} (hin : vp_in i n) (hdg : decode cc pc = .ok (.lastore, 1))
    (kk : ∀ H1 : Heap, va_at r.1 vwCl (a, .inl (cA, n, .inr (.inl (vp_updL f i.toNatClampNeg x)))) H1 → H1.size = H.size → (∀ q : Nat, q ≠ a → H1[q]? = H[q]?) → W p l e R s m args below meth c H1 (locs ++ [⟨a, i.toNatClampNeg⟩]) cells slots Q (F0 m (pc + 1) ls rest)) : W p l e R s m args below meth c H locs cells slots Q (F0 m pc ls (.long x :: .int i :: .ref a :: rest)) := by
  refine W.last K.1 K.2.1 ha ((K.2.2.2.2.2.2.1.2 t0 _ ht).1 n (fun j => .long (f j))) (fun q => by cases q) (by show ¬ (i < 0 ∨ (arrV _ _ _).slots.size ≤ _); rw [arrV_size]; exact hin) rfl rfl hdg fun H1 e z oq => ?_
  refine kk H1 ?_ z oq
  show H1[a]? = some (vp_cell _ _)
  rw [e]
  rw [vp_cell_l, vp_cell_l, arrV_store]
  congr 2
  funext q
  by_cases hq : q = i.toNatClampNeg
  · subst hq
    simp [updV, vp_updL]
  · simp [updV, vp_updL, hq]
theorem gE_sA_ne {k i j : Nat} {v : Int32} (h : j ≠ k) : gE g r σ j = gE g r (sA σ k i v) j := by
  unfold gE gV
  rw [gL_sA, gQ_sA, gA_sA, if_neg h]
theorem gE_sL_ne {k i j : Nat} {v : Int64} (h : j ≠ k) : gE g r σ j = gE g r (sL σ k i v) j := by
  unfold gE gV
  rw [gA_sL, gQ_sL, gL_sL, if_neg h]
theorem gE_sQ_ne {k i j : Nat} {v : Option Nat} (h : j ≠ k) : gE g r σ j = gE g r (sQ σ k i v) j := by
  unfold gE gV
  rw [gA_sQ, gL_sQ, gQ_sQ, if_neg h]
theorem g_iast (K : gC p s m args meth c cc nL own r A) (hM : gM g r A σ s.heap H locs) (k : Nat) (hk : gB g k = true) (hf : g.2.2.1 k = 1) (ht : g.2.2.2.2 k = 0) {i : Int32} {x : Int32} (hin : vp_in i (g.2.2.2.1 k)) (hdg : decode cc pc = .ok (.iastore, 1))
    (kk : ∀ (H1 : Heap) (locs1 : List Loc), gM g r A (sA σ k i.toNatClampNeg x) s.heap H1 locs1 → W p l e R s m args below meth c H1 locs1 cells slots Q (F0 m (pc + 1) ls rest)) : W p l e R s m args below meth c H locs cells slots Q (F0 m pc ls (.int x :: .int i :: .ref (r.2.2.1 k) :: rest)) := by
  have h := hM.1.2.1 k hk
  unfold gE at h
  rw [hf, ht] at h
  refine x_iast K h (t0 := 0) rfl hin hdg fun H1 e1 e2 e3 => ?_
  refine kk H1 _ ⟨gS_arr hM.1 hk ?_ e3 rfl (fun j hj => gE_sA_ne hj) rfl, hM.2.put e2 e3 (hM.1.2.2.2.2.2.2.2.2.1 k hk)⟩
  unfold gE gV
  rw [hf, ht, gA_sA, if_pos rfl]
  exact e1
theorem g_bast (K : gC p s m args meth c cc nL own r A) (hM : gM g r A σ s.heap H locs) (k : Nat) (hk : gB g k = true) (hf : g.2.2.1 k = 3) (ht : g.2.2.2.2 k = 2) {i : Int32} {x : Int32} (hin : vp_in i (g.2.2.2.1 k)) (hdg : decode cc pc = .ok (.bastore, 1))
    (kk : ∀ (H1 : Heap) (locs1 : List Loc), gM g r A (sA σ k i.toNatClampNeg (vp_nar .byte x)) s.heap H1 locs1 → W p l e R s m args below meth c H1 locs1 cells slots Q (F0 m (pc + 1) ls rest)) : W p l e R s m args below meth c H locs cells slots Q (F0 m pc ls (.int x :: .int i :: .ref (r.2.2.1 k) :: rest)) := by
  have h := hM.1.2.1 k hk
  unfold gE at h
  rw [hf, ht] at h
  refine x_bast K h (t0 := 2) rfl hin hdg fun H1 e1 e2 e3 => ?_
  refine kk H1 _ ⟨gS_arr hM.1 hk ?_ e3 rfl (fun j hj => gE_sA_ne hj) rfl, hM.2.put e2 e3 (hM.1.2.2.2.2.2.2.2.2.1 k hk)⟩
  unfold gE gV
  rw [hf, ht, gA_sA, if_pos rfl]
  exact e1
theorem g_last (K : gC p s m args meth c cc nL own r A) (hM : gM g r A σ s.heap H locs) (k : Nat) (hk : gB g k = true) (hf : g.2.2.1 k = 2) (ht : g.2.2.2.2 k = 1) {i : Int32} {x : Int64} (hin : vp_in i (g.2.2.2.1 k)) (hdg : decode cc pc = .ok (.lastore, 1))
    (kk : ∀ (H1 : Heap) (locs1 : List Loc), gM g r A (sL σ k i.toNatClampNeg x) s.heap H1 locs1 → W p l e R s m args below meth c H1 locs1 cells slots Q (F0 m (pc + 1) ls rest)) : W p l e R s m args below meth c H locs cells slots Q (F0 m pc ls (.long x :: .int i :: .ref (r.2.2.1 k) :: rest)) := by
  have h := hM.1.2.1 k hk
  unfold gE at h
  rw [hf, ht] at h
  refine x_last K h (t0 := 1) rfl hin hdg fun H1 e1 e2 e3 => ?_
  refine kk H1 _ ⟨gS_arr hM.1 hk ?_ e3 rfl (fun j hj => gE_sL_ne hj) rfl, hM.2.put e2 e3 (hM.1.2.2.2.2.2.2.2.2.1 k hk)⟩
  unfold gE gV
  rw [hf, ht, gL_sL, if_pos rfl]
  exact e1
/-! ends -/
theorem g_reti {P : GS → Int32 → Prop} {mc ms : Nat} {v : Int32} (K : gC p s m args meth c cc nL own r A) (hr : meth.sig.returnType = some .int) (hM : gM g r A σ s.heap H locs) (hc : cells ≤ mc ∧ slots ≤ ms) (hp : P σ v) (hdg : decode cc pc = .ok (.ireturn, 1)) : W p l e R s m args below meth c H locs cells slots (MQ below (gEnd g r A (zI P)) args s mc ms A) (F0 m pc ls [.int v]) :=
  W.widen hc.1 hc.2 (W.iret K.1 K.2.1 hr (fun t ht _ => ⟨⟨σ, _, rfl, ⟨v, rfl, hp⟩, by rw [ht]; exact hM.1⟩, hM.2.F ht⟩) hM.2.2.2 hdg K.2.2.2.2.2.1)
theorem g_retz {P : GS → Int32 → Prop} {mc ms : Nat} {v : Int32} (K : gC p s m args meth c cc nL own r A) (hr : meth.sig.returnType = some .boolean) (hM : gM g r A σ s.heap H locs) (hc : cells ≤ mc ∧ slots ≤ ms) (hz : gZ v) (hp : P σ v) (hdg : decode cc pc = .ok (.ireturn, 1)) : W p l e R s m args below meth c H locs cells slots (MQ below (gEnd g r A (zI P)) args s mc ms A) (F0 m pc ls [.int v]) :=
  W.widen hc.1 hc.2 (W.zret K.1 K.2.1 hr hz (fun t ht _ => ⟨⟨σ, _, rfl, ⟨v, rfl, hp⟩, by rw [ht]; exact hM.1⟩, hM.2.F ht⟩) hM.2.2.2 hdg K.2.2.2.2.2.1)
theorem g_retl {P : GS → Int64 → Prop} {mc ms : Nat} {v : Int64} (K : gC p s m args meth c cc nL own r A) (hr : meth.sig.returnType = some .long) (hM : gM g r A σ s.heap H locs) (hc : cells ≤ mc ∧ slots ≤ ms) (hp : P σ v) (hdg : decode cc pc = .ok (.lreturn, 1)) : W p l e R s m args below meth c H locs cells slots (MQ below (gEnd g r A (zL P)) args s mc ms A) (F0 m pc ls [.long v]) :=
  W.widen hc.1 hc.2 (W.lret K.1 K.2.1 hr (fun t ht _ => ⟨⟨σ, _, rfl, ⟨v, rfl, hp⟩, by rw [ht]; exact hM.1⟩, hM.2.F ht⟩) hM.2.2.2 hdg K.2.2.2.2.2.1)
theorem g_retv {P : GS → Prop} {mc ms : Nat} (K : gC p s m args meth c cc nL own r A) (hr : meth.sig.returnType = none) (hM : gM g r A σ s.heap H locs) (hc : cells ≤ mc ∧ slots ≤ ms) (hp : P σ) (hdg : decode cc pc = .ok (.return_, 1)) : W p l e R s m args below meth c H locs cells slots (MQ below (gEnd g r A (zV P)) args s mc ms A) (F0 m pc ls []) :=
  W.widen hc.1 hc.2 (W.vret K.1 K.2.1 hr (fun t ht _ => ⟨⟨σ, _, rfl, ⟨rfl, hp⟩, by rw [ht]; exact hM.1⟩, hM.2.F ht⟩) hM.2.2.2 hdg K.2.2.2.2.2.1)
/-! calls -/
theorem g_blind {av : List Value} : FrameBlind (gPre g r A σ av) := by
  intro a U f mk q
  obtain ⟨h1, h2, h3, h4, h5, h6⟩ := q
  exact ⟨h1, h2, h3, va_K.moved (u := U) (U := U.calling f mk a) (Vm.Alike.refl U.vm) h4, gN_same (s := U) (U := U.calling f mk a) rfl h5, gG_same (s := U) (U := U.calling f mk a) rfl rfl h6⟩
theorem g_pre {av : List Value} (K : gC p s m args meth c cc nL own r A) (hM : gM g r A σ s.heap H locs) : ∀ U : State, U.heap = H → s.WarmedH U.vm → gPre g r A σ av av.toArray U := by
  intro U hU hW
  refine ⟨rfl, by rw [hU]; exact hM.1, fun q hq => ?_, va_K.moved hW.alike K.2.2.2.2.2.2.1, gN_warm hW K.2.2.2.2.2.2.2.2.1, gG_warm hW (by rw [hU]; exact hM.2.2.1) K.2.2.2.2.2.2.2.2.2⟩
  rw [hU] at hq
  exact K.2.2.2.2.2.2.2.1 q (Nat.le_trans hM.2.1 hq)
theorem g_run {Z : GS → Option Value → Prop} {mc ms : Nat} {st0 : List Value} {a : Array Value} (hr : va_Run p l e R s m args below meth c H locs cells slots mc ms (F0 m pc ls st0) rest (gEnd g r A Z a) A) (hM : gM g r A σ s.heap H locs)
    (kk : ∀ (σ1 : GS) (v : Option Value) (H1 : Heap) (locs1 : List Loc), Z σ1 v → gM g r A σ1 s.heap H1 locs1 → W p l e R s m args below meth c H1 locs1 (cells + mc) (slots + ms) Q (F0 m (pc + 3) ls (v.toList ++ rest))) : W p l e R s m args below meth c H locs cells slots Q (F0 m pc ls st0) := by
  intro T hT X
  obtain ⟨v, st₀, t, T', L, h0, X', hL, e1, e2, ⟨⟨σ1, v1, hv, hz, hg⟩, hz1, hk1⟩, st⟩ := hr T hT X
  cases hv
  rw [h0] at hz1 hk1
  have hS := hM.2
  obtain ⟨t2, a1, b1⟩ := kk σ1 v T'.heap (locs ++ L) hz ⟨by rw [e1]; exact hg, Nat.le_trans hS.1 (by rw [e1]; exact hz1), fun q h1 h2 => by rw [e1, hk1 q (Nat.lt_of_lt_of_le h1 hS.1) h2]; exact hS.2.1 q h1 h2, fun q hq => by
      rcases List.mem_append.mp hq with h | h
      · exact hS.2.2 q h
      · exact hL q h⟩ T' rfl X'
  exact ⟨t2, st t2 a1, b1⟩
variable {y : MethodName} {code : ByteArray} {nY fr lo mc ms : Nat} {ret : Option FieldType} {st0 : List Value}
/-- a call of a method of the world's own object -/
theorem g_callV {Z : GS → Option Value → Prop} (As rest : List Value) (K : gC p s m args meth c cc nL own r A) (X : gX g C T N ty) (hN0 : 0 < N) (hM : gM g r A σ s.heap H locs) {lv : List (Nat × Value)} (hl : lv_has ls nL lv) (Y : gMet g l y code nY ret fr lo mc ms r A σ (.ref r.2.1 :: As) Z)
    (q1 : Cond.methodLink own index y ∈ lw_all) (q2 : Cond.instanceMethod y ∈ lw_all) (q3 : Cond.selects C y y ∈ lw_all) (q4 : Cond.initialized C ∈ lw_all) (q5 : Cond.code y code nY ret ∈ lw_all)
    (hd : y.cls = C ∧ y.cls ≠ "java/lang/invoke/MethodHandle" ∧ y.cls ≠ "java/lang/invoke/VarHandle" ∧ (parseMethodDescriptor y.desc).map (fun d => d.parameters.length) = some As.length)
    (hR : fr + 1 ≤ R.frames ∧ 8 + (nY + 11) + lo ≤ R.locals) (hf : cells + mc ≤ R.cells ∧ slots + ms ≤ R.slots) (hst : st0 = As.reverse ++ .ref r.2.1 :: rest) (hw : (rest.map fun v => v.category).sum ≤ 8) (hdg : decode cc pc = .ok (.invokevirtual index, 3))
    (kk : ∀ (σ1 : GS) (v : Option Value) (H1 : Heap) (locs1 : List Loc), Z σ1 v → gM g r A σ1 s.heap H1 locs1 → W p l e R s m args below meth c H1 locs1 (cells + mc) (slots + ms) Q (F0 m (pc + 3) ls (v.toList ++ rest))) : W p l e R s m args below meth c H locs cells slots Q (F0 m pc ls st0) := by
  subst hst
  refine g_run (va_runV (As := As) (rest := rest) ⟨K.1, K.2.1, K.2.2.1, K.2.2.2.1, K.2.2.2.2.1⟩ Y (cwV As.length K.2.2.2.2.1 (lw_V q1 q2 q3 q4 q5) rfl rfl rfl hd hR) ⟨g_blind, ?_, g_pre K hM⟩ rfl rfl hl.1 rfl (lv_room hw) hdg hf) hM kk
  have h := va_recv (q0 := 0) K.2.2.2.2.2.2.1 (g_one (hM.1.1 (by rw [X.2.1]; exact hN0))) X.1 rfl
  exact h
/-- a static call -/
theorem g_callS {Z : GS → Option Value → Prop} (As rest : List Value) (K : gC p s m args meth c cc nL own r A) (hM : gM g r A σ s.heap H locs) {lv : List (Nat × Value)} (hl : lv_has ls nL lv) (Y : gMet g l y code nY ret fr lo mc ms r A σ As Z)
    (q1 : Cond.methodLink own index y ∈ lw_all) (q2 : Cond.static y ∈ lw_all) (q3 : Cond.initialized y.cls ∈ lw_all) (q4 : Cond.code y code nY ret ∈ lw_all)
    (hd : y.cls ≠ "java/lang/invoke/MethodHandle" ∧ y.cls ≠ "java/lang/invoke/VarHandle" ∧ (parseMethodDescriptor y.desc).map (fun d => d.parameters.length) = some As.length)
    (hR : fr + 1 ≤ R.frames ∧ 8 + (nY + 11) + lo ≤ R.locals) (hf : cells + mc ≤ R.cells ∧ slots + ms ≤ R.slots) (hst : st0 = As.reverse ++ rest) (hw : (rest.map fun v => v.category).sum ≤ 8) (hdg : decode cc pc = .ok (.invokestatic index, 3))
    (kk : ∀ (σ1 : GS) (v : Option Value) (H1 : Heap) (locs1 : List Loc), Z σ1 v → gM g r A σ1 s.heap H1 locs1 → W p l e R s m args below meth c H1 locs1 (cells + mc) (slots + ms) Q (F0 m (pc + 3) ls (v.toList ++ rest))) : W p l e R s m args below meth c H locs cells slots Q (F0 m pc ls st0) := by
  subst hst
  exact g_run (va_runS (As := As) (rest := rest) ⟨K.1, K.2.1, K.2.2.1, K.2.2.2.1, K.2.2.2.2.1⟩ Y (va_cwS As.length K.2.2.2.2.1 (lw_S q1 q2 q3 q4) rfl rfl rfl hd hR) ⟨g_blind, g_pre K hM⟩ rfl rfl hl.1 rfl (lv_room hw) hdg hf) hM kk
/-- a method's entry -/
theorem g_enter {Z : GS → Option Value → Prop} {av : List Value} {lv : List (Nat × Value)} (hy : plainName y.cls = true) (hlen : (lg_sl av).length ≤ nY) (hlv : lv_args 0 av = lv)
    (body : ∀ (p : Program) (e : Env) (s : State) (m : MethodId) (below : List Frame) (meth : Method) (c : Code) (ls : Array Slot), gC p s m av.toArray meth c code nY y.cls r A → meth.sig.returnType = ret → gM g r A σ s.heap s.heap [] → lv_has ls nY lv → (y.name = "<init>" → meth.name = "<init>") →
      W p l e (gRm fr lo mc ms) s m av.toArray below meth c s.heap [] 0 0 (MQ below (gEnd g r A Z) av.toArray s mc ms A) (F0 m 0 ls [])) : gMet g l y code nY ret fr lo mc ms r A σ av Z := by
  refine Met.ofW (cc := code) (maxL := nY) (ret := ret) hy rfl ?_
  intro p e s m args below meth c s₁ B hml hv
  obtain ⟨rfl, hS, hA, hK, hN, hG⟩ := hv
  have hts := atoms_spec (ws := ws_ y code nY ret) B.pre
  have hts : ∀ w ∈ lw_all, w.before _ s = true := fun w h => hts w (List.mem_cons_of_mem _ h)
  have hl := lv_entry av (n := nY) hlen
  rw [lg_entry_eq]
  subst hlv
  exact body p e s m below meth c _ ⟨B.exec, B.bytes, hml, findClass_of_methodNamed B.named, hts, B.notSynchronized, hK, hA, hN, hG⟩ B.returns ⟨hS, va_S.rf⟩ hl (fun h => by rw [← h]; exact (name_of_methodNamed B.named B.method).1)
end GROWS

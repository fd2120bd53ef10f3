/-! final fields in constructors; references as values -/
theorem va_rf_nar (C : String) (x : Option Nat) : narrow (.object C) (va_rf x) = va_rf x := by cases x <;> rfl
theorem va_rf_fit (C : String) (x : Option Nat) : fits (.object C) (va_rf x) = true := by cases x <;> rfl
theorem va_rf_cat (x : Option Nat) : (va_rf x).category = 1 := by cases x <;> rfl
section PFIN
variable {p : Program} {l : Launch} {e : Env} {R : Room} {s : State} {m : MethodId} {args : Array Value} {below : List Frame} {meth : Method} {c : Code} {H : Heap} {locs : List Loc} {cells slots : Nat} {Q : State → Prop}
variable {cc : ByteArray} {nL pc index : Nat} {ls : Array Slot} {rest : List Value} {own : String} {r : GR} {g : GD} {A : Nat → Prop} {σ : GS} {C : String} {T : u_T} {N : Nat} {ty : Nat → FieldType} {ci a : Nat}
theorem x_putF (K : gC p s m args meth c cc nL own r A) {ref : String} {fs : List Value} (hin : ∀ w ∈ u_ws C T N, w ∈ lw_all) (hty : ∀ k, k < N → parseFieldDescriptor (T k).2.2.1 = some (ty k)) (hnm : ∀ a, a < N → ∀ b, b < N → a ≠ b → (T a).2.1 ≠ (T b).2.1) (hat : va_at r.1 vwCl (a, .inr (ci, fs)) H) (hc : vwCl[ci]? = some (C, T, N)) (k : Nat) (hk : k < N) (hlink : (Cond.fieldLink own index ref (T k).2.1 (T k).2.2.1).before args s = true) (hsame : ∀ x, s.fieldFound? (T k).1 (T k).2.1 (T k).2.2.1 = some x → s.fieldFound? ref (T k).2.1 (T k).2.2.1 = some x) (hfin : (T k).2.2.2 = true) (hin2 : meth.name = "<init>") (hdecl : (T k).1 = own) {tv : FieldType} {v : Value} (hd : parseFieldDescriptor (T k).2.2.1 = some tv) (hn : narrow tv v = v) (hfit : fits tv v = true) (hl : k < fs.length)
    (hdg : decode cc pc = .ok (.putfield index, 3)) (kk : ∀ (H1 : Heap) (i : Nat), va_at r.1 vwCl (a, .inr (ci, fs.set k v)) H1 → H1.size = H.size → (∀ q : Nat, q ≠ a → H1[q]? = H[q]?) → W p l e R s m args below meth c H1 (locs ++ [⟨a, i⟩]) cells slots Q (F0 m (pc + 3) ls rest)) : W p l e R s m args below meth c H locs cells slots Q (F0 m pc ls (v :: .ref a :: rest)) := by
  obtain ⟨hexec, hb, hml, hown, hts, hlk, hK, hA⟩ := K
  have hap := va_apart (own := own) hts hin ty hty hnm hK hc
  obtain ⟨r', h1, cell, q1, q2, q3, q4⟩ := hat
  have hr : r' = (C, T, N) := Option.some.inj (h1.symm.trans hc)
  subst hr
  obtain ⟨hS, hfc, kC, hkC, hkind⟩ := hK.1 ci _ hc
  obtain ⟨cf, kf, fi, f, hi, hsl⟩ := hS k hk
  have hlay := hts _ (hin _ (u_in_lay hk))
  unfold u_lay at hlay
  rw [if_pos hfin] at hlay
  have hst := (u_facts hfc hkC (u_lays hts hin hk) hi).1
  have hcf : m.cls = cf := by
    obtain ⟨_, _, c', _, _, _, -, -, hf', -, -, -, hown2, -⟩ := Cond.laysFinal_spec hlay
    have e1 : c' = cf := by have := hi.symm.trans hf'; simp at this; exact this.1.symm
    rw [hdecl] at hown2
    rw [← e1]; exact Option.some.inj (hown.symm.trans hown2)
  have h6 := u_fits hfc hkC hkind (Or.inr hlay) hi hd hn hfit
  refine W.putFinK hexec hb hown hlink (hsame _ hi) hst hcf hin2 (by rw [q2]; exact h6) q1 q3 (by rw [hsl]; exact k2_hasslot (q4 k hk)) rfl rfl hdg fun H' e1 e2 e3 => ?_
  rw [hsl] at e1 ⊢
  exact kk H' _ ⟨_, hc, t_OB.to (V := updV (vp_V fs) k v) ⟨_, e1, q2, q3, t_set q4 hap hk v⟩ (fun j _ => vp_updV_set hl v j)⟩ e2 e3
theorem p_putF (K : gC p s m args meth c cc nL own r A) (Y : gY ci C T N ty) (hnm : ∀ a, a < N → ∀ b, b < N → a ≠ b → (T a).2.1 ≠ (T b).2.1) (hM : gM g r A σ s.heap H locs) (k : Nat) (hk : Nat.blt k N = true) {ref : String} (hl : Cond.fieldLink own index ref (T k).2.1 (T k).2.2.1 ∈ lw_all) (hr : (T k).1 = ref) (hdg : decode cc pc = .ok (.putfield index, 3)) (hfin : (T k).2.2.2 = true) (hin2 : meth.name = "<init>") (hdecl : (T k).1 = own) {v : Value} (hn : narrow (ty k) v = v) (hfit : fits (ty k) v = true) {KK : GS → Prop} (hS : pS σ a ci k v KK)
    (kk : ∀ (H1 : Heap) (locs1 : List Loc) (σ1 : GS), KK σ1 → gM g r A σ1 s.heap H1 locs1 → W p l e R s m args below meth c H1 locs1 cells slots Q (F0 m (pc + 3) ls rest)) : W p l e R s m args below meth c H locs cells slots Q (F0 m pc ls (v :: .ref a :: rest)) := by
  subst hr
  have hk' : k < N := by simpa using hk
  obtain ⟨fs, ha, hlen, hS⟩ := hS
  refine x_putF K Y.2.1 Y.2.2 hnm (hM.1.2.2.1 a _ ha) Y.1 k hk' (K.2.2.2.2.1 _ hl) (fun _ h => h) hfin hin2 hdecl (tv := ty k) (Y.2.2 k hk') hn hfit hlen hdg fun H1 i e1 e2 e3 => ?_
  exact kk H1 _ _ (hS _ rfl) ⟨gS_pool hM.1 ha e1 e3, hM.2.put e2 e3 (hM.1.2.2.2.2.2.2.2.2.2 a _ ha)⟩
end PFIN

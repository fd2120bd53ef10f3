/-! ROWS over the pool: objects and arrays at addresses of their own; references by the object's arrays; making; calls of pooled ones -/
/-- a class of the list fits its table -/
def gY (ci : Nat) (C : String) (T : u_T) (N : Nat) (ty : Nat → FieldType) : Prop := vwCl[ci]? = some (C, T, N) ∧ (∀ w ∈ u_ws C T N, w ∈ lw_all) ∧ (∀ k, k < N → parseFieldDescriptor (T k).2.2.1 = some (ty k))
/-- pure words: a pooled object's field is read, written -/
def pV (σ : GS) (a ci k : Nat) (v : Value) : Prop := ∃ fs : List Value, gO σ a = some (.inr (ci, fs)) ∧ fs[k]? = some v
def pI (σ : GS) (a ci k : Nat) (K : Int32 → Prop) : Prop := ∃ v : Int32, pV σ a ci k (.int v) ∧ K v
def pQ (σ : GS) (a ci k : Nat) (K : Option Nat → Prop) : Prop := ∃ v : Option Nat, pV σ a ci k (va_rf v) ∧ K v
def pP (σ : GS) (a ci k : Nat) (K : Nat → Prop) : Prop := ∃ v : Nat, pV σ a ci k (.ref v) ∧ K v
def pS (σ : GS) (a ci k : Nat) (v : Value) (K : GS → Prop) : Prop := ∃ fs : List Value, gO σ a = some (.inr (ci, fs)) ∧ k < fs.length ∧ ∀ σ1 : GS, σ1 = sO σ a (some (.inr (ci, fs.set k v))) → K σ1
/-- an int array of the pool is read, written -/
def pA (σ : GS) (t : Nat → ClassId) (a tk : Nat) (n : Nat) (f : Nat → Int32) : Prop := gO σ a = some (.inl (t tk, n, .inl f))
theorem pI_of {σ : GS} {a ci k : Nat} {fs : List Value} {v : Int32} {K : Int32 → Prop} (h : gO σ a = some (.inr (ci, fs))) (hk : fs[k]? = some (.int v)) (hK : K v) : pI σ a ci k K := ⟨v, ⟨fs, h, hk⟩, hK⟩
theorem pQ_of {σ : GS} {a ci k : Nat} {fs : List Value} {v : Option Nat} {K : Option Nat → Prop} (h : gO σ a = some (.inr (ci, fs))) (hk : fs[k]? = some (va_rf v)) (hK : K v) : pQ σ a ci k K := ⟨v, ⟨fs, h, hk⟩, hK⟩
theorem pP_of {σ : GS} {a ci k : Nat} {fs : List Value} {v : Nat} {K : Nat → Prop} (h : gO σ a = some (.inr (ci, fs))) (hk : fs[k]? = some (.ref v)) (hK : K v) : pP σ a ci k K := ⟨v, ⟨fs, h, hk⟩, hK⟩
theorem pS_of {σ : GS} {a ci k : Nat} {fs : List Value} {v : Value} {K : GS → Prop} (h : gO σ a = some (.inr (ci, fs))) (hk : k < fs.length) (hK : K (sO σ a (some (.inr (ci, fs.set k v))))) : pS σ a ci k v K := ⟨fs, h, hk, fun _ e => by rw [e]; exact hK⟩
theorem up_self {α : Type} (f : Nat → α) (k : Nat) (v : α) : va_up f k v k = v := by simp [va_up]
theorem up_ne {α : Type} (f : Nat → α) {k j : Nat} (v : α) (h : j ≠ k) : va_up f k v j = f j := by simp [va_up, h]
theorem gS_pool {g : GD} {r : GR} {A : Nat → Prop} {σ : GS} {H H1 : Heap} (h : gS g r A σ H) {a : Nat} {e0 e : va_E} (ha : gO σ a = some e0) (he : va_at r.1 vwCl (a, e) H1) (oq : ∀ q : Nat, q ≠ a → H1[q]? = H[q]?) : gS g r A (sO σ a (some e)) H1 := by
  obtain ⟨h1, h2, h3, h4, h5, h6, h7, h8, h9, h10⟩ := h
  have hao : 0 < g.2.1 → r.2.1 ≠ a := fun hN z => by have := h6 hN; rw [z, ha] at this; cases this
  have hak : ∀ k, gB g k = true → r.2.2.1 k ≠ a := fun k hk z => by have := h7 k hk; rw [z, ha] at this; cases this
  refine ⟨fun hN => ?_, fun k hk => ?_, fun b e1 hb => ?_, h4, h5, fun hN => ?_, fun k hk => ?_, h8, h9, fun b e1 hb => ?_⟩
  · exact (h1 hN).kept (oq _ (hao hN))
  · exact (h2 k hk).kept (oq _ (hak k hk))
  · rw [gO_sO] at hb
    by_cases hba : b = a
    · subst hba
      rw [up_self] at hb
      cases hb
      exact he
    · rw [up_ne _ _ hba] at hb
      exact (h3 b e1 hb).kept (oq _ hba)
  · rw [gO_sO, up_ne _ _ (hao hN)]; exact h6 hN
  · rw [gO_sO, up_ne _ _ (hak k hk)]; exact h7 k hk
  · rw [gO_sO] at hb
    by_cases hba : b = a
    · subst hba
      exact h10 b e0 ha
    · rw [up_ne _ _ hba] at hb
      exact h10 b e1 hb
theorem gS_fresh {g : GD} {r : GR} {A : Nat → Prop} {σ : GS} {H : Heap} (h : gS g r A σ H) : gO σ H.size = none := by
  cases he : gO σ H.size with
  | none => rfl
  | some e => exact absurd (gS_lt h he) (Nat.lt_irrefl _)
theorem gS_new {g : GD} {r : GR} {A : Nat → Prop} {σ : GS} {H H1 : Heap} (h : gS g r A σ H) {e : va_E} (hA : A H.size) (he : va_at r.1 vwCl (H.size, e) H1) (o1 : ∀ q : Nat, q < H.size → H1[q]? = H[q]?) : gS g r A (sO σ H.size (some e)) H1 := by
  have hf := gS_fresh h
  obtain ⟨h1, h2, h3, h4, h5, h6, h7, h8, h9, h10⟩ := h
  have hao : 0 < g.2.1 → r.2.1 ≠ H.size := fun hN => Nat.ne_of_lt (h1 hN).lt
  have hak : ∀ k, gB g k = true → r.2.2.1 k ≠ H.size := fun k hk => Nat.ne_of_lt (h2 k hk).lt
  refine ⟨fun hN => ?_, fun k hk => ?_, fun b e1 hb => ?_, h4, h5, fun hN => ?_, fun k hk => ?_, h8, h9, fun b e1 hb => ?_⟩
  · exact (h1 hN).kept (o1 _ (h1 hN).lt)
  · exact (h2 k hk).kept (o1 _ (h2 k hk).lt)
  · rw [gO_sO] at hb
    by_cases hba : b = H.size
    · subst hba
      rw [up_self] at hb
      cases hb
      exact he
    · rw [up_ne _ _ hba] at hb
      exact (h3 b e1 hb).kept (o1 _ (h3 b e1 hb).lt)
  · rw [gO_sO, up_ne _ _ (hao hN)]; exact h6 hN
  · rw [gO_sO, up_ne _ _ (hak k hk)]; exact h7 k hk
  · rw [gO_sO] at hb
    by_cases hba : b = H.size
    · subst hba
      exact hA
    · rw [up_ne _ _ hba] at hb
      exact h10 b e1 hb
section PROWS
variable {p : Program} {l : Launch} {e : Env} {R : Room} {s : State} {m : MethodId} {args : Array Value} {below : List Frame} {meth : Method} {c : Code} {H : Heap} {locs : List Loc} {cells slots : Nat} {Q : State → Prop}
variable {cc : ByteArray} {nL pc index : Nat} {ls : Array Slot} {rest : List Value} {own : String} {r : GR} {g : GD} {A : Nat → Prop} {σ : GS} {C : String} {T : u_T} {N : Nat} {ty : Nat → FieldType} {ci a : Nat}
theorem p_get (K : gC p s m args meth c cc nL own r A) (Y : gY ci C T N ty) (hM : gM g r A σ s.heap H locs) (k : Nat) (hk : Nat.blt k N = true) {ref : String} (hl : Cond.fieldLink own index ref (T k).2.1 (T k).2.2.1 ∈ lw_all) (hr : (T k).1 = ref) (hdg : decode cc pc = .ok (.getfield index, 3)) {v : Value} (hv : pV σ a ci k v)
    (kk : W p l e R s m args below meth c H locs cells slots Q (F0 m (pc + 3) ls (v :: rest))) : W p l e R s m args below meth c H locs cells slots Q (F0 m pc ls (.ref a :: rest)) := by
  subst hr
  obtain ⟨fs, ha, hv⟩ := hv
  exact va_get K.1 K.2.1 K.2.2.2.2.1 Y.2.1 K.2.2.2.1 K.2.2.2.2.2.2.1 (g_one (hM.1.2.2.1 a _ ha)) 0 rfl Y.1 k (by simpa using hk) (K.2.2.2.2.1 _ hl) (fun _ h => h) hv hdg kk
theorem p_getN (K : gC p s m args meth c cc nL own r A) (Y : gY ci C T N ty) (hM : gM g r A σ s.heap H locs) (k : Nat) (hk : Nat.blt k N = true) {ref host : String} (hl : Cond.fieldLinkNest own index ref (T k).2.1 (T k).2.2.1 host ∈ lw_tbl) (hr : (T k).1 = ref) (hdg : decode cc pc = .ok (.getfield index, 3)) {v : Value} (hv : pV σ a ci k v)
    (kk : W p l e R s m args below meth c H locs cells slots Q (F0 m (pc + 3) ls (v :: rest))) : W p l e R s m args below meth c H locs cells slots Q (F0 m pc ls (.ref a :: rest)) := by
  subst hr
  obtain ⟨fs, ha, hv⟩ := hv
  exact va_getN K.1 K.2.1 K.2.2.2.2.1 Y.2.1 K.2.2.2.1 K.2.2.2.2.2.2.1 (g_one (hM.1.2.2.1 a _ ha)) 0 rfl Y.1 k (by simpa using hk) (va_Nw.use rfl (K.2.2.2.2.2.2.2.2.1.1 _ hl rfl)) (fun _ h => h) hv hdg kk
/-- the outer object's fields, by a nest mate -/
theorem g_getN (K : gC p s m args meth c cc nL own r A) (X : gX g C T N ty) (hM : gM g r A σ s.heap H locs) (k : Nat) (hk : Nat.blt k N = true) {ref host : String} (hl : Cond.fieldLinkNest own index ref (T k).2.1 (T k).2.2.1 host ∈ lw_tbl) (hr : (T k).1 = ref) (hdg : decode cc pc = .ok (.getfield index, 3)) {v : Value} (hv : (gF g r σ)[k]? = some v)
    (kk : W p l e R s m args below meth c H locs cells slots Q (F0 m (pc + 3) ls (v :: rest))) : W p l e R s m args below meth c H locs cells slots Q (F0 m pc ls (.ref r.2.1 :: rest)) := by
  subst hr
  exact va_getN K.1 K.2.1 K.2.2.2.2.1 X.2.2.1 K.2.2.2.1 K.2.2.2.2.2.2.1 (g_one (hM.1.1 (gX_pos X hk))) 0 rfl X.1 k (by simpa using hk) (va_Nw.use rfl (K.2.2.2.2.2.2.2.2.1.1 _ hl rfl)) (fun _ h => h) hv hdg kk
theorem g_getiN (K : gC p s m args meth c cc nL own r A) (X : gX g C T N ty) (hM : gM g r A σ s.heap H locs) (k : Nat) (hk : Nat.blt k N = true) {ref host : String} (hl : Cond.fieldLinkNest own index ref (T k).2.1 (T k).2.2.1 host ∈ lw_tbl) (hr : (T k).1 = ref) (hdg : decode cc pc = .ok (.getfield index, 3)) (hf : g.2.2.1 k = 0)
    (kk : W p l e R s m args below meth c H locs cells slots Q (F0 m (pc + 3) ls (.int (gI σ k) :: rest))) : W p l e R s m args below meth c H locs cells slots Q (F0 m pc ls (.ref r.2.1 :: rest)) :=
  g_getN K X hM k hk hl hr hdg (by rw [gF_at (by rw [X.2.1]; simpa using hk), if_pos hf]) kk
theorem g_getaN (K : gC p s m args meth c cc nL own r A) (X : gX g C T N ty) (hM : gM g r A σ s.heap H locs) (k : Nat) (hk : Nat.blt k N = true) {ref host : String} (hl : Cond.fieldLinkNest own index ref (T k).2.1 (T k).2.2.1 host ∈ lw_tbl) (hr : (T k).1 = ref) (hdg : decode cc pc = .ok (.getfield index, 3)) (hf : Nat.beq (g.2.2.1 k) 0 = false)
    (kk : W p l e R s m args below meth c H locs cells slots Q (F0 m (pc + 3) ls (.ref (r.2.2.1 k) :: rest))) : W p l e R s m args below meth c H locs cells slots Q (F0 m pc ls (.ref r.2.1 :: rest)) :=
  g_getN K X hM k hk hl hr hdg (by rw [gF_at (by rw [X.2.1]; simpa using hk), if_neg (by intro h; rw [h] at hf; cases hf)]) kk
/-- a pooled object's field is written by its own class, or by a nest mate -/
theorem p_put (K : gC p s m args meth c cc nL own r A) (Y : gY ci C T N ty) (hnm : ∀ a, a < N → ∀ b, b < N → a ≠ b → (T a).2.1 ≠ (T b).2.1) (hM : gM g r A σ s.heap H locs) (k : Nat) (hk : Nat.blt k N = true) {ref : String} (hl : Cond.fieldLink own index ref (T k).2.1 (T k).2.2.1 ∈ lw_all) (hr : (T k).1 = ref) (hdg : decode cc pc = .ok (.putfield index, 3)) (hfin : (T k).2.2.2 = false) {v : Value} (hn : narrow (ty k) v = v) (hfit : fits (ty k) v = true) {KK : GS → Prop} (hS : pS σ a ci k v KK)
    (kk : ∀ (H1 : Heap) (locs1 : List Loc) (σ1 : GS), KK σ1 → gM g r A σ1 s.heap H1 locs1 → W p l e R s m args below meth c H1 locs1 cells slots Q (F0 m (pc + 3) ls rest)) : W p l e R s m args below meth c H locs cells slots Q (F0 m pc ls (v :: .ref a :: rest)) := by
  subst hr
  have hk' : k < N := by simpa using hk
  obtain ⟨fs, ha, hlen, hS⟩ := hS
  refine x_put K Y.2.1 Y.2.2 hnm (hM.1.2.2.1 a _ ha) Y.1 k hk' (K.2.2.2.2.1 _ hl) (fun _ h => h) hfin (tv := ty k) (Y.2.2 k hk') hn hfit hlen hdg fun H1 i e1 e2 e3 => ?_
  exact kk H1 _ _ (hS _ rfl) ⟨gS_pool hM.1 ha e1 e3, hM.2.put e2 e3 (hM.1.2.2.2.2.2.2.2.2.2 a _ ha)⟩
theorem x_putN (K : gC p s m args meth c cc nL own r A) {ref host : String} {fs : List Value} (hin : ∀ w ∈ u_ws C T N, w ∈ lw_all) (hty : ∀ k, k < N → parseFieldDescriptor (T k).2.2.1 = some (ty k)) (hnm : ∀ a, a < N → ∀ b, b < N → a ≠ b → (T a).2.1 ≠ (T b).2.1) (hat : va_at r.1 vwCl (a, .inr (ci, fs)) H) (hc : vwCl[ci]? = some (C, T, N)) (k : Nat) (hk : k < N) (hlink : (Cond.fieldLinkNest own index ref (T k).2.1 (T k).2.2.1 host).before args s = true) (hsame : ∀ x, s.fieldFound? (T k).1 (T k).2.1 (T k).2.2.1 = some x → s.fieldFound? ref (T k).2.1 (T k).2.2.1 = some x) (hfin : (T k).2.2.2 = false) {tv : FieldType} {v : Value} (hd : parseFieldDescriptor (T k).2.2.1 = some tv) (hn : narrow tv v = v) (hfit : fits tv v = true) (hl : k < fs.length)
    (hdg : decode cc pc = .ok (.putfield index, 3)) (kk : ∀ (H1 : Heap) (i : Nat), va_at r.1 vwCl (a, .inr (ci, fs.set k v)) H1 → H1.size = H.size → (∀ q : Nat, q ≠ a → H1[q]? = H[q]?) → W p l e R s m args below meth c H1 (locs ++ [⟨a, i⟩]) cells slots Q (F0 m (pc + 3) ls rest)) : W p l e R s m args below meth c H locs cells slots Q (F0 m pc ls (v :: .ref a :: rest)) := by
  obtain ⟨hexec, hb, hml, hown, hts, hlk, hK, hA⟩ := K
  have hap := va_apart (own := own) hts hin ty hty hnm hK hc
  obtain ⟨r', h1, cell, q1, q2, q3, q4⟩ := hat
  have hr : r' = (C, T, N) := Option.some.inj (h1.symm.trans hc)
  subst hr
  obtain ⟨hS, hfc, kC, hkC, hkind⟩ := hK.1 ci _ hc
  obtain ⟨cf, kf, fi, f, hi, hsl⟩ := hS k hk
  have hlay := hts _ (hin _ (u_in_lay hk))
  unfold u_lay at hlay
  rw [if_neg (by rw [hfin]; decide)] at hlay
  have hst := (u_facts hfc hkC (u_lays hts hin hk) hi).1
  have h6 := u_store hfc hkC hkind hlay hi hd hn hfit
  refine va_WputK hexec hb (f := f) hown hlink (hsame _ hi) hst (by rw [q2]; exact h6) q1 q3 (by rw [hsl]; exact k2_hasslot (q4 k hk)) rfl rfl hdg fun H' e1 e2 e3 => ?_
  rw [hsl] at e1 ⊢
  exact kk H' _ ⟨_, hc, t_OB.to (V := updV (vp_V fs) k v) ⟨_, e1, q2, q3, t_set q4 hap hk v⟩ (fun j _ => vp_updV_set hl v j)⟩ e2 e3
theorem p_putN (K : gC p s m args meth c cc nL own r A) (Y : gY ci C T N ty) (hnm : ∀ a, a < N → ∀ b, b < N → a ≠ b → (T a).2.1 ≠ (T b).2.1) (hM : gM g r A σ s.heap H locs) (k : Nat) (hk : Nat.blt k N = true) {ref host : String} (hl : Cond.fieldLinkNest own index ref (T k).2.1 (T k).2.2.1 host ∈ lw_tbl) (hr : (T k).1 = ref) (hdg : decode cc pc = .ok (.putfield index, 3)) (hfin : (T k).2.2.2 = false) {v : Value} (hn : narrow (ty k) v = v) (hfit : fits (ty k) v = true) {KK : GS → Prop} (hS : pS σ a ci k v KK)
    (kk : ∀ (H1 : Heap) (locs1 : List Loc) (σ1 : GS), KK σ1 → gM g r A σ1 s.heap H1 locs1 → W p l e R s m args below meth c H1 locs1 cells slots Q (F0 m (pc + 3) ls rest)) : W p l e R s m args below meth c H locs cells slots Q (F0 m pc ls (v :: .ref a :: rest)) := by
  subst hr
  have hk' : k < N := by simpa using hk
  obtain ⟨fs, ha, hlen, hS⟩ := hS
  refine x_putN K Y.2.1 Y.2.2 hnm (hM.1.2.2.1 a _ ha) Y.1 k hk' (va_Nw.use rfl (K.2.2.2.2.2.2.2.2.1.1 _ hl rfl)) (fun _ h => h) hfin (tv := ty k) (Y.2.2 k hk') hn hfit hlen hdg fun H1 i e1 e2 e3 => ?_
  exact kk H1 _ _ (hS _ rfl) ⟨gS_pool hM.1 ha e1 e3, hM.2.put e2 e3 (hM.1.2.2.2.2.2.2.2.2.2 a _ ha)⟩
/-- references of the object's arrays -/
theorem g_aald (K : gC p s m args meth c cc nL own r A) (hM : gM g r A σ s.heap H locs) (k : Nat) (hk : gB g k = true) (hf : g.2.2.1 k = 4) {tk : Nat} (ht : g.2.2.2.2 k = tk) {Cn : String} (htv : (gT r)[tk]? = some (r.2.2.2 tk, .object Cn)) {i : Int32} (hin : vp_in i (g.2.2.2.1 k)) (hdg : decode cc pc = .ok (.aaload, 1))
    (kk : W p l e R s m args below meth c H locs cells slots Q (F0 m (pc + 1) ls (va_rf (gQ σ k i.toNatClampNeg) :: rest))) : W p l e R s m args below meth c H locs cells slots Q (F0 m pc ls (.int i :: .ref (r.2.2.1 k) :: rest)) := by
  have h := hM.1.2.1 k hk
  unfold gE at h
  rw [hf, ht] at h
  exact va_aldq K.1 K.2.1 K.2.2.2.2.2.2.1 (g_one h) 0 tk rfl htv hin hdg kk
theorem g_aaldS (K : gC p s m args meth c cc nL own r A) (hM : gM g r A σ s.heap H locs) (k : Nat) (hk : gB g k = true) (hf : g.2.2.1 k = 4) {tk : Nat} (ht : g.2.2.2.2 k = tk) {Cn : String} (htv : (gT r)[tk]? = some (r.2.2.2 tk, .object Cn)) {i : Int32} (hin : vp_in i (g.2.2.2.1 k)) (hq : gQ σ k i.toNatClampNeg = some a) (hdg : decode cc pc = .ok (.aaload, 1))
    (kk : W p l e R s m args below meth c H locs cells slots Q (F0 m (pc + 1) ls (.ref a :: rest))) : W p l e R s m args below meth c H locs cells slots Q (F0 m pc ls (.int i :: .ref (r.2.2.1 k) :: rest)) :=
  g_aald K hM k hk hf ht htv hin hdg (by rw [hq]; exact kk)
/-- a pooled int array -/
theorem p_iald (K : gC p s m args meth c cc nL own r A) (hM : gM g r A σ s.heap H locs) {n : Nat} {f : Nat → Int32} (ha : pA σ r.2.2.2 a 0 n f) {i : Int32} (hin : vp_in i n) (hdg : decode cc pc = .ok (.iaload, 1))
    (kk : W p l e R s m args below meth c H locs cells slots Q (F0 m (pc + 1) ls (.int (f i.toNatClampNeg) :: rest))) : W p l e R s m args below meth c H locs cells slots Q (F0 m pc ls (.int i :: .ref a :: rest)) :=
  va_iald K.1 K.2.1 K.2.2.2.2.2.2.1 (g_one (hM.1.2.2.1 a _ ha)) 0 0 rfl rfl hin hdg kk
theorem p_alen (K : gC p s m args meth c cc nL own r A) (hM : gM g r A σ s.heap H locs) {n : Nat} {f : Nat → Int32} (ha : pA σ r.2.2.2 a 0 n f) (hdg : decode cc pc = .ok (.arraylength, 1))
    (kk : W p l e R s m args below meth c H locs cells slots Q (F0 m (pc + 1) ls (.int (Int32.ofNat n) :: rest))) : W p l e R s m args below meth c H locs cells slots Q (F0 m pc ls (.ref a :: rest)) :=
  va_alen K.1 K.2.1 K.2.2.2.2.2.2.1 (g_one (hM.1.2.2.1 a _ ha)) 0 0 rfl rfl rfl hdg kk
theorem p_iast (K : gC p s m args meth c cc nL own r A) (hM : gM g r A σ s.heap H locs) {n : Nat} {f : Nat → Int32} (ha : pA σ r.2.2.2 a 0 n f) {i : Int32} {x : Int32} (hin : vp_in i n) (hdg : decode cc pc = .ok (.iastore, 1))
    (kk : ∀ (H1 : Heap) (locs1 : List Loc) (σ1 : GS), σ1 = sO σ a (some (.inl (r.2.2.2 0, n, .inl (upd f i.toNatClampNeg x)))) → gM g r A σ1 s.heap H1 locs1 → W p l e R s m args below meth c H1 locs1 cells slots Q (F0 m (pc + 1) ls rest)) : W p l e R s m args below meth c H locs cells slots Q (F0 m pc ls (.int x :: .int i :: .ref a :: rest)) := by
  refine x_iast K (hM.1.2.2.1 a _ ha) (t0 := 0) rfl hin hdg fun H1 e1 e2 e3 => ?_
  exact kk H1 _ _ rfl ⟨gS_pool hM.1 ha e1 e3, hM.2.put e2 e3 (hM.1.2.2.2.2.2.2.2.2.2 a _ ha)⟩
/-- an object is made -/
theorem p_new (K : gC p s m args meth c cc nL own r A) (Y : gY ci C T N ty) (hM : gM g r A σ s.heap H locs) (q1 : Cond.classLink own index C ∈ lw_all) (q2 : Cond.instantiable C N ∈ lw_all) (q3 : Cond.initialized C ∈ lw_all) {fs : List Value} (hfs : ∀ j, j < N → defaultValue (ty j) = vp_V fs j) (hcells : cells + 1 ≤ R.cells) (hslots : slots + N ≤ R.slots) (hdg : decode cc pc = .ok (.new index, 3))
    (kk : ∀ (H1 : Heap) (q : Nat) (σ1 : GS), gO σ q = none → σ1 = sO σ q (some (.inr (ci, fs))) → gM g r A σ1 s.heap H1 locs → W p l e R s m args below meth c H1 locs (cells + 1) (slots + N) Q (F0 m (pc + 3) ls (.ref q :: rest))) : W p l e R s m args below meth c H locs cells slots Q (F0 m pc ls rest) := by
  have hKn := K.2.2.2.2.2.2.1.1 ci _ Y.1
  have hts := K.2.2.2.2.1
  refine W.newcK K.1 K.2.1 K.2.2.2.1 (hts _ q1) (hts _ q2) (hts _ q3) rfl hdg hcells hslots hKn.2.1 rfl fun H1 kC hkC e1 z1 o1 => ?_
  refine kk H1 H.size _ (gS_fresh hM.1) rfl ⟨gS_new hM.1 (K.2.2.2.2.2.2.2.1 _ hM.2.1) ⟨_, Y.1, (u_born ty hts Y.2.1 hKn hkC e1 Y.2.2).to hfs⟩ o1, Nat.le_trans hM.2.1 (by omega), fun x h1 h2 => (o1 x (Nat.lt_of_lt_of_le h1 hM.2.1)).trans (hM.2.2.1 x h1 h2), hM.2.2.2⟩
end PROWS

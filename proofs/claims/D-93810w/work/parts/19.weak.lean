/-! a final field is written in a constructor where two fields of the class bear one name: the others of that name may have been written too -/
def pW (T : u_T) (N : Nat) (σ : GS) (a ci k : Nat) (v : Value) (K : GS → Prop) : Prop := ∃ fs : List Value, gO σ a = some (.inr (ci, fs)) ∧ fs.length = N ∧ ∀ fs' : List Value, fs'.length = N → fs'[k]? = some v → (∀ j : Nat, fs'[j]? = fs[j]? ∨ fs'[j]? = some v) → (∀ j : Nat, j < N → (T j).2.1 ≠ (T k).2.1 → fs'[j]? = fs[j]?) → ∀ σ1 : GS, σ1 = sO σ a (some (.inr (ci, fs'))) → K σ1
section WEAK
variable {p : Program} {l : Launch} {e : Env} {R : Room} {s : State} {m : MethodId} {args : Array Value} {below : List Frame} {meth : Method} {c : Code} {H : Heap} {locs : List Loc} {cells slots : Nat} {Q : State → Prop}
variable {cc : ByteArray} {nL pc index : Nat} {ls : Array Slot} {rest : List Value} {own : String} {r : GR} {g : GD} {A : Nat → Prop} {σ : GS} {C : String} {T : u_T} {N : Nat} {ty : Nat → FieldType} {ci a : Nat}
theorem p_putW (K : gC p s m args meth c cc nL own r A) (Y : gY ci C T N ty) (hM : gM g r A σ s.heap H locs) (k : Nat) (hk : Nat.blt k N = true) {ref : String} (hl : Cond.fieldLink own index ref (T k).2.1 (T k).2.2.1 ∈ lw_all) (hr : (T k).1 = ref) (hdg : decode cc pc = .ok (.putfield index, 3)) (hfin : (T k).2.2.2 = true) (hin2 : meth.name = "<init>") (hdecl : (T k).1 = own) {v : Value} (hn : narrow (ty k) v = v) (hfit : fits (ty k) v = true) {KK : GS → Prop} (hS : pW T N σ a ci k v KK)
    (kk : ∀ (H1 : Heap) (locs1 : List Loc) (σ1 : GS), KK σ1 → gM g r A σ1 s.heap H1 locs1 → W p l e R s m args below meth c H1 locs1 cells slots Q (F0 m (pc + 3) ls rest)) : W p l e R s m args below meth c H locs cells slots Q (F0 m pc ls (v :: .ref a :: rest)) := by
  subst hr
  have hk' : k < N := by simpa using hk
  obtain ⟨fs, ha, hlen, hS⟩ := hS
  obtain ⟨hexec, hb, hml, hown, hts, hlk, hK, hA⟩ := K
  obtain ⟨r', h1, cell, q1, q2, q3, q4⟩ := hM.1.2.2.1 a _ ha
  have hr : r' = (C, T, N) := Option.some.inj (h1.symm.trans Y.1)
  subst hr
  obtain ⟨hSl, hfc, kC, hkC, hkind⟩ := hK.1 ci _ Y.1
  obtain ⟨cf, kf, fi, f, hi, hsl⟩ := hSl k hk'
  have hlay := hts _ (Y.2.1 _ (u_in_lay hk'))
  unfold u_lay at hlay
  rw [if_pos hfin] at hlay
  have hst := (u_facts hfc hkC (u_lays hts Y.2.1 hk') hi).1
  have hcf : m.cls = cf := by
    obtain ⟨_, _, c', _, _, _, -, -, hf', -, -, -, hown2, -⟩ := Cond.laysFinal_spec hlay
    have e1 : c' = cf := by have := hi.symm.trans hf'; simp at this; exact this.1.symm
    rw [hdecl] at hown2
    rw [← e1]; exact Option.some.inj (hown.symm.trans hown2)
  have h6 := u_fits hfc hkC hkind (Or.inr hlay) hi (Y.2.2 k hk') hn hfit
  have hap : ∀ j, j < N → (T j).2.1 ≠ (T k).2.1 → r.1.2 ci j ≠ r.1.2 ci k := by
    intro j hj hne
    obtain ⟨_, _, _, fa, hia, ea⟩ := hSl j hj
    rw [← ea, ← hsl]
    refine u_apart (u_lays hts Y.2.1 hj) (u_lays hts Y.2.1 hk') hia hi ?_
    rw [(State.fieldFound?_type hia (Y.2.2 j hj)).1, (State.fieldFound?_type hi (Y.2.2 k hk')).1]
    exact hne
  refine W.putFinK hexec hb hown (hts _ hl) hi hst hcf hin2 (by rw [q2]; exact h6) q1 q3 (by rw [hsl]; exact k2_hasslot (q4 k hk')) rfl rfl hdg fun H' e1 e2 e3 => ?_
  rw [hsl] at e1 ⊢
  let V : Nat → Value := fun j => if r.1.2 ci j = r.1.2 ci k then v else vp_V fs j
  have hV : ∀ j, j < N → ((List.range N).map V)[j]? = some (V j) := fun j hj => by simp [hj]
  have hold : ∀ j, j < N → fs[j]? = some (vp_V fs j) := fun j hj => by
    have hj' : j < fs.length := by rw [hlen]; exact hj
    simp [vp_V, hj']
  refine kk H' _ _ (hS ((List.range N).map V) (by simp) (by rw [hV k hk']; simp [V]) (fun j => ?_) (fun j hj hne => ?_) _ rfl) ⟨gS_pool hM.1 ha ⟨_, Y.1, ⟨_, e1, q2, q3, fun j hj => ?_⟩⟩ e3, hM.2.put e2 e3 (hM.1.2.2.2.2.2.2.2.2.2 a _ ha)⟩
  · by_cases hj : j < N
    · rw [hV j hj]
      by_cases hs : r.1.2 ci j = r.1.2 ci k
      · right; simp [V, hs]
      · left; rw [hold j hj]; simp [V, hs]
    · left
      rw [List.getElem?_eq_none (by simp; omega), List.getElem?_eq_none (by rw [hlen]; omega)]
  · rw [hV j hj, hold j hj]
    simp [V, hap j hj hne]
  · have hz : vp_V ((List.range N).map V) j = V j := by
      have := hV j hj
      simp only [vp_V, List.getD_eq_getElem?_getD, this, Option.getD_some]
    rw [hz]
    by_cases hs : r.1.2 ci j = r.1.2 ci k
    · rw [hs, Cell.slots_setSlot_self _ (k2_hasslot (q4 k hk'))]
      simp [V, hs]
    · rw [slot_ne _ _ (Ne.symm hs), q4 j hj]
      simp [V, hs]
end WEAK

/-! arrays are made, into the pool -/
section NEWARR
variable {p : Program} {l : Launch} {e : Env} {R : Room} {s : State} {m : MethodId} {args : Array Value} {below : List Frame} {meth : Method} {c : Code} {H : Heap} {locs : List Loc} {cells slots : Nat} {Q : State → Prop}
variable {cc : ByteArray} {nL pc index : Nat} {ls : Array Slot} {rest : List Value} {own : String} {r : GR} {g : GD} {A : Nat → Prop} {σ : GS}
theorem p_newa (K : gC p s m args meth c cc nL own r A) (hM : gM g r A σ s.heap H locs) {atype : ArrayType} {ty : FieldType} (hty : newarray.typeOf atype = ty) (hq : Cond.arrayClass ty ∈ lw_all) (tk : Nat) (htv : (gT r)[tk]? = some (r.2.2.2 tk, ty)) {n : Int32} {N' : Nat} {a0 : vp_A} (ha : ∀ cA : ClassId, vp_cell cA a0 = arrV cA N' (fun _ => defaultValue ty)) (hn : ¬ n < 0) (hN : n.toNatClampNeg = N') (hbytes : N' * componentBytes ty ≤ 536870912) (hcells : cells + 1 ≤ R.cells) (hslots : slots + N' ≤ R.slots) (hdg : decode cc pc = .ok (.newarray atype, 2))
    (kk : ∀ (H1 : Heap) (q : Nat) (σ1 : GS), gO σ q = none → σ1 = sO σ q (some (.inl (r.2.2.2 tk, a0))) → gM g r A σ1 s.heap H1 locs → W p l e R s m args below meth c H1 locs (cells + 1) (slots + N') Q (F0 m (pc + 2) ls (.ref q :: rest))) : W p l e R s m args below meth c H locs cells slots Q (F0 m pc ls (.int n :: rest)) := by
  subst hty
  refine va_newaK K.1 K.2.1 (K.2.2.2.2.1 _ hq) rfl hdg rfl hn hN hbytes hcells hslots rfl fun H1 cA e1 z1 o1 hAr hNm => ?_
  have hRA := (K.2.2.2.2.2.2.1.2 tk _ htv).2
  have hcA : cA = r.2.2.2 tk := by
    cases atype <;> exact Option.some.inj (hNm.symm.trans hRA)
  refine kk H1 H.size _ (gS_fresh hM.1) rfl ⟨gS_new hM.1 (K.2.2.2.2.2.2.2.1 _ hM.2.1) ?_ o1, Nat.le_trans hM.2.1 (by omega), fun x h1 h2 => (o1 x (Nat.lt_of_lt_of_le h1 hM.2.1)).trans (hM.2.2.1 x h1 h2), hM.2.2.2⟩
  show H1[H.size]? = some (vp_cell _ _)
  rw [← hcA, ha]
  exact e1
theorem p_newq (K : gC p s m args meth c cc nL own r A) (hM : gM g r A σ s.heap H locs) {C : String} (hcl : Cond.classLink own index C ∈ lw_all) (hC : C ∈ aoL) (tk : Nat) (htv : (gT r)[tk]? = some (r.2.2.2 tk, .object C)) {n : Int32} {N' : Nat} (hn : ¬ n < 0) (hN : n.toNatClampNeg = N') (hbytes : N' * 4 ≤ 536870912) (hcells : cells + 1 ≤ R.cells) (hslots : slots + N' ≤ R.slots) (hdg : decode cc pc = .ok (.anewarray index, 3))
    (kk : ∀ (H1 : Heap) (q : Nat) (σ1 : GS), gO σ q = none → σ1 = sO σ q (some (.inl (r.2.2.2 tk, N', .inr (.inr (.inr (.inr (fun _ => none))))))) → gM g r A σ1 s.heap H1 locs → W p l e R s m args below meth c H1 locs (cells + 1) (slots + N') Q (F0 m (pc + 3) ls (.ref q :: rest))) : W p l e R s m args below meth c H locs cells slots Q (F0 m pc ls (.int n :: rest)) := by
  subst hN
  refine W.anew K.1 K.2.1 K.2.2.2.1 (K.2.2.2.2.1 _ hcl) (va_AO.use (K.2.2.2.2.2.2.2.2.1.2.2.1 _ hC)) rfl hdg rfl hn hbytes hcells hslots fun cA kA comp f1 f2 f3 f4 => ?_
  generalize hH1 : H.push ({ cls := cA, slots := Array.replicate n.toNatClampNeg .null, vm := .none } : Cell) = H1
  have z1 : H1.size = H.size + 1 := by rw [← hH1, Array.size_push]
  have e1 : H1[H.size]? = some (arrV cA n.toNatClampNeg (fun _ => .null)) := by rw [← hH1, Array.getElem?_push_size, ← arrV_new]
  have o1 : ∀ q : Nat, q < H.size → H1[q]? = H[q]? := fun q hq => by rw [← hH1, Array.getElem?_push, if_neg (Nat.ne_of_lt hq)]
  obtain ⟨_, _, _, _, _, h9⟩ := (K.2.2.2.2.2.2.1.2 tk _ htv).2
  have hcA : cA = r.2.2.2 tk := Option.some.inj (f1.symm.trans h9)
  refine kk H1 H.size _ (gS_fresh hM.1) rfl ⟨gS_new hM.1 (K.2.2.2.2.2.2.2.1 _ hM.2.1) ?_ o1, Nat.le_trans hM.2.1 (by omega), fun x h1 h2 => (o1 x (Nat.lt_of_lt_of_le h1 hM.2.1)).trans (hM.2.2.1 x h1 h2), hM.2.2.2⟩
  show H1[H.size]? = some (vp_cell _ _)
  rw [← hcA, vp_cell_q]
  exact e1
end NEWARR
/-- a world without an object of its own: a pool alone -/
def dE : GD := (0, 0, fun _ => 0, fun _ => 0, fun _ => 0)
/-! budgets -/
theorem bud {c b B b1 k : Nat} (h : c + b ≤ B) (g : b1 + k ≤ b) : c + k + b1 ≤ B := by omega
theorem bud_le {c b B b1 k : Nat} (h : c + b ≤ B) (g : b1 + k ≤ b) : c + k ≤ B := by omega
theorem bud_ret {c b B : Nat} (h : c + b ≤ B) : c ≤ B := by omega
theorem bud_0 {b B : Nat} (h : b = B) : 0 + b ≤ B := by omega
theorem newI (n : Nat) (ty : FieldType) (h : defaultValue ty = .int 0) (cA : ClassId) : vp_cell cA (n, .inl (fun _ => 0)) = arrV cA n (fun _ => defaultValue ty) := by rw [h]; rfl
theorem newL (n : Nat) (ty : FieldType) (h : defaultValue ty = .long 0) (cA : ClassId) : vp_cell cA (n, .inr (.inl (fun _ => 0))) = arrV cA n (fun _ => defaultValue ty) := by rw [h]; rfl

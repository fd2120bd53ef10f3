/-! super.m(..) where m may be a higher class's -/
section SUP
variable {p : Program} {l : Launch} {e : Env} {R : Room} {s : State} {m : MethodId} {args : Array Value} {below : List Frame} {meth : Method} {c : Code} {H : Heap} {locs : List Loc} {cells slots : Nat}
variable {cc : ByteArray} {nL pc index : Nat} {ls : Array Slot} {own : String} {r : GR} {g : GD} {A : Nat → Prop} {σ : GS} {C : String} {T : u_T} {N : Nat} {ty : Nat → FieldType} {ci b : Nat}
variable {x y : MethodName} {code : ByteArray} {nY fr lo mc ms : Nat} {ret : Option FieldType} {st0 : List Value} {lv : List (Nat × Value)} {Z : GS → Option Value → Prop}
/-- the class named is under the one whose method it is -/
def Under (s : State) (X Y : String) : Prop := ∀ a b : ClassId, s.vm.findClass X = some a → s.vm.findClass Y = some b → s.vm.isSubclass a b = true
theorem under_self {X : String} : Under s X X := by
  intro a b ha hb
  cases ha.symm.trans hb
  simp [Vm.isSubclass, Vm.isSubclassAux]
theorem under_1 (hts : ∀ w ∈ lw_all, w.before args s = true) {X Y : String} (h : Cond.superclass X Y ∈ lw_all) : Under s X Y := by
  intro a b ha hb
  obtain ⟨p', k, kp, h1, h2, h3, h4, -⟩ := Cond.superclass_spec (args := args) (first := s) (o := none) (idx := []) ha (hts _ h)
  cases hb.symm.trans h1
  have hlt : a < s.vm.classes.size := (Array.getElem?_eq_some_iff.mp h2).1
  obtain ⟨n, hn⟩ : ∃ n, s.vm.classes.size = n + 1 := ⟨s.vm.classes.size - 1, (Nat.succ_pred_eq_of_pos (Nat.lt_of_le_of_lt (Nat.zero_le _) hlt)).symm⟩
  simp [Vm.isSubclass, Vm.isSubclassAux, hn, h2, h4]
theorem under_c (hts : ∀ w ∈ lw_all, w.before args s = true) {X Y X' Y' : String} (hc : va_Nw (.castable X Y) s) (h1 : Cond.superclass X X' ∈ lw_all) (h2 : Cond.superclass Y Y' ∈ lw_all) : Under s X Y := by
  intro a b ha hb
  obtain ⟨_, k, kp, -, e2, -, -, e5, -, -⟩ := Cond.superclass_spec (args := args) (first := s) (o := none) (idx := []) ha (hts _ h1)
  obtain ⟨_, k', kp', -, e2', -, -, e5', -, e7'⟩ := Cond.superclass_spec (args := args) (first := s) (o := none) (idx := []) hb (hts _ h2)
  obtain ⟨c0, t1, f1, f2, f3⟩ := Cond.castable_spec (va_Nw.use (A := args) rfl hc)
  cases ha.symm.trans f1
  cases hb.symm.trans f2
  exact isSubclass_of_assignable e2 e2' e5 e5' e7' f3
theorem g_callSU {T : State} (X : Stand p l e R s m args below meth c T locs cells slots) (hexec : p.tables.exec = Jvm.exec) {bytes : ByteArray} {maxL : Nat}
    (hown : s.vm.findClass own = some m.cls) (hlink : (Cond.methodLink own index x).before args s = true) (hsame : (Cond.sameMethod x.cls y.cls x.name x.desc).before args s = true) (hsup : (Cond.superclass own x.cls).before args s = true) (hxy : y = ⟨y.cls, x.name, x.desc⟩) (hu : Under s x.cls y.cls)
    (hinst : (Cond.instanceMethod y).before args s = true) (hcode : (Cond.code y bytes maxL ret).before args s = true) (hno : x.name ≠ "<init>")
    {W : Nat} {Pre : Pt → Array Value → Prop} {Post : Pt → Array Value → Option Value → Pt → Prop} (hK : Back l R p e below s args y 3 W Pre Post)
    {b : Addr} {cellB : Cell} {kB : Class} (hcell : T.heap[b]? = some cellB) (hobj : cellB.vm.isStatics = false) (hkB : s.vm.classes[cellB.cls]? = some kB)
    {g : JFrame} (hg : g.method = m) (hsize : g.locals.size = c.maxLocals) {argsL rest : List Value} (hlen : ∀ sig, parseMethodDescriptor y.desc = some sig → argsL.length = sig.parameters.length)
    (hstack : g.stack = argsL.reverse ++ .ref b :: rest) (hW : 2 * g.monitorRoom + (rest.map fun v => v.category).sum ≤ W) (hdg : decode c.code g.pc = .ok (.invokespecial index, 3))
    (hpre : ∀ vm₁, s.WarmedH vm₁ → Pre ⟨T.setVm vm₁, locs, cells, slots⟩ (Value.ref b :: argsL).toArray) :
    ∃ (v : Option Value) (vm₁ : Vm) (B : Pt), s.WarmedH vm₁ ∧ Stand p l e R s m args below meth c B.U B.locs B.cells B.slots ∧ Post ⟨T.setVm vm₁, locs, cells, slots⟩ (Value.ref b :: argsL).toArray v B ∧
      ∀ target, Steps p.tables e below (B.U.setTop { g with pc := g.pc + 3, stack := v.toList ++ rest }) target → Steps p.tables e below (T.setTop g) target := by
  obtain ⟨mk, methM, hnamed, hmethM, hstM, habM⟩ := Cond.instanceMethod_spec hinst
  obtain ⟨methM', cM, hmethM', -, -, -, -, -, -, hsigM⟩ := Cond.code_spec hnamed hcode
  cases hmethM.symm.trans hmethM'
  obtain ⟨ps, dk, kp, hps, hdk, hkp, hsuper, -, -, hnid⟩ := Cond.superclass_spec hown hsup
  have hn : s.methodNamed? ⟨y.cls, x.name, x.desc⟩ = some mk := by rw [← hxy]; exact hnamed
  have hsub : s.vm.isSubclass ps mk.cls = true := hu ps mk.cls hps (findClass_of_methodNamed hnamed)
  obtain ⟨vm₁, X₁, hstep₁⟩ := X.invokespecialUp hexec hown hlink hsame hn hmethM hstM habM hno hdk hnid hps hsuper hsub (a := b) (cell := cellB) hcell
    (fun z h => by rw [h] at hobj; cases hobj) hkB (g := g) hg (argsL := argsL) (rest := rest) (hlen _ hsigM) hstack hdg
  obtain ⟨v, B, X', hpost, hsteps⟩ := hK m meth c ⟨T.setVm vm₁, locs, cells, slots⟩ { g with stack := rest } (.invokespecial index) mk (Value.ref b :: argsL).toArray X₁ hg hsize hdg hW (X₁.named hnamed) (hpre vm₁ X₁.warmed)
  exact ⟨v, vm₁, B, X₁.warmed, X', hpost, fun target h => hstep₁ _ (by rw [doInvoke_state]; exact hsteps.trans h)⟩
/-- super.x(..), which is y's code -/
theorem rSup (As rest : List Value) (K : gC p s m args meth c cc nL own r A) (X : gY ci C T N ty) (hM : gM g r A σ s.heap H locs) (hl : lv_has ls nL lv) {fs : List Value} (hb : gO σ b = some (.inr (ci, fs))) (Y : gMet g l y code nY ret fr lo mc ms r A σ (.ref b :: As) Z)
    (q1 : Cond.methodLink own index x ∈ lw_all) (q2 : Cond.sameMethod x.cls y.cls x.name x.desc ∈ lw_all) (q3 : Cond.superclass own x.cls ∈ lw_all) (q4 : Cond.instanceMethod y ∈ lw_all) (q5 : Cond.initialized y.cls ∈ lw_all) (q6 : Cond.code y code nY ret ∈ lw_all) (hu : Under s x.cls y.cls)
    (hxy : y = ⟨y.cls, x.name, x.desc⟩) (hd : x.name ≠ "<init>" ∧ (parseMethodDescriptor y.desc).map (fun d => d.parameters.length) = some As.length)
    (hR : fr + 1 ≤ R.frames ∧ 8 + (nY + 11) + lo ≤ R.locals) (hf : cells + mc ≤ R.cells ∧ slots + ms ≤ R.slots) (hst : st0 = As.reverse ++ .ref b :: rest) (hw : (rest.map fun v => v.category).sum ≤ 8) (hdg : decode cc pc = .ok (.invokespecial index, 3)) :
    va_Run p l e R s m args below meth c H locs cells slots mc ms (F0 m pc ls st0) rest (gEnd g r A Z (Value.ref b :: As).toArray) A := by
  subst hst
  have hts := K.2.2.2.2.1
  have hK : Back l R p e below s args y 3 8 (PreOf R mc ms (gPre g r A σ (.ref b :: As))) (PostOf (gEnd g r A Z) mc ms A) := back_of (bytes := code) (maxL := nY) (ret := ret) Y g_blind rfl rfl hR.1 hR.2 (pay_in hts (lw_meth q6)) List.mem_cons_self (fun a' U hW => word_at hW (Or.inl (by first | rfl | simp [Cond.onTables, Cond.keeps, Cond.steady])) (hts _ q5))
  obtain ⟨cellB, hcB, hoB, hclB⟩ := va_recv (q0 := 0) K.2.2.2.2.2.2.1 (g_one (hM.1.2.2.1 b _ hb)) X.1 rfl
  obtain ⟨hfc, kB, hkB, -⟩ := (K.2.2.2.2.2.2.1.1 ci _ X.1).2
  have hcl2 : cellB.cls = r.1.1 ci := Option.some.inj (hclB.symm.trans hfc)
  intro T0 hT X0
  obtain ⟨v, vm₁, ⟨U', l2, c2, s2⟩, hW₁, X', ⟨g', mk, t, L, e1, e2, hq, h1, hL, h2, h3⟩, st⟩ := g_callSU X0 K.1 (x := x) (y := y) (bytes := code) (maxL := nY) (ret := ret) K.2.2.2.1 (hts _ q1) (hts _ q2) (hts _ q3) hxy hu (hts _ q4) (hts _ q6) hd.1 hK (by rw [hT]; exact hcB) hoB (by rw [hcl2]; exact hkB) (g := F0 m pc ls (As.reverse ++ .ref b :: rest)) rfl (hl.1.trans K.2.2.1.symm) (argsL := As) (rest := rest) (fun sig h => by have h9 := hd.2; rw [h] at h9; exact (Option.some.inj h9).symm) rfl (lv_room hw) (by rw [K.2.1]; exact hdg)
    (fun vm₁ hW₁ => ⟨hf.1, hf.2, g_pre K hM (T0.setVm vm₁) hT hW₁⟩)
  dsimp only [Pt.U, Pt.locs, Pt.cells, Pt.slots] at X' e1 e2 h1 h2 h3 st
  subst h1; subst h2; subst h3
  exact ⟨v, (T0.setVm vm₁).calling g' mk (Value.ref b :: As).toArray, t, U', L, hT, X', hL, e1, e2, hq, st⟩
end SUP

/-! THE BASE: a world of one object with its arrays, and a pool; the state as functions; one row an instruction over it -/
/-- the classes that are made, by number -/
def vwCl : List vw_C := [(RX0, TX0, 30), (RX1, TX1, 1), (RX2, TX2, 55), (RX3, TX3, 4), (RX4, TX4, 4), (RX5, TX5, 6), (RX6, TX6, 4), (RX7, TX7, 3), (RX9, TX9, 1), (RX10, TX10, 1), (RX11, TX11, 1), (RX12, TX12, 1), (RX13, TX13, 3), (RX15, TX15, 2), (RX16, TX16, 3), (RX17, TX17, 3), (RX18, TX18, 4), (RX19, TX19, 4), (RX20, TX20, 5), (RX21, TX21, 3), (RX22, TX22, 5), (RX24, TX24, 1), (RX25, TX25, 1), (RX26, TX26, 1), (RX27, TX27, 1), (RX28, TX28, 1)]
/-- a state: int fields, int and byte arrays, long arrays, arrays of references, the pool -/
abbrev GS : Type := (Nat → Int32) × (Nat → Nat → Int32) × (Nat → Nat → Int64) × (Nat → Nat → Option Nat) × (Nat → Option va_E)
/-- where it lies: classes and slots, the object, its arrays by field, array classes by kind -/
abbrev GR : Type := va_G × Nat × (Nat → Nat) × (Nat → ClassId)
/-- its make: number of its class, of its fields, the fields' kinds (0 int, 1 ints, 2 longs, 3 bytes, 4 references, 5 a pooled one), lengths, array classes -/
abbrev GD : Type := Nat × Nat × (Nat → Nat) × (Nat → Nat) × (Nat → Nat)
def gI (σ : GS) (k : Nat) : Int32 := σ.1 k
def gA (σ : GS) (k i : Nat) : Int32 := σ.2.1 k i
def gL (σ : GS) (k i : Nat) : Int64 := σ.2.2.1 k i
def gQ (σ : GS) (k i : Nat) : Option Nat := σ.2.2.2.1 k i
def gO (σ : GS) (a : Nat) : Option va_E := σ.2.2.2.2 a
def sI (σ : GS) (k : Nat) (v : Int32) : GS := (fun j => if j = k then v else σ.1 j, σ.2)
def sA (σ : GS) (k i : Nat) (v : Int32) : GS := (σ.1, (fun j => if j = k then upd (σ.2.1 k) i v else σ.2.1 j), σ.2.2)
def sL (σ : GS) (k i : Nat) (v : Int64) : GS := (σ.1, σ.2.1, (fun j => if j = k then vp_updL (σ.2.2.1 k) i v else σ.2.2.1 j), σ.2.2.2)
def sQ (σ : GS) (k i : Nat) (v : Option Nat) : GS := (σ.1, σ.2.1, σ.2.2.1, (fun j => if j = k then va_up (σ.2.2.2.1 k) i v else σ.2.2.2.1 j), σ.2.2.2.2)
def sO (σ : GS) (a : Nat) (e : Option va_E) : GS := (σ.1, σ.2.1, σ.2.2.1, σ.2.2.2.1, va_up σ.2.2.2.2 a e)
def gT (r : GR) : List (ClassId × FieldType) := [(r.2.2.2 0, .int), (r.2.2.2 1, .long), (r.2.2.2 2, .byte), (r.2.2.2 3, .short), (r.2.2.2 4, .boolean), (r.2.2.2 5, .object "PointsForAll$Thing"), (r.2.2.2 6, .object "PointsForAll$Sort"), (r.2.2.2 7, .object "PointsForAll$Change"), (r.2.2.2 8, .object "PointsForAll$Line"), (r.2.2.2 9, .object "PointsForAll$Purse"), (r.2.2.2 10, .object "PointsForAll$Held")]
def gB (g : GD) (k : Nat) : Bool := decide (k < g.2.1) && (decide (1 ≤ g.2.2.1 k) && decide (g.2.2.1 k ≤ 4))
def gF (g : GD) (r : GR) (σ : GS) : List Value := (List.range g.2.1).map (fun k => if g.2.2.1 k = 0 then .int (gI σ k) else .ref (r.2.2.1 k))
def gV (f : Nat) (σ : GS) (k : Nat) : (Nat → Int32) ⊕ (Nat → Int64) ⊕ (Nat → UInt32) ⊕ (Nat → UInt64) ⊕ (Nat → Option Nat) := match f with
  | 2 => .inr (.inl (gL σ k))
  | 4 => .inr (.inr (.inr (.inr (gQ σ k))))
  | _ => .inl (gA σ k)
def gE (g : GD) (r : GR) (σ : GS) (k : Nat) : va_E := .inl (r.2.2.2 (g.2.2.2.2 k), g.2.2.2.1 k, gV (g.2.2.1 k) σ k)
def gSep (g : GD) (r : GR) (A : Nat → Prop) (σ : GS) : Prop := (∀ j k, gB g j = true → gB g k = true → r.2.2.1 j = r.2.2.1 k → j = k) ∧ (0 < g.2.1 → ∀ k, gB g k = true → r.2.2.1 k ≠ r.2.1) ∧ (0 < g.2.1 → gO σ r.2.1 = none) ∧ (∀ k, gB g k = true → gO σ (r.2.2.1 k) = none) ∧ (0 < g.2.1 → A r.2.1) ∧ (∀ k, gB g k = true → A (r.2.2.1 k)) ∧ ∀ a e, gO σ a = some e → A a
def gS (g : GD) (r : GR) (A : Nat → Prop) (σ : GS) (H : Heap) : Prop := (0 < g.2.1 → va_at r.1 vwCl (r.2.1, .inr (g.1, gF g r σ)) H) ∧ (∀ k, gB g k = true → va_at r.1 vwCl (r.2.2.1 k, gE g r σ k) H) ∧ (∀ a e, gO σ a = some e → va_at r.1 vwCl (a, e) H) ∧ gSep g r A σ
def gM (g : GD) (r : GR) (A : Nat → Prop) (σ : GS) (H0 H : Heap) (locs : List Loc) : Prop := gS g r A σ H ∧ va_S A H0 H locs
/-- words of the tables that no list carries: nest mates, casts, declarations -/
def nk (w : Cond) : Bool := match w with
  | .fieldLinkNest .. => true
  | .methodLinkNest .. => true
  | .castable .. => true
  | .declares .. => true
  | _ => false
def fwL : List (String × MethodName × MethodName) := [("PointsForAll$Purse", ⟨"PointsForAll$Buys", "buys", "(I)I"⟩, ⟨"PointsForAll$Purse", "buys", "(I)I"⟩), ("PointsForAll$Purse", ⟨"PointsForAll$Tells", "tells", "(I)I"⟩, ⟨"PointsForAll$Purse", "tells", "(I)I"⟩), ("PointsForAll$Coin", ⟨"PointsForAll$Buys", "buys", "(I)I"⟩, ⟨"PointsForAll$Coin", "buys", "(I)I"⟩), ("PointsForAll$Coin", ⟨"PointsForAll$Tells", "tells", "(I)I"⟩, ⟨"PointsForAll$Purse", "tells", "(I)I"⟩), ("PointsForAll$Points", ⟨"PointsForAll$Buys", "buys", "(I)I"⟩, ⟨"PointsForAll$Purse", "buys", "(I)I"⟩), ("PointsForAll$Points", ⟨"PointsForAll$Tells", "tells", "(I)I"⟩, ⟨"PointsForAll$Purse", "tells", "(I)I"⟩), ("PointsForAll$Lent", ⟨"PointsForAll$Buys", "buys", "(I)I"⟩, ⟨"PointsForAll$Purse", "buys", "(I)I"⟩), ("PointsForAll$Lent", ⟨"PointsForAll$Tells", "tells", "(I)I"⟩, ⟨"PointsForAll$Purse", "tells", "(I)I"⟩), ("PointsForAll$Changed", ⟨"PointsForAll$Buys", "buys", "(I)I"⟩, ⟨"PointsForAll$Purse", "buys", "(I)I"⟩), ("PointsForAll$Changed", ⟨"PointsForAll$Tells", "tells", "(I)I"⟩, ⟨"PointsForAll$Purse", "tells", "(I)I"⟩), ("PointsForAll$Baby", ⟨"PointsForAll$Buys", "buys", "(I)I"⟩, ⟨"PointsForAll$Baby", "buys", "(I)I"⟩), ("PointsForAll$Baby", ⟨"PointsForAll$Tells", "tells", "(I)I"⟩, ⟨"PointsForAll$Baby", "tells", "(I)I"⟩), ("PointsForAll$Told", ⟨"PointsForAll$Buys", "buys", "(I)I"⟩, ⟨"PointsForAll$Told", "buys", "(I)I"⟩), ("PointsForAll$Told", ⟨"PointsForAll$Tells", "tells", "(I)I"⟩, ⟨"PointsForAll$Purse", "tells", "(I)I"⟩), ("PointsForAll$Black", ⟨"PointsForAll$Buys", "buys", "(I)I"⟩, ⟨"PointsForAll$Purse", "buys", "(I)I"⟩), ("PointsForAll$Black", ⟨"PointsForAll$Tells", "tells", "(I)I"⟩, ⟨"PointsForAll$Black", "tells", "(I)I"⟩)]
def aoL : List String := ["PointsForAll$Thing", "PointsForAll$Sort", "PointsForAll$Change", "PointsForAll$Line", "PointsForAll$Purse", "PointsForAll$Held"]
/-- casts that fail -/
def prsL : List String := ["PointsForAll$Purse", "PointsForAll$Coin", "PointsForAll$Points", "PointsForAll$Lent", "PointsForAll$Changed", "PointsForAll$Baby", "PointsForAll$Told", "PointsForAll$Black"]
def rwsL : List String := ["PointsForAll$ByteRow", "PointsForAll$ShortRow", "PointsForAll$IntRow", "PointsForAll$LongRow", "PointsForAll$BooleanRow"]
def ncL : List (String × String) := prsL.map (fun x => (x, "PointsForAll$Row")) ++ prsL.map (fun x => (x, "PointsForAll$ShortRow")) ++ rwsL.map (fun x => (x, "PointsForAll$Purse")) ++ (rwsL.flatMap (fun x => (rwsL.filter (fun y => y != x)).map (fun y => (x, y)))) ++ [("java/lang/NullPointerException", "java/lang/ClassCastException"), ("java/lang/ArrayIndexOutOfBoundsException", "java/lang/ClassCastException"), ("java/lang/ArrayIndexOutOfBoundsException", "java/lang/NullPointerException"), ("java/lang/ClassCastException", "java/lang/NullPointerException")]
def gN (U : State) : Prop := (∀ w ∈ lw_tbl, nk w = true → va_Nw w U) ∧ (∀ t ∈ fwL, va_Fw t.1 t.2.1 t.2.2 U) ∧ (∀ C ∈ aoL, va_AO C U) ∧ (∀ q ∈ ncL, va_Nc q.1 q.2 U) ∧ modulesRight_1 U = true
theorem fwL_ok : ∀ t ∈ fwL, t.2.1.cls ≠ "java/lang/invoke/MethodHandle" ∧ t.2.1.cls ≠ "java/lang/invoke/VarHandle" := by decide +kernel
theorem mods_alike {s U : State} (h : s.vm.Alike U.vm) (hm : modulesRight_1 s = true) : modulesRight_1 U = true := by
  have e : U.vm.modules = s.vm.modules := by rw [h.1]
  unfold modulesRight_1 at *
  rw [e]; exact hm
theorem gN_warm {s U : State} (hW : s.WarmedH U.vm) (h : gN s) : gN U := by
  refine ⟨fun w hw hk => ?_, fun t ht => va_Fw.moved (fwL_ok t ht) hW.alike (h.2.1 t ht), fun C hC => va_AO.moved hW.alike (h.2.2.1 C hC), fun q hq => va_Nc.moved hW.alike (h.2.2.2.1 q hq), mods_alike hW.alike h.2.2.2.2⟩
  have h1 := h.1 w hw hk
  cases w <;> first | exact va_Nw.warmF hW h1 | exact va_Nw.warmM hW h1 | exact va_Nw.warmC hW h1 | exact va_Nw.warmD hW h1 | (exact absurd hk (by decide)) | cases hk
theorem gN_same {s U : State} (hv : s.vm = U.vm) (h : gN s) : gN U := by
  have ha : s.vm.Alike U.vm := by rw [hv]; exact Vm.Alike.refl _
  refine ⟨fun w hw hk => ?_, fun t ht => va_Fw.moved (fwL_ok t ht) ha (h.2.1 t ht), fun C hC => va_AO.moved ha (h.2.2.1 C hC), fun q hq => va_Nc.moved ha (h.2.2.2.1 q hq), mods_alike ha h.2.2.2.2⟩
  have h1 := h.1 w hw hk
  cases w <;> first | exact va_Nw.same rfl hv h1 | cases hk
/-- a static of Throwable that holds a reference or null, its cell not among A -/
def gU1 (n d : String) (A : Nat → Prop) (U : State) : Prop := ∃ (c i a : Nat) (k : Class) (f : Field) (cell : Cell) (v : Value), U.vm.findClass Bundle.tN = some c ∧ U.fieldFound? Bundle.tN n d = some (c, k, i, f) ∧ f.isStatic = true ∧ k.statics = some a ∧ U.heap[a]? = some cell ∧ cell.vm.isStatics = true ∧ cell.cls = c ∧ f.slot < cell.slots.size ∧ k.staticTypes[f.slot]? = some f.type ∧ cell.slots[f.slot]? = some v ∧ v.isRef = true ∧ ¬ A a
def gU (A : Nat → Prop) (U : State) : Prop := gU1 "UNASSIGNED_STACK" Bundle.steD A U ∧ gU1 "SUPPRESSED_SENTINEL" Bundle.listD A U
theorem gU1_moved {n d : String} {A : Nat → Prop} {s U : State} (hvm : s.vm.Alike U.vm) (hq : ∀ a : Nat, a < s.heap.size → ¬ A a → U.heap[a]? = s.heap[a]?) (h : gU1 n d A s) : gU1 n d A U := by
  obtain ⟨c, i, a, k, f, cell, v, h1, h2, h3, h4, h5, h6, h7, h8, h9, h10, h11, h12⟩ := h
  obtain ⟨k', hi', he⟩ := State.fieldFound?_setVm hvm h2
  exact ⟨c, i, a, k', f, cell, v, by rw [hvm.findClass]; exact h1, hi', h3, by rw [he]; exact h4, by rw [hq a (Array.getElem?_eq_some_iff.mp h5).1 h12]; exact h5, h6, h7, h8, by rw [he]; exact h9, h10, h11, h12⟩
theorem gU_moved {A : Nat → Prop} {s U : State} (hvm : s.vm.Alike U.vm) (hq : ∀ a : Nat, a < s.heap.size → ¬ A a → U.heap[a]? = s.heap[a]?) (h : gU A s) : gU A U := ⟨gU1_moved hvm hq h.1, gU1_moved hvm hq h.2⟩
/-- String constants of the readers: lengths and bytes; where they lie: r's places 100.. and 200.. -/
def lenS : List Nat := [3, 2, 3, 7]
def bytS : List (List Int32) := [[60, 61, 62], [43, 45], [42, 47, 37], [116, 107, 99, 112, 115, 98, 110]]
def gG (r : GR) (A : Nat → Prop) (U : State) : Prop := vk_S 4 lenS bytS (fun i => r.2.2.1 (100 + i)) (fun i => r.2.2.1 (200 + i)) A U U.heap ∧ vk_R "PointsForAll$Reader" 79 "<=>" (r.2.2.1 100) U ∧ vk_R "PointsForAll$Reader" 88 "+-" (r.2.2.1 101) U ∧ vk_R "PointsForAll$Reader" 93 "*/%" (r.2.2.1 102) U ∧ vk_R "PointsForAll$Reader" 98 "tkcpsbn" (r.2.2.1 103) U ∧ va_Z "java/lang/String" "COMPACT_STRINGS" "Z" (.int 1) A U U.heap ∧ gU A U
theorem gG_warm {r : GR} {A : Nat → Prop} {s U : State} (hW : s.WarmedH U.vm) (hq : ∀ a : Nat, a < s.heap.size → ¬ A a → U.heap[a]? = s.heap[a]?) (h : gG r A s) : gG r A U :=
  ⟨(h.1.moved hW.alike).kept hq, h.2.1.warm hW, h.2.2.1.warm hW, h.2.2.2.1.warm hW, h.2.2.2.2.1.warm hW, (h.2.2.2.2.2.1.moved hW.alike).kept hq, gU_moved hW.alike hq h.2.2.2.2.2.2⟩
theorem gG_same {r : GR} {A : Nat → Prop} {s U : State} (hv : U.vm = s.vm) (hh : U.heap = s.heap) (h : gG r A s) : gG r A U := by
  have ha : s.vm.Alike U.vm := by rw [hv]; exact Vm.Alike.refl _
  refine ⟨?_, h.2.1.same hv, h.2.2.1.same hv, h.2.2.2.1.same hv, h.2.2.2.2.1.same hv, ?_, gU_moved ha (fun a _ _ => by rw [hh]) h.2.2.2.2.2.2⟩
  · rw [hh]; exact h.1.moved ha
  · rw [hh]; exact h.2.2.2.2.2.1.moved ha
/-- what stands still in a method's body -/
def gC (p : Program) (s : State) (m : MethodId) (args : Array Value) (meth : Method) (c : Code) (cc : ByteArray) (nL : Nat) (own : String) (r : GR) (A : Nat → Prop) : Prop :=
  p.tables.exec = Jvm.exec ∧ c.code = cc ∧ c.maxLocals = nL ∧ s.vm.findClass own = some m.cls ∧ (∀ w ∈ lw_all, w.before args s = true) ∧ meth.locks = false ∧ va_K r.1 vwCl (gT r) s ∧ (∀ q, s.heap.size ≤ q → A q) ∧ gN s ∧ gG r A s
/-- the object's class fits its make -/
def gX (g : GD) (C : String) (T : u_T) (N : Nat) (ty : Nat → FieldType) : Prop := vwCl[g.1]? = some (C, T, N) ∧ g.2.1 = N ∧ (∀ w ∈ u_ws C T N, w ∈ lw_all) ∧ (∀ k, k < N → parseFieldDescriptor (T k).2.2.1 = some (ty k)) ∧ (∀ a, a < N → ∀ b, b < N → a ≠ b → (T a).2.1 ≠ (T b).2.1)
abbrev gRm (fr lo mc ms : Nat) : Room := { frames := fr, cells := mc, slots := ms, locals := lo }
def gPre (g : GD) (r : GR) (A : Nat → Prop) (σ : GS) (av : List Value) : Array Value → State → Prop := va_Pc av (fun U => gS g r A σ U.heap ∧ (∀ q, U.heap.size ≤ q → A q) ∧ va_K r.1 vwCl (gT r) U ∧ gN U ∧ gG r A U)
def gEnd (g : GD) (r : GR) (A : Nat → Prop) (Z : GS → Option Value → Prop) : Array Value → State → Outcome → State → Prop := fun _ st oc t => (∃ (σ : GS) (v : Option Value), oc = .returned v ∧ Z σ v ∧ gS g r A σ t.heap) ∧ va_F A st t
def zI (P : GS → Int32 → Prop) : GS → Option Value → Prop := fun σ v => ∃ x, v = some (.int x) ∧ P σ x
def zL (P : GS → Int64 → Prop) : GS → Option Value → Prop := fun σ v => ∃ x, v = some (.long x) ∧ P σ x
def zV (P : GS → Prop) : GS → Option Value → Prop := fun σ v => v = none ∧ P σ
def zQ (P : GS → Option Nat → Prop) : GS → Option Value → Prop := fun σ v => ∃ x, v = some (va_rf x) ∧ P σ x
/-- a contract -/
def gMet (g : GD) (l : Launch) (y : MethodName) (code : ByteArray) (nL : Nat) (ret : Option FieldType) (fr lo mc ms : Nat) (r : GR) (A : Nat → Prop) (σ : GS) (av : List Value) (Z : GS → Option Value → Prop) : Prop :=
  Met l y (ws_ y code nL ret) (gRm fr lo mc ms) (gPre g r A σ av) (gEnd g r A Z) mc ms A
/-- an answer that a boolean method may give -/
def gZ (x : Int32) : Prop := narrow .boolean (.int x) = .int x
theorem gZ_0 : gZ 0 := rfl
theorem gZ_1 : gZ 1 := rfl
/-! the state's laws -/
theorem gI_sI (σ : GS) (k : Nat) (v : Int32) (j : Nat) : gI (sI σ k v) j = if j = k then v else gI σ j := rfl
theorem gA_sI (σ : GS) (k : Nat) (v : Int32) : gA (sI σ k v) = gA σ := rfl
theorem gL_sI (σ : GS) (k : Nat) (v : Int32) : gL (sI σ k v) = gL σ := rfl
theorem gQ_sI (σ : GS) (k : Nat) (v : Int32) : gQ (sI σ k v) = gQ σ := rfl
theorem gO_sI (σ : GS) (k : Nat) (v : Int32) : gO (sI σ k v) = gO σ := rfl
theorem gI_sA (σ : GS) (k i : Nat) (v : Int32) : gI (sA σ k i v) = gI σ := rfl
theorem gA_sA (σ : GS) (k i : Nat) (v : Int32) (j : Nat) : gA (sA σ k i v) j = if j = k then upd (gA σ k) i v else gA σ j := by
  by_cases h : j = k
  · subst h; rw [if_pos rfl]; funext q; show (if j = j then upd (σ.2.1 j) i v else σ.2.1 j) q = _; rw [if_pos rfl]; rfl
  · rw [if_neg h]; funext q; show (if j = k then upd (σ.2.1 k) i v else σ.2.1 j) q = _; rw [if_neg h]; rfl
theorem gL_sA (σ : GS) (k i : Nat) (v : Int32) : gL (sA σ k i v) = gL σ := rfl
theorem gQ_sA (σ : GS) (k i : Nat) (v : Int32) : gQ (sA σ k i v) = gQ σ := rfl
theorem gO_sA (σ : GS) (k i : Nat) (v : Int32) : gO (sA σ k i v) = gO σ := rfl
theorem gI_sL (σ : GS) (k i : Nat) (v : Int64) : gI (sL σ k i v) = gI σ := rfl
theorem gA_sL (σ : GS) (k i : Nat) (v : Int64) : gA (sL σ k i v) = gA σ := rfl
theorem gL_sL (σ : GS) (k i : Nat) (v : Int64) (j : Nat) : gL (sL σ k i v) j = if j = k then vp_updL (gL σ k) i v else gL σ j := by
  by_cases h : j = k
  · subst h; rw [if_pos rfl]; funext q; show (if j = j then vp_updL (σ.2.2.1 j) i v else σ.2.2.1 j) q = _; rw [if_pos rfl]; rfl
  · rw [if_neg h]; funext q; show (if j = k then vp_updL (σ.2.2.1 k) i v else σ.2.2.1 j) q = _; rw [if_neg h]; rfl
theorem gQ_sL (σ : GS) (k i : Nat) (v : Int64) : gQ (sL σ k i v) = gQ σ := rfl
theorem gO_sL (σ : GS) (k i : Nat) (v : Int64) : gO (sL σ k i v) = gO σ := rfl
theorem gI_sQ (σ : GS) (k i : Nat) (v : Option Nat) : gI (sQ σ k i v) = gI σ := rfl
theorem gA_sQ (σ : GS) (k i : Nat) (v : Option Nat) : gA (sQ σ k i v) = gA σ := rfl
theorem gL_sQ (σ : GS) (k i : Nat) (v : Option Nat) : gL (sQ σ k i v) = gL σ := rfl
theorem gQ_sQ (σ : GS) (k i : Nat) (v : Option Nat) (j : Nat) : gQ (sQ σ k i v) j = if j = k then va_up (gQ σ k) i v else gQ σ j := by
  by_cases h : j = k
  · subst h; rw [if_pos rfl]; funext q; show (if j = j then va_up (σ.2.2.2.1 j) i v else σ.2.2.2.1 j) q = _; rw [if_pos rfl]; rfl
  · rw [if_neg h]; funext q; show (if j = k then va_up (σ.2.2.2.1 k) i v else σ.2.2.2.1 j) q = _; rw [if_neg h]; rfl
theorem gO_sQ (σ : GS) (k i : Nat) (v : Option Nat) : gO (sQ σ k i v) = gO σ := rfl
theorem gI_sO (σ : GS) (a : Nat) (e : Option va_E) : gI (sO σ a e) = gI σ := rfl
theorem gA_sO (σ : GS) (a : Nat) (e : Option va_E) : gA (sO σ a e) = gA σ := rfl
theorem gL_sO (σ : GS) (a : Nat) (e : Option va_E) : gL (sO σ a e) = gL σ := rfl
theorem gQ_sO (σ : GS) (a : Nat) (e : Option va_E) : gQ (sO σ a e) = gQ σ := rfl
theorem gO_sO (σ : GS) (a : Nat) (e : Option va_E) : gO (sO σ a e) = va_up (gO σ) a e := rfl
theorem gF_at {g : GD} {r : GR} {σ : GS} {k : Nat} (hk : k < g.2.1) : (gF g r σ)[k]? = some (if g.2.2.1 k = 0 then .int (gI σ k) else .ref (r.2.2.1 k)) := by
  simp [gF, hk]
theorem gF_len {g : GD} {r : GR} {σ : GS} : (gF g r σ).length = g.2.1 := by simp [gF]
theorem gF_sI {g : GD} {r : GR} {σ : GS} {k : Nat} {v : Int32} (hk : k < g.2.1) (hf : g.2.2.1 k = 0) : (gF g r σ).set k (.int v) = gF g r (sI σ k v) := by
  apply List.ext_getElem?
  intro i
  by_cases hi : i < g.2.1
  · rw [gF_at hi]
    by_cases h : i = k
    · subst h
      rw [List.getElem?_set_self (by rw [gF_len]; exact hi), if_pos hf, gI_sI, if_pos rfl]
    · rw [List.getElem?_set_ne (Ne.symm h), gF_at hi, gI_sI, if_neg h]
  · rw [List.getElem?_eq_none (by rw [List.length_set, gF_len]; omega), List.getElem?_eq_none (by rw [gF_len]; omega)]
theorem gF_of {g : GD} {r : GR} {σ σ' : GS} (h : gI σ = gI σ') : gF g r σ = gF g r σ' := by
  unfold gF; rw [h]
theorem gB_pos {g : GD} {k : Nat} (h : gB g k = true) : 0 < g.2.1 := by
  simp [gB] at h
  omega
theorem gS_lt {g : GD} {r : GR} {A : Nat → Prop} {σ : GS} {H : Heap} (h : gS g r A σ H) {a : Nat} {e : va_E} (ha : gO σ a = some e) : a < H.size := (h.2.2.1 a e ha).lt

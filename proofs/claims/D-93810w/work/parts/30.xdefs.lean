/-! X: its make -/
def fkX : Nat → Nat := fun k => match k with
  | 0 => 4
  | 1 => 4
  | 2 => 0
  | 3 => 0
  | 4 => 4
  | 5 => 0
  | 6 => 0
  | 7 => 3
  | 8 => 0
  | 9 => 4
  | 10 => 0
  | 11 => 5
  | 12 => 1
  | 13 => 1
  | 14 => 1
  | 15 => 1
  | 16 => 1
  | 17 => 1
  | 18 => 1
  | 19 => 1
  | 20 => 0
  | 21 => 0
  | 22 => 0
  | 23 => 0
  | 24 => 1
  | 25 => 0
  | 26 => 3
  | 27 => 4
  | 28 => 0
  | 29 => 4
  | _ => 0
def lnX : Nat → Nat := fun k => match k with
  | 0 => 6
  | 1 => 5
  | 2 => 0
  | 3 => 0
  | 4 => 40
  | 5 => 0
  | 6 => 0
  | 7 => 120
  | 8 => 0
  | 9 => 4
  | 10 => 0
  | 11 => 0
  | 12 => 4096
  | 13 => 4096
  | 14 => 4096
  | 15 => 24
  | 16 => 6
  | 17 => 6
  | 18 => 6
  | 19 => 6
  | 20 => 0
  | 21 => 0
  | 22 => 0
  | 23 => 0
  | 24 => 259
  | 25 => 0
  | 26 => 24
  | 27 => 50
  | 28 => 0
  | 29 => 6
  | _ => 0
def txX : Nat → Nat := fun k => match k with
  | 0 => 5
  | 1 => 6
  | 2 => 0
  | 3 => 0
  | 4 => 7
  | 5 => 0
  | 6 => 0
  | 7 => 2
  | 8 => 0
  | 9 => 8
  | 10 => 0
  | 11 => 0
  | 12 => 0
  | 13 => 0
  | 14 => 0
  | 15 => 0
  | 16 => 0
  | 17 => 0
  | 18 => 0
  | 19 => 0
  | 20 => 0
  | 21 => 0
  | 22 => 0
  | 23 => 0
  | 24 => 0
  | 25 => 0
  | 26 => 2
  | 27 => 9
  | 28 => 0
  | 29 => 10
  | _ => 0
def dX : GD := (0, 30, fkX, lnX, txX)
theorem kX : gX dX RX0 TX0 30 tyX0 := ⟨rfl, rfl, in_X0, tyX0_ok, nmX0⟩
theorem kY0 : gY 0 RX0 TX0 30 tyX0 := ⟨rfl, in_X0, tyX0_ok⟩
theorem hf0X0 : ∀ j, j < 30 → defaultValue (tyX0 j) = vp_V [.null, .null, .int 0, .int 0, .null, .int 0, .int 0, .null, .int 0, .null, .int 0, .null, .null, .null, .null, .null, .null, .null, .null, .null, .int 0, .int 0, .int 0, .int 0, .null, .int 0, .null, .null, .int 0, .null] j := fun j hj => by rcases (show j = 0 ∨ j = 1 ∨ j = 2 ∨ j = 3 ∨ j = 4 ∨ j = 5 ∨ j = 6 ∨ j = 7 ∨ j = 8 ∨ j = 9 ∨ j = 10 ∨ j = 11 ∨ j = 12 ∨ j = 13 ∨ j = 14 ∨ j = 15 ∨ j = 16 ∨ j = 17 ∨ j = 18 ∨ j = 19 ∨ j = 20 ∨ j = 21 ∨ j = 22 ∨ j = 23 ∨ j = 24 ∨ j = 25 ∨ j = 26 ∨ j = 27 ∨ j = 28 ∨ j = 29 by omega) with rfl | rfl | rfl | rfl | rfl | rfl | rfl | rfl | rfl | rfl | rfl | rfl | rfl | rfl | rfl | rfl | rfl | rfl | rfl | rfl | rfl | rfl | rfl | rfl | rfl | rfl | rfl | rfl | rfl | rfl <;> rfl
theorem kY1 : gY 1 RX1 TX1 1 tyX1 := ⟨rfl, in_X1, tyX1_ok⟩
theorem hf0X1 : ∀ j, j < 1 → defaultValue (tyX1 j) = vp_V [.null] j := fun j hj => by rcases (show j = 0 by omega) with rfl <;> rfl
theorem kY2 : gY 2 RX2 TX2 55 tyX2 := ⟨rfl, in_X2, tyX2_ok⟩
theorem hf0X2 : ∀ j, j < 55 → defaultValue (tyX2 j) = vp_V [.null, .null, .null, .null, .int 0, .int 0, .int 0, .null, .int 0, .null, .null, .null, .null, .null, .int 0, .int 0, .null, .null, .int 0, .int 0, .int 0, .int 0, .int 0, .null, .null, .null, .int 0, .int 0, .int 0, .int 0, .int 0, .int 0, .int 0, .null, .null, .int 0, .int 0, .int 0, .int 0, .null, .null, .null, .int 0, .int 0, .null, .int 0, .null, .null, .int 0, .int 0, .int 0, .null, .null, .null, .null] j := fun j hj => by rcases (show j = 0 ∨ j = 1 ∨ j = 2 ∨ j = 3 ∨ j = 4 ∨ j = 5 ∨ j = 6 ∨ j = 7 ∨ j = 8 ∨ j = 9 ∨ j = 10 ∨ j = 11 ∨ j = 12 ∨ j = 13 ∨ j = 14 ∨ j = 15 ∨ j = 16 ∨ j = 17 ∨ j = 18 ∨ j = 19 ∨ j = 20 ∨ j = 21 ∨ j = 22 ∨ j = 23 ∨ j = 24 ∨ j = 25 ∨ j = 26 ∨ j = 27 ∨ j = 28 ∨ j = 29 ∨ j = 30 ∨ j = 31 ∨ j = 32 ∨ j = 33 ∨ j = 34 ∨ j = 35 ∨ j = 36 ∨ j = 37 ∨ j = 38 ∨ j = 39 ∨ j = 40 ∨ j = 41 ∨ j = 42 ∨ j = 43 ∨ j = 44 ∨ j = 45 ∨ j = 46 ∨ j = 47 ∨ j = 48 ∨ j = 49 ∨ j = 50 ∨ j = 51 ∨ j = 52 ∨ j = 53 ∨ j = 54 by omega) with rfl | rfl | rfl | rfl | rfl | rfl | rfl | rfl | rfl | rfl | rfl | rfl | rfl | rfl | rfl | rfl | rfl | rfl | rfl | rfl | rfl | rfl | rfl | rfl | rfl | rfl | rfl | rfl | rfl | rfl | rfl | rfl | rfl | rfl | rfl | rfl | rfl | rfl | rfl | rfl | rfl | rfl | rfl | rfl | rfl | rfl | rfl | rfl | rfl | rfl | rfl | rfl | rfl | rfl | rfl <;> rfl
theorem kY3 : gY 3 RX3 TX3 4 tyX3 := ⟨rfl, in_X3, tyX3_ok⟩
theorem hf0X3 : ∀ j, j < 4 → defaultValue (tyX3 j) = vp_V [.int 0, .int 0, .int 0, .int 0] j := fun j hj => by rcases (show j = 0 ∨ j = 1 ∨ j = 2 ∨ j = 3 by omega) with rfl | rfl | rfl | rfl <;> rfl
theorem kY4 : gY 4 RX4 TX4 4 tyX4 := ⟨rfl, in_X4, tyX4_ok⟩
theorem hf0X4 : ∀ j, j < 4 → defaultValue (tyX4 j) = vp_V [.int 0, .int 0, .int 0, .int 0] j := fun j hj => by rcases (show j = 0 ∨ j = 1 ∨ j = 2 ∨ j = 3 by omega) with rfl | rfl | rfl | rfl <;> rfl
theorem kY5 : gY 5 RX5 TX5 6 tyX5 := ⟨rfl, in_X5, tyX5_ok⟩
theorem hf0X5 : ∀ j, j < 6 → defaultValue (tyX5 j) = vp_V [.int 0, .int 0, .int 0, .int 0, .int 0, .int 0] j := fun j hj => by rcases (show j = 0 ∨ j = 1 ∨ j = 2 ∨ j = 3 ∨ j = 4 ∨ j = 5 by omega) with rfl | rfl | rfl | rfl | rfl | rfl <;> rfl
theorem kY6 : gY 6 RX6 TX6 4 tyX6 := ⟨rfl, in_X6, tyX6_ok⟩
theorem hf0X6 : ∀ j, j < 4 → defaultValue (tyX6 j) = vp_V [.int 0, .int 0, .int 0, .null] j := fun j hj => by rcases (show j = 0 ∨ j = 1 ∨ j = 2 ∨ j = 3 by omega) with rfl | rfl | rfl | rfl <;> rfl
theorem kY7 : gY 7 RX7 TX7 3 tyX7 := ⟨rfl, in_X7, tyX7_ok⟩
theorem hf0X7 : ∀ j, j < 3 → defaultValue (tyX7 j) = vp_V [.null, .null, .null] j := fun j hj => by rcases (show j = 0 ∨ j = 1 ∨ j = 2 by omega) with rfl | rfl | rfl <;> rfl
theorem kY8 : gY 8 RX9 TX9 1 tyX9 := ⟨rfl, in_X9, tyX9_ok⟩
theorem hf0X9 : ∀ j, j < 1 → defaultValue (tyX9 j) = vp_V [.int 0] j := fun j hj => by rcases (show j = 0 by omega) with rfl <;> rfl
theorem kY9 : gY 9 RX10 TX10 1 tyX10 := ⟨rfl, in_X10, tyX10_ok⟩
theorem hf0X10 : ∀ j, j < 1 → defaultValue (tyX10 j) = vp_V [.null] j := fun j hj => by rcases (show j = 0 by omega) with rfl <;> rfl
theorem kY10 : gY 10 RX11 TX11 1 tyX11 := ⟨rfl, in_X11, tyX11_ok⟩
theorem hf0X11 : ∀ j, j < 1 → defaultValue (tyX11 j) = vp_V [.null] j := fun j hj => by rcases (show j = 0 by omega) with rfl <;> rfl
theorem kY11 : gY 11 RX12 TX12 1 tyX12 := ⟨rfl, in_X12, tyX12_ok⟩
theorem hf0X12 : ∀ j, j < 1 → defaultValue (tyX12 j) = vp_V [.int 0] j := fun j hj => by rcases (show j = 0 by omega) with rfl <;> rfl
theorem kY12 : gY 12 RX13 TX13 3 tyX13 := ⟨rfl, in_X13, tyX13_ok⟩
theorem hf0X13 : ∀ j, j < 3 → defaultValue (tyX13 j) = vp_V [.int 0, .null, .null] j := fun j hj => by rcases (show j = 0 ∨ j = 1 ∨ j = 2 by omega) with rfl | rfl | rfl <;> rfl
theorem kY13 : gY 13 RX15 TX15 2 tyX15 := ⟨rfl, in_X15, tyX15_ok⟩
theorem hf0X15 : ∀ j, j < 2 → defaultValue (tyX15 j) = vp_V [.int 0, .null] j := fun j hj => by rcases (show j = 0 ∨ j = 1 by omega) with rfl | rfl <;> rfl
theorem kY14 : gY 14 RX16 TX16 3 tyX16 := ⟨rfl, in_X16, tyX16_ok⟩
theorem hf0X16 : ∀ j, j < 3 → defaultValue (tyX16 j) = vp_V [.int 0, .null, .null] j := fun j hj => by rcases (show j = 0 ∨ j = 1 ∨ j = 2 by omega) with rfl | rfl | rfl <;> rfl
theorem kY15 : gY 15 RX17 TX17 3 tyX17 := ⟨rfl, in_X17, tyX17_ok⟩
theorem hf0X17 : ∀ j, j < 3 → defaultValue (tyX17 j) = vp_V [.int 0, .null, .null] j := fun j hj => by rcases (show j = 0 ∨ j = 1 ∨ j = 2 by omega) with rfl | rfl | rfl <;> rfl
theorem kY16 : gY 16 RX18 TX18 4 tyX18 := ⟨rfl, in_X18, tyX18_ok⟩
theorem hf0X18 : ∀ j, j < 4 → defaultValue (tyX18 j) = vp_V [.int 0, .null, .null, .null] j := fun j hj => by rcases (show j = 0 ∨ j = 1 ∨ j = 2 ∨ j = 3 by omega) with rfl | rfl | rfl | rfl <;> rfl
theorem kY17 : gY 17 RX19 TX19 4 tyX19 := ⟨rfl, in_X19, tyX19_ok⟩
theorem hf0X19 : ∀ j, j < 4 → defaultValue (tyX19 j) = vp_V [.int 0, .null, .null, .null] j := fun j hj => by rcases (show j = 0 ∨ j = 1 ∨ j = 2 ∨ j = 3 by omega) with rfl | rfl | rfl | rfl <;> rfl
theorem kY18 : gY 18 RX20 TX20 5 tyX20 := ⟨rfl, in_X20, tyX20_ok⟩
theorem hf0X20 : ∀ j, j < 5 → defaultValue (tyX20 j) = vp_V [.int 0, .null, .null, .null, .null] j := fun j hj => by rcases (show j = 0 ∨ j = 1 ∨ j = 2 ∨ j = 3 ∨ j = 4 by omega) with rfl | rfl | rfl | rfl | rfl <;> rfl
theorem kY19 : gY 19 RX21 TX21 3 tyX21 := ⟨rfl, in_X21, tyX21_ok⟩
theorem hf0X21 : ∀ j, j < 3 → defaultValue (tyX21 j) = vp_V [.int 0, .null, .null] j := fun j hj => by rcases (show j = 0 ∨ j = 1 ∨ j = 2 by omega) with rfl | rfl | rfl <;> rfl
theorem kY20 : gY 20 RX22 TX22 5 tyX22 := ⟨rfl, in_X22, tyX22_ok⟩
theorem hf0X22 : ∀ j, j < 5 → defaultValue (tyX22 j) = vp_V [.int 0, .null, .null, .null, .null] j := fun j hj => by rcases (show j = 0 ∨ j = 1 ∨ j = 2 ∨ j = 3 ∨ j = 4 by omega) with rfl | rfl | rfl | rfl | rfl <;> rfl
theorem kY21 : gY 21 RX24 TX24 1 tyX24 := ⟨rfl, in_X24, tyX24_ok⟩
theorem hf0X24 : ∀ j, j < 1 → defaultValue (tyX24 j) = vp_V [.null] j := fun j hj => by rcases (show j = 0 by omega) with rfl <;> rfl
theorem kY22 : gY 22 RX25 TX25 1 tyX25 := ⟨rfl, in_X25, tyX25_ok⟩
theorem hf0X25 : ∀ j, j < 1 → defaultValue (tyX25 j) = vp_V [.null] j := fun j hj => by rcases (show j = 0 by omega) with rfl <;> rfl
theorem kY23 : gY 23 RX26 TX26 1 tyX26 := ⟨rfl, in_X26, tyX26_ok⟩
theorem hf0X26 : ∀ j, j < 1 → defaultValue (tyX26 j) = vp_V [.null] j := fun j hj => by rcases (show j = 0 by omega) with rfl <;> rfl
theorem kY24 : gY 24 RX27 TX27 1 tyX27 := ⟨rfl, in_X27, tyX27_ok⟩
theorem hf0X27 : ∀ j, j < 1 → defaultValue (tyX27 j) = vp_V [.null] j := fun j hj => by rcases (show j = 0 by omega) with rfl <;> rfl
theorem kY25 : gY 25 RX28 TX28 1 tyX28 := ⟨rfl, in_X28, tyX28_ok⟩
theorem hf0X28 : ∀ j, j < 1 → defaultValue (tyX28 j) = vp_V [.null] j := fun j hj => by rcases (show j = 0 by omega) with rfl <;> rfl
theorem hdX0_thing : yX0_thing.cls = RX0 ∧ yX0_thing.cls ≠ "java/lang/invoke/MethodHandle" ∧ yX0_thing.cls ≠ "java/lang/invoke/VarHandle" ∧ (parseMethodDescriptor yX0_thing.desc).map (fun d => d.parameters.length) = some 3 := by decide +kernel
theorem hdX0_isThingSo : yX0_isThingSo.cls ≠ "java/lang/invoke/MethodHandle" ∧ yX0_isThingSo.cls ≠ "java/lang/invoke/VarHandle" ∧ (parseMethodDescriptor yX0_isThingSo.desc).map (fun d => d.parameters.length) = some 4 := by decide +kernel
theorem hdX0_in : yX0_in.cls ≠ "java/lang/invoke/MethodHandle" ∧ yX0_in.cls ≠ "java/lang/invoke/VarHandle" ∧ (parseMethodDescriptor yX0_in.desc).map (fun d => d.parameters.length) = some 3 := by decide +kernel
theorem hdX0_isShelf : yX0_isShelf.cls ≠ "java/lang/invoke/MethodHandle" ∧ yX0_isShelf.cls ≠ "java/lang/invoke/VarHandle" ∧ (parseMethodDescriptor yX0_isShelf.desc).map (fun d => d.parameters.length) = some 1 := by decide +kernel
theorem hdX0_sort : yX0_sort.cls = RX0 ∧ yX0_sort.cls ≠ "java/lang/invoke/MethodHandle" ∧ yX0_sort.cls ≠ "java/lang/invoke/VarHandle" ∧ (parseMethodDescriptor yX0_sort.desc).map (fun d => d.parameters.length) = some 3 := by decide +kernel
theorem hdX0_of : yX0_of.cls = RX0 ∧ yX0_of.cls ≠ "java/lang/invoke/MethodHandle" ∧ yX0_of.cls ≠ "java/lang/invoke/VarHandle" ∧ (parseMethodDescriptor yX0_of.desc).map (fun d => d.parameters.length) = some 2 := by decide +kernel
theorem hdX0_isSort : yX0_isSort.cls = RX0 ∧ yX0_isSort.cls ≠ "java/lang/invoke/MethodHandle" ∧ yX0_isSort.cls ≠ "java/lang/invoke/VarHandle" ∧ (parseMethodDescriptor yX0_isSort.desc).map (fun d => d.parameters.length) = some 1 := by decide +kernel
theorem hdX0_isThing : yX0_isThing.cls = RX0 ∧ yX0_isThing.cls ≠ "java/lang/invoke/MethodHandle" ∧ yX0_isThing.cls ≠ "java/lang/invoke/VarHandle" ∧ (parseMethodDescriptor yX0_isThing.desc).map (fun d => d.parameters.length) = some 1 := by decide +kernel
theorem hdX0_undo : yX0_undo.cls = RX0 ∧ yX0_undo.cls ≠ "java/lang/invoke/MethodHandle" ∧ yX0_undo.cls ≠ "java/lang/invoke/VarHandle" ∧ (parseMethodDescriptor yX0_undo.desc).map (fun d => d.parameters.length) = some 0 := by decide +kernel
theorem hdX0_setTo : yX0_setTo.cls = RX0 ∧ yX0_setTo.cls ≠ "java/lang/invoke/MethodHandle" ∧ yX0_setTo.cls ≠ "java/lang/invoke/VarHandle" ∧ (parseMethodDescriptor yX0_setTo.desc).map (fun d => d.parameters.length) = some 3 := by decide +kernel
theorem hdX0_redo : yX0_redo.cls = RX0 ∧ yX0_redo.cls ≠ "java/lang/invoke/MethodHandle" ∧ yX0_redo.cls ≠ "java/lang/invoke/VarHandle" ∧ (parseMethodDescriptor yX0_redo.desc).map (fun d => d.parameters.length) = some 0 := by decide +kernel
theorem hdX0_mend : yX0_mend.cls = RX0 ∧ yX0_mend.cls ≠ "java/lang/invoke/MethodHandle" ∧ yX0_mend.cls ≠ "java/lang/invoke/VarHandle" ∧ (parseMethodDescriptor yX0_mend.desc).map (fun d => d.parameters.length) = some 3 := by decide +kernel
theorem hdX0_become : yX0_become.cls = RX0 ∧ yX0_become.cls ≠ "java/lang/invoke/MethodHandle" ∧ yX0_become.cls ≠ "java/lang/invoke/VarHandle" ∧ (parseMethodDescriptor yX0_become.desc).map (fun d => d.parameters.length) = some 3 := by decide +kernel
theorem hdX0_valueAt : yX0_valueAt.cls = RX0 ∧ yX0_valueAt.cls ≠ "java/lang/invoke/MethodHandle" ∧ yX0_valueAt.cls ≠ "java/lang/invoke/VarHandle" ∧ (parseMethodDescriptor yX0_valueAt.desc).map (fun d => d.parameters.length) = some 2 := by decide +kernel
theorem hdX0_purse : yX0_purse.cls = RX0 ∧ yX0_purse.cls ≠ "java/lang/invoke/MethodHandle" ∧ yX0_purse.cls ≠ "java/lang/invoke/VarHandle" ∧ (parseMethodDescriptor yX0_purse.desc).map (fun d => d.parameters.length) = some 3 := by decide +kernel
theorem hdX0_feed : yX0_feed.cls = RX0 ∧ yX0_feed.cls ≠ "java/lang/invoke/MethodHandle" ∧ yX0_feed.cls ≠ "java/lang/invoke/VarHandle" ∧ (parseMethodDescriptor yX0_feed.desc).map (fun d => d.parameters.length) = some 2 := by decide +kernel
theorem hdX0_want : yX0_want.cls = RX0 ∧ yX0_want.cls ≠ "java/lang/invoke/MethodHandle" ∧ yX0_want.cls ≠ "java/lang/invoke/VarHandle" ∧ (parseMethodDescriptor yX0_want.desc).map (fun d => d.parameters.length) = some 0 := by decide +kernel
theorem hdX0_worth : yX0_worth.cls = RX0 ∧ yX0_worth.cls ≠ "java/lang/invoke/MethodHandle" ∧ yX0_worth.cls ≠ "java/lang/invoke/VarHandle" ∧ (parseMethodDescriptor yX0_worth.desc).map (fun d => d.parameters.length) = some 2 := by decide +kernel
theorem hdX0_worthOf : yX0_worthOf.cls = RX0 ∧ yX0_worthOf.cls ≠ "java/lang/invoke/MethodHandle" ∧ yX0_worthOf.cls ≠ "java/lang/invoke/VarHandle" ∧ (parseMethodDescriptor yX0_worthOf.desc).map (fun d => d.parameters.length) = some 3 := by decide +kernel
theorem hdX0_basket : yX0_basket.cls = RX0 ∧ yX0_basket.cls ≠ "java/lang/invoke/MethodHandle" ∧ yX0_basket.cls ≠ "java/lang/invoke/VarHandle" ∧ (parseMethodDescriptor yX0_basket.desc).map (fun d => d.parameters.length) = some 2 := by decide +kernel
theorem hdX0_bestOf : yX0_bestOf.cls = RX0 ∧ yX0_bestOf.cls ≠ "java/lang/invoke/MethodHandle" ∧ yX0_bestOf.cls ≠ "java/lang/invoke/VarHandle" ∧ (parseMethodDescriptor yX0_bestOf.desc).map (fun d => d.parameters.length) = some 1 := by decide +kernel
theorem hdX0_look : yX0_look.cls = RX0 ∧ yX0_look.cls ≠ "java/lang/invoke/MethodHandle" ∧ yX0_look.cls ≠ "java/lang/invoke/VarHandle" ∧ (parseMethodDescriptor yX0_look.desc).map (fun d => d.parameters.length) = some 1 := by decide +kernel
theorem hdX0_basketMany : yX0_basketMany.cls = RX0 ∧ yX0_basketMany.cls ≠ "java/lang/invoke/MethodHandle" ∧ yX0_basketMany.cls ≠ "java/lang/invoke/VarHandle" ∧ (parseMethodDescriptor yX0_basketMany.desc).map (fun d => d.parameters.length) = some 0 := by decide +kernel
theorem hdX0_inBasket : yX0_inBasket.cls = RX0 ∧ yX0_inBasket.cls ≠ "java/lang/invoke/MethodHandle" ∧ yX0_inBasket.cls ≠ "java/lang/invoke/VarHandle" ∧ (parseMethodDescriptor yX0_inBasket.desc).map (fun d => d.parameters.length) = some 2 := by decide +kernel
theorem hdX0_bestBy : yX0_bestBy.cls = RX0 ∧ yX0_bestBy.cls ≠ "java/lang/invoke/MethodHandle" ∧ yX0_bestBy.cls ≠ "java/lang/invoke/VarHandle" ∧ (parseMethodDescriptor yX0_bestBy.desc).map (fun d => d.parameters.length) = some 2 := by decide +kernel
theorem hdX0_digits : yX0_digits.cls = RX0 ∧ yX0_digits.cls ≠ "java/lang/invoke/MethodHandle" ∧ yX0_digits.cls ≠ "java/lang/invoke/VarHandle" ∧ (parseMethodDescriptor yX0_digits.desc).map (fun d => d.parameters.length) = some 1 := by decide +kernel
theorem hdX0_wanted : yX0_wanted.cls = RX0 ∧ yX0_wanted.cls ≠ "java/lang/invoke/MethodHandle" ∧ yX0_wanted.cls ≠ "java/lang/invoke/VarHandle" ∧ (parseMethodDescriptor yX0_wanted.desc).map (fun d => d.parameters.length) = some 2 := by decide +kernel
theorem hdX0_findWanted : yX0_findWanted.cls = RX0 ∧ yX0_findWanted.cls ≠ "java/lang/invoke/MethodHandle" ∧ yX0_findWanted.cls ≠ "java/lang/invoke/VarHandle" ∧ (parseMethodDescriptor yX0_findWanted.desc).map (fun d => d.parameters.length) = some 0 := by decide +kernel
theorem hdX0_both : yX0_both.cls = RX0 ∧ yX0_both.cls ≠ "java/lang/invoke/MethodHandle" ∧ yX0_both.cls ≠ "java/lang/invoke/VarHandle" ∧ (parseMethodDescriptor yX0_both.desc).map (fun d => d.parameters.length) = some 0 := by decide +kernel
theorem hdX0_over : yX0_over.cls = RX0 ∧ yX0_over.cls ≠ "java/lang/invoke/MethodHandle" ∧ yX0_over.cls ≠ "java/lang/invoke/VarHandle" ∧ (parseMethodDescriptor yX0_over.desc).map (fun d => d.parameters.length) = some 1 := by decide +kernel
theorem hdX0_led : yX0_led.cls = RX0 ∧ yX0_led.cls ≠ "java/lang/invoke/MethodHandle" ∧ yX0_led.cls ≠ "java/lang/invoke/VarHandle" ∧ (parseMethodDescriptor yX0_led.desc).map (fun d => d.parameters.length) = some 2 := by decide +kernel
theorem hdX0_found : yX0_found.cls = RX0 ∧ yX0_found.cls ≠ "java/lang/invoke/MethodHandle" ∧ yX0_found.cls ≠ "java/lang/invoke/VarHandle" ∧ (parseMethodDescriptor yX0_found.desc).map (fun d => d.parameters.length) = some 2 := by decide +kernel
theorem hdX0_goRounds : yX0_goRounds.cls = RX0 ∧ yX0_goRounds.cls ≠ "java/lang/invoke/MethodHandle" ∧ yX0_goRounds.cls ≠ "java/lang/invoke/VarHandle" ∧ (parseMethodDescriptor yX0_goRounds.desc).map (fun d => d.parameters.length) = some 1 := by decide +kernel
theorem hdX0_takePoints : yX0_takePoints.cls = RX0 ∧ yX0_takePoints.cls ≠ "java/lang/invoke/MethodHandle" ∧ yX0_takePoints.cls ≠ "java/lang/invoke/VarHandle" ∧ (parseMethodDescriptor yX0_takePoints.desc).map (fun d => d.parameters.length) = some 1 := by decide +kernel
theorem hdX0_step : yX0_step.cls = RX0 ∧ yX0_step.cls ≠ "java/lang/invoke/MethodHandle" ∧ yX0_step.cls ≠ "java/lang/invoke/VarHandle" ∧ (parseMethodDescriptor yX0_step.desc).map (fun d => d.parameters.length) = some 0 := by decide +kernel
theorem hdX0_set : yX0_set.cls = RX0 ∧ yX0_set.cls ≠ "java/lang/invoke/MethodHandle" ∧ yX0_set.cls ≠ "java/lang/invoke/VarHandle" ∧ (parseMethodDescriptor yX0_set.desc).map (fun d => d.parameters.length) = some 1 := by decide +kernel
theorem hdX0_tell : yX0_tell.cls = RX0 ∧ yX0_tell.cls ≠ "java/lang/invoke/MethodHandle" ∧ yX0_tell.cls ≠ "java/lang/invoke/VarHandle" ∧ (parseMethodDescriptor yX0_tell.desc).map (fun d => d.parameters.length) = some 2 := by decide +kernel
theorem hdX0_toldBasket : yX0_toldBasket.cls = RX0 ∧ yX0_toldBasket.cls ≠ "java/lang/invoke/MethodHandle" ∧ yX0_toldBasket.cls ≠ "java/lang/invoke/VarHandle" ∧ (parseMethodDescriptor yX0_toldBasket.desc).map (fun d => d.parameters.length) = some 1 := by decide +kernel
theorem hdX0_judge : yX0_judge.cls = RX0 ∧ yX0_judge.cls ≠ "java/lang/invoke/MethodHandle" ∧ yX0_judge.cls ≠ "java/lang/invoke/VarHandle" ∧ (parseMethodDescriptor yX0_judge.desc).map (fun d => d.parameters.length) = some 0 := by decide +kernel
theorem hdX0_changed : yX0_changed.cls = RX0 ∧ yX0_changed.cls ≠ "java/lang/invoke/MethodHandle" ∧ yX0_changed.cls ≠ "java/lang/invoke/VarHandle" ∧ (parseMethodDescriptor yX0_changed.desc).map (fun d => d.parameters.length) = some 3 := by decide +kernel
theorem hdX0_bestWorth : yX0_bestWorth.cls = RX0 ∧ yX0_bestWorth.cls ≠ "java/lang/invoke/MethodHandle" ∧ yX0_bestWorth.cls ≠ "java/lang/invoke/VarHandle" ∧ (parseMethodDescriptor yX0_bestWorth.desc).map (fun d => d.parameters.length) = some 1 := by decide +kernel
theorem hdX0_bestChanged : yX0_bestChanged.cls = RX0 ∧ yX0_bestChanged.cls ≠ "java/lang/invoke/MethodHandle" ∧ yX0_bestChanged.cls ≠ "java/lang/invoke/VarHandle" ∧ (parseMethodDescriptor yX0_bestChanged.desc).map (fun d => d.parameters.length) = some 2 := by decide +kernel
theorem hdX0_free : yX0_free.cls = RX0 ∧ yX0_free.cls ≠ "java/lang/invoke/MethodHandle" ∧ yX0_free.cls ≠ "java/lang/invoke/VarHandle" ∧ (parseMethodDescriptor yX0_free.desc).map (fun d => d.parameters.length) = some 0 := by decide +kernel
theorem hdX0_black : yX0_black.cls = RX0 ∧ yX0_black.cls ≠ "java/lang/invoke/MethodHandle" ∧ yX0_black.cls ≠ "java/lang/invoke/VarHandle" ∧ (parseMethodDescriptor yX0_black.desc).map (fun d => d.parameters.length) = some 3 := by decide +kernel
theorem hdX0_beside : yX0_beside.cls = RX0 ∧ yX0_beside.cls ≠ "java/lang/invoke/MethodHandle" ∧ yX0_beside.cls ≠ "java/lang/invoke/VarHandle" ∧ (parseMethodDescriptor yX0_beside.desc).map (fun d => d.parameters.length) = some 2 := by decide +kernel
theorem hdX0_isDear : yX0_isDear.cls ≠ "java/lang/invoke/MethodHandle" ∧ yX0_isDear.cls ≠ "java/lang/invoke/VarHandle" ∧ (parseMethodDescriptor yX0_isDear.desc).map (fun d => d.parameters.length) = some 1 := by decide +kernel
theorem hdX0_besideOf : yX0_besideOf.cls = RX0 ∧ yX0_besideOf.cls ≠ "java/lang/invoke/MethodHandle" ∧ yX0_besideOf.cls ≠ "java/lang/invoke/VarHandle" ∧ (parseMethodDescriptor yX0_besideOf.desc).map (fun d => d.parameters.length) = some 2 := by decide +kernel
theorem hdX0_allHeads : yX0_allHeads.cls = RX0 ∧ yX0_allHeads.cls ≠ "java/lang/invoke/MethodHandle" ∧ yX0_allHeads.cls ≠ "java/lang/invoke/VarHandle" ∧ (parseMethodDescriptor yX0_allHeads.desc).map (fun d => d.parameters.length) = some 0 := by decide +kernel
theorem hdX0_loses : yX0_loses.cls = RX0 ∧ yX0_loses.cls ≠ "java/lang/invoke/MethodHandle" ∧ yX0_loses.cls ≠ "java/lang/invoke/VarHandle" ∧ (parseMethodDescriptor yX0_loses.desc).map (fun d => d.parameters.length) = some 1 := by decide +kernel
theorem hdX0_fewest : yX0_fewest.cls = RX0 ∧ yX0_fewest.cls ≠ "java/lang/invoke/MethodHandle" ∧ yX0_fewest.cls ≠ "java/lang/invoke/VarHandle" ∧ (parseMethodDescriptor yX0_fewest.desc).map (fun d => d.parameters.length) = some 0 := by decide +kernel
theorem hdX0_least : yX0_least.cls = RX0 ∧ yX0_least.cls ≠ "java/lang/invoke/MethodHandle" ∧ yX0_least.cls ≠ "java/lang/invoke/VarHandle" ∧ (parseMethodDescriptor yX0_least.desc).map (fun d => d.parameters.length) = some 1 := by decide +kernel
theorem hdX0_months : yX0_months.cls = RX0 ∧ yX0_months.cls ≠ "java/lang/invoke/MethodHandle" ∧ yX0_months.cls ≠ "java/lang/invoke/VarHandle" ∧ (parseMethodDescriptor yX0_months.desc).map (fun d => d.parameters.length) = some 4 := by decide +kernel
theorem hdX0_foresight : yX0_foresight.cls = RX0 ∧ yX0_foresight.cls ≠ "java/lang/invoke/MethodHandle" ∧ yX0_foresight.cls ≠ "java/lang/invoke/VarHandle" ∧ (parseMethodDescriptor yX0_foresight.desc).map (fun d => d.parameters.length) = some 1 := by decide +kernel
theorem hdX0_cheap : yX0_cheap.cls = RX0 ∧ yX0_cheap.cls ≠ "java/lang/invoke/MethodHandle" ∧ yX0_cheap.cls ≠ "java/lang/invoke/VarHandle" ∧ (parseMethodDescriptor yX0_cheap.desc).map (fun d => d.parameters.length) = some 1 := by decide +kernel
theorem hdX0_wrong : yX0_wrong.cls = RX0 ∧ yX0_wrong.cls ≠ "java/lang/invoke/MethodHandle" ∧ yX0_wrong.cls ≠ "java/lang/invoke/VarHandle" ∧ (parseMethodDescriptor yX0_wrong.desc).map (fun d => d.parameters.length) = some 1 := by decide +kernel
theorem hdX0_body : yX0_body.cls = RX0 ∧ yX0_body.cls ≠ "java/lang/invoke/MethodHandle" ∧ yX0_body.cls ≠ "java/lang/invoke/VarHandle" ∧ (parseMethodDescriptor yX0_body.desc).map (fun d => d.parameters.length) = some 1 := by decide +kernel
theorem hdX0_made : yX0_made.cls = RX0 ∧ yX0_made.cls ≠ "java/lang/invoke/MethodHandle" ∧ yX0_made.cls ≠ "java/lang/invoke/VarHandle" ∧ (parseMethodDescriptor yX0_made.desc).map (fun d => d.parameters.length) = some 1 := by decide +kernel
theorem hdX0_act : yX0_act.cls = RX0 ∧ yX0_act.cls ≠ "java/lang/invoke/MethodHandle" ∧ yX0_act.cls ≠ "java/lang/invoke/VarHandle" ∧ (parseMethodDescriptor yX0_act.desc).map (fun d => d.parameters.length) = some 3 := by decide +kernel
theorem hdX0_isBody : yX0_isBody.cls = RX0 ∧ yX0_isBody.cls ≠ "java/lang/invoke/MethodHandle" ∧ yX0_isBody.cls ≠ "java/lang/invoke/VarHandle" ∧ (parseMethodDescriptor yX0_isBody.desc).map (fun d => d.parameters.length) = some 1 := by decide +kernel
theorem hdX0_ran : yX0_ran.cls = RX0 ∧ yX0_ran.cls ≠ "java/lang/invoke/MethodHandle" ∧ yX0_ran.cls ≠ "java/lang/invoke/VarHandle" ∧ (parseMethodDescriptor yX0_ran.desc).map (fun d => d.parameters.length) = some 1 := by decide +kernel
theorem hdX0_trace : yX0_trace.cls = RX0 ∧ yX0_trace.cls ≠ "java/lang/invoke/MethodHandle" ∧ yX0_trace.cls ≠ "java/lang/invoke/VarHandle" ∧ (parseMethodDescriptor yX0_trace.desc).map (fun d => d.parameters.length) = some 1 := by decide +kernel
theorem hdX0_keep : yX0_keep.cls = RX0 ∧ yX0_keep.cls ≠ "java/lang/invoke/MethodHandle" ∧ yX0_keep.cls ≠ "java/lang/invoke/VarHandle" ∧ (parseMethodDescriptor yX0_keep.desc).map (fun d => d.parameters.length) = some 2 := by decide +kernel
theorem hdX0_count : yX0_count.cls = RX0 ∧ yX0_count.cls ≠ "java/lang/invoke/MethodHandle" ∧ yX0_count.cls ≠ "java/lang/invoke/VarHandle" ∧ (parseMethodDescriptor yX0_count.desc).map (fun d => d.parameters.length) = some 1 := by decide +kernel
theorem hdX5_points : yX5_points.cls = RX5 ∧ yX5_points.cls ≠ "java/lang/invoke/MethodHandle" ∧ yX5_points.cls ≠ "java/lang/invoke/VarHandle" ∧ (parseMethodDescriptor yX5_points.desc).map (fun d => d.parameters.length) = some 0 := by decide +kernel
theorem hdX1_clear : yX1_clear.cls = RX1 ∧ yX1_clear.cls ≠ "java/lang/invoke/MethodHandle" ∧ yX1_clear.cls ≠ "java/lang/invoke/VarHandle" ∧ (parseMethodDescriptor yX1_clear.desc).map (fun d => d.parameters.length) = some 0 := by decide +kernel
theorem hdX3_init : yX3_init.name = "<init>" ∧ yX3_init.cls ≠ "java/lang/invoke/MethodHandle" ∧ yX3_init.cls ≠ "java/lang/invoke/VarHandle" ∧ (parseMethodDescriptor yX3_init.desc).map (fun d => d.parameters.length) = some 4 := by decide +kernel
theorem hdX4_init : yX4_init.name = "<init>" ∧ yX4_init.cls ≠ "java/lang/invoke/MethodHandle" ∧ yX4_init.cls ≠ "java/lang/invoke/VarHandle" ∧ (parseMethodDescriptor yX4_init.desc).map (fun d => d.parameters.length) = some 4 := by decide +kernel
theorem hdX5_init : yX5_init.name = "<init>" ∧ yX5_init.cls ≠ "java/lang/invoke/MethodHandle" ∧ yX5_init.cls ≠ "java/lang/invoke/VarHandle" ∧ (parseMethodDescriptor yX5_init.desc).map (fun d => d.parameters.length) = some 5 := by decide +kernel
theorem hdJ13_bitCount : yJ13_bitCount.cls ≠ "java/lang/invoke/MethodHandle" ∧ yJ13_bitCount.cls ≠ "java/lang/invoke/VarHandle" ∧ (parseMethodDescriptor yJ13_bitCount.desc).map (fun d => d.parameters.length) = some 1 := by decide +kernel
theorem hdJ13_signum : yJ13_signum.cls ≠ "java/lang/invoke/MethodHandle" ∧ yJ13_signum.cls ≠ "java/lang/invoke/VarHandle" ∧ (parseMethodDescriptor yJ13_signum.desc).map (fun d => d.parameters.length) = some 1 := by decide +kernel
theorem hdJ4_indexOf : yJ4_indexOf.cls = RJ4 ∧ yJ4_indexOf.cls ≠ "java/lang/invoke/MethodHandle" ∧ yJ4_indexOf.cls ≠ "java/lang/invoke/VarHandle" ∧ (parseMethodDescriptor yJ4_indexOf.desc).map (fun d => d.parameters.length) = some 1 := by decide +kernel
theorem hdJ4_indexOf_2 : yJ4_indexOf_2.cls = RJ4 ∧ yJ4_indexOf_2.cls ≠ "java/lang/invoke/MethodHandle" ∧ yJ4_indexOf_2.cls ≠ "java/lang/invoke/VarHandle" ∧ (parseMethodDescriptor yJ4_indexOf_2.desc).map (fun d => d.parameters.length) = some 2 := by decide +kernel
theorem hdJ4_isLatin1 : yJ4_isLatin1.cls = RJ4 ∧ yJ4_isLatin1.cls ≠ "java/lang/invoke/MethodHandle" ∧ yJ4_isLatin1.cls ≠ "java/lang/invoke/VarHandle" ∧ (parseMethodDescriptor yJ4_isLatin1.desc).map (fun d => d.parameters.length) = some 0 := by decide +kernel
theorem hdJ4_length : yJ4_length.cls = RJ4 ∧ yJ4_length.cls ≠ "java/lang/invoke/MethodHandle" ∧ yJ4_length.cls ≠ "java/lang/invoke/VarHandle" ∧ (parseMethodDescriptor yJ4_length.desc).map (fun d => d.parameters.length) = some 0 := by decide +kernel
theorem hdJ4_coder : yJ4_coder.cls = RJ4 ∧ yJ4_coder.cls ≠ "java/lang/invoke/MethodHandle" ∧ yJ4_coder.cls ≠ "java/lang/invoke/VarHandle" ∧ (parseMethodDescriptor yJ4_coder.desc).map (fun d => d.parameters.length) = some 0 := by decide +kernel
theorem hdJ8_indexOf : yJ8_indexOf.cls ≠ "java/lang/invoke/MethodHandle" ∧ yJ8_indexOf.cls ≠ "java/lang/invoke/VarHandle" ∧ (parseMethodDescriptor yJ8_indexOf.desc).map (fun d => d.parameters.length) = some 4 := by decide +kernel
theorem hdJ8_indexOfChar : yJ8_indexOfChar.cls ≠ "java/lang/invoke/MethodHandle" ∧ yJ8_indexOfChar.cls ≠ "java/lang/invoke/VarHandle" ∧ (parseMethodDescriptor yJ8_indexOfChar.desc).map (fun d => d.parameters.length) = some 4 := by decide +kernel
theorem hdJ8_canEncode : yJ8_canEncode.cls ≠ "java/lang/invoke/MethodHandle" ∧ yJ8_canEncode.cls ≠ "java/lang/invoke/VarHandle" ∧ (parseMethodDescriptor yJ8_canEncode.desc).map (fun d => d.parameters.length) = some 1 := by decide +kernel
theorem hdX6_here : yX6_here.cls = RX6 ∧ yX6_here.cls ≠ "java/lang/invoke/MethodHandle" ∧ yX6_here.cls ≠ "java/lang/invoke/VarHandle" ∧ (parseMethodDescriptor yX6_here.desc).map (fun d => d.parameters.length) = some 0 := by decide +kernel
theorem hdX6_isOne : yX6_isOne.cls = RX6 ∧ yX6_isOne.cls ≠ "java/lang/invoke/MethodHandle" ∧ yX6_isOne.cls ≠ "java/lang/invoke/VarHandle" ∧ (parseMethodDescriptor yX6_isOne.desc).map (fun d => d.parameters.length) = some 1 := by decide +kernel
theorem hdX6_wrong : yX6_wrong.cls = RX6 ∧ yX6_wrong.cls ≠ "java/lang/invoke/MethodHandle" ∧ yX6_wrong.cls ≠ "java/lang/invoke/VarHandle" ∧ (parseMethodDescriptor yX6_wrong.desc).map (fun d => d.parameters.length) = some 0 := by decide +kernel
theorem hdX6_opens : yX6_opens.cls = RX6 ∧ yX6_opens.cls ≠ "java/lang/invoke/MethodHandle" ∧ yX6_opens.cls ≠ "java/lang/invoke/VarHandle" ∧ (parseMethodDescriptor yX6_opens.desc).map (fun d => d.parameters.length) = some 0 := by decide +kernel
theorem hdX6_init : yX6_init.name = "<init>" ∧ yX6_init.cls ≠ "java/lang/invoke/MethodHandle" ∧ yX6_init.cls ≠ "java/lang/invoke/VarHandle" ∧ (parseMethodDescriptor yX6_init.desc).map (fun d => d.parameters.length) = some 1 := by decide +kernel
theorem hdX7_init : yX7_init.name = "<init>" ∧ yX7_init.cls ≠ "java/lang/invoke/MethodHandle" ∧ yX7_init.cls ≠ "java/lang/invoke/VarHandle" ∧ (parseMethodDescriptor yX7_init.desc).map (fun d => d.parameters.length) = some 0 := by decide +kernel
theorem hdX8_init : yX8_init.name = "<init>" ∧ yX8_init.cls ≠ "java/lang/invoke/MethodHandle" ∧ yX8_init.cls ≠ "java/lang/invoke/VarHandle" ∧ (parseMethodDescriptor yX8_init.desc).map (fun d => d.parameters.length) = some 0 := by decide +kernel
theorem hdX14_init : yX14_init.name = "<init>" ∧ yX14_init.cls ≠ "java/lang/invoke/MethodHandle" ∧ yX14_init.cls ≠ "java/lang/invoke/VarHandle" ∧ (parseMethodDescriptor yX14_init.desc).map (fun d => d.parameters.length) = some 0 := by decide +kernel
theorem hdX23_init : yX23_init.name = "<init>" ∧ yX23_init.cls ≠ "java/lang/invoke/MethodHandle" ∧ yX23_init.cls ≠ "java/lang/invoke/VarHandle" ∧ (parseMethodDescriptor yX23_init.desc).map (fun d => d.parameters.length) = some 0 := by decide +kernel
theorem hdX9_init : yX9_init.name = "<init>" ∧ yX9_init.cls ≠ "java/lang/invoke/MethodHandle" ∧ yX9_init.cls ≠ "java/lang/invoke/VarHandle" ∧ (parseMethodDescriptor yX9_init.desc).map (fun d => d.parameters.length) = some 1 := by decide +kernel
theorem hdX10_init : yX10_init.name = "<init>" ∧ yX10_init.cls ≠ "java/lang/invoke/MethodHandle" ∧ yX10_init.cls ≠ "java/lang/invoke/VarHandle" ∧ (parseMethodDescriptor yX10_init.desc).map (fun d => d.parameters.length) = some 1 := by decide +kernel
theorem hdX11_init : yX11_init.name = "<init>" ∧ yX11_init.cls ≠ "java/lang/invoke/MethodHandle" ∧ yX11_init.cls ≠ "java/lang/invoke/VarHandle" ∧ (parseMethodDescriptor yX11_init.desc).map (fun d => d.parameters.length) = some 1 := by decide +kernel
theorem hdX12_init : yX12_init.name = "<init>" ∧ yX12_init.cls ≠ "java/lang/invoke/MethodHandle" ∧ yX12_init.cls ≠ "java/lang/invoke/VarHandle" ∧ (parseMethodDescriptor yX12_init.desc).map (fun d => d.parameters.length) = some 1 := by decide +kernel
theorem hdX13_init : yX13_init.name = "<init>" ∧ yX13_init.cls ≠ "java/lang/invoke/MethodHandle" ∧ yX13_init.cls ≠ "java/lang/invoke/VarHandle" ∧ (parseMethodDescriptor yX13_init.desc).map (fun d => d.parameters.length) = some 3 := by decide +kernel
theorem hdX9_value : yX9_value.cls = RX9 ∧ yX9_value.cls ≠ "java/lang/invoke/MethodHandle" ∧ yX9_value.cls ≠ "java/lang/invoke/VarHandle" ∧ (parseMethodDescriptor yX9_value.desc).map (fun d => d.parameters.length) = some 1 := by decide +kernel
theorem hdX10_value : yX10_value.cls = RX10 ∧ yX10_value.cls ≠ "java/lang/invoke/MethodHandle" ∧ yX10_value.cls ≠ "java/lang/invoke/VarHandle" ∧ (parseMethodDescriptor yX10_value.desc).map (fun d => d.parameters.length) = some 1 := by decide +kernel
theorem hdX11_value : yX11_value.cls = RX11 ∧ yX11_value.cls ≠ "java/lang/invoke/MethodHandle" ∧ yX11_value.cls ≠ "java/lang/invoke/VarHandle" ∧ (parseMethodDescriptor yX11_value.desc).map (fun d => d.parameters.length) = some 1 := by decide +kernel
theorem hdX12_value : yX12_value.cls = RX12 ∧ yX12_value.cls ≠ "java/lang/invoke/MethodHandle" ∧ yX12_value.cls ≠ "java/lang/invoke/VarHandle" ∧ (parseMethodDescriptor yX12_value.desc).map (fun d => d.parameters.length) = some 1 := by decide +kernel
theorem hdX13_value : yX13_value.cls = RX13 ∧ yX13_value.cls ≠ "java/lang/invoke/MethodHandle" ∧ yX13_value.cls ≠ "java/lang/invoke/VarHandle" ∧ (parseMethodDescriptor yX13_value.desc).map (fun d => d.parameters.length) = some 1 := by decide +kernel
theorem hdX13_is : yX13_is.cls ≠ "java/lang/invoke/MethodHandle" ∧ yX13_is.cls ≠ "java/lang/invoke/VarHandle" ∧ (parseMethodDescriptor yX13_is.desc).map (fun d => d.parameters.length) = some 1 := by decide +kernel
theorem hdX6_operand : yX6_operand.cls = RX6 ∧ yX6_operand.cls ≠ "java/lang/invoke/MethodHandle" ∧ yX6_operand.cls ≠ "java/lang/invoke/VarHandle" ∧ (parseMethodDescriptor yX6_operand.desc).map (fun d => d.parameters.length) = some 0 := by decide +kernel
theorem hdX6_product : yX6_product.cls = RX6 ∧ yX6_product.cls ≠ "java/lang/invoke/MethodHandle" ∧ yX6_product.cls ≠ "java/lang/invoke/VarHandle" ∧ (parseMethodDescriptor yX6_product.desc).map (fun d => d.parameters.length) = some 0 := by decide +kernel
theorem hdX6_sum : yX6_sum.cls = RX6 ∧ yX6_sum.cls ≠ "java/lang/invoke/MethodHandle" ∧ yX6_sum.cls ≠ "java/lang/invoke/VarHandle" ∧ (parseMethodDescriptor yX6_sum.desc).map (fun d => d.parameters.length) = some 0 := by decide +kernel
theorem hdX6_compared : yX6_compared.cls = RX6 ∧ yX6_compared.cls ≠ "java/lang/invoke/MethodHandle" ∧ yX6_compared.cls ≠ "java/lang/invoke/VarHandle" ∧ (parseMethodDescriptor yX6_compared.desc).map (fun d => d.parameters.length) = some 0 := by decide +kernel
theorem hdX6_all : yX6_all.cls = RX6 ∧ yX6_all.cls ≠ "java/lang/invoke/MethodHandle" ∧ yX6_all.cls ≠ "java/lang/invoke/VarHandle" ∧ (parseMethodDescriptor yX6_all.desc).map (fun d => d.parameters.length) = some 0 := by decide +kernel
theorem hdX6_either : yX6_either.cls = RX6 ∧ yX6_either.cls ≠ "java/lang/invoke/MethodHandle" ∧ yX6_either.cls ≠ "java/lang/invoke/VarHandle" ∧ (parseMethodDescriptor yX6_either.desc).map (fun d => d.parameters.length) = some 0 := by decide +kernel
theorem hdX6_joined : yX6_joined.cls = RX6 ∧ yX6_joined.cls ≠ "java/lang/invoke/MethodHandle" ∧ yX6_joined.cls ≠ "java/lang/invoke/VarHandle" ∧ (parseMethodDescriptor yX6_joined.desc).map (fun d => d.parameters.length) = some 3 := by decide +kernel
theorem hdX6_line : yX6_line.cls = RX6 ∧ yX6_line.cls ≠ "java/lang/invoke/MethodHandle" ∧ yX6_line.cls ≠ "java/lang/invoke/VarHandle" ∧ (parseMethodDescriptor yX6_line.desc).map (fun d => d.parameters.length) = some 0 := by decide +kernel
theorem hdX6_lines : yX6_lines.cls = RX6 ∧ yX6_lines.cls ≠ "java/lang/invoke/MethodHandle" ∧ yX6_lines.cls ≠ "java/lang/invoke/VarHandle" ∧ (parseMethodDescriptor yX6_lines.desc).map (fun d => d.parameters.length) = some 0 := by decide +kernel
theorem hdX1_init : yX1_init.name = "<init>" ∧ yX1_init.cls ≠ "java/lang/invoke/MethodHandle" ∧ yX1_init.cls ≠ "java/lang/invoke/VarHandle" ∧ (parseMethodDescriptor yX1_init.desc).map (fun d => d.parameters.length) = some 0 := by decide +kernel
theorem hdX0_init : yX0_init.name = "<init>" ∧ yX0_init.cls ≠ "java/lang/invoke/MethodHandle" ∧ yX0_init.cls ≠ "java/lang/invoke/VarHandle" ∧ (parseMethodDescriptor yX0_init.desc).map (fun d => d.parameters.length) = some 0 := by decide +kernel
theorem hdX2_init : yX2_init.name = "<init>" ∧ yX2_init.cls ≠ "java/lang/invoke/MethodHandle" ∧ yX2_init.cls ≠ "java/lang/invoke/VarHandle" ∧ (parseMethodDescriptor yX2_init.desc).map (fun d => d.parameters.length) = some 0 := by decide +kernel
theorem hdX15_buys : yX15_buys.cls = RX15 ∧ yX15_buys.cls ≠ "java/lang/invoke/MethodHandle" ∧ yX15_buys.cls ≠ "java/lang/invoke/VarHandle" ∧ (parseMethodDescriptor yX15_buys.desc).map (fun d => d.parameters.length) = some 1 := by decide +kernel
theorem hdX15_isUnder : yX15_isUnder.cls = RX15 ∧ yX15_isUnder.cls ≠ "java/lang/invoke/MethodHandle" ∧ yX15_isUnder.cls ≠ "java/lang/invoke/VarHandle" ∧ (parseMethodDescriptor yX15_isUnder.desc).map (fun d => d.parameters.length) = some 1 := by decide +kernel
theorem hdX15_keeps : yX15_keeps.cls = RX15 ∧ yX15_keeps.cls ≠ "java/lang/invoke/MethodHandle" ∧ yX15_keeps.cls ≠ "java/lang/invoke/VarHandle" ∧ (parseMethodDescriptor yX15_keeps.desc).map (fun d => d.parameters.length) = some 1 := by decide +kernel
theorem hdX15_kind : yX15_kind.cls = RX15 ∧ yX15_kind.cls ≠ "java/lang/invoke/MethodHandle" ∧ yX15_kind.cls ≠ "java/lang/invoke/VarHandle" ∧ (parseMethodDescriptor yX15_kind.desc).map (fun d => d.parameters.length) = some 0 := by decide +kernel
theorem hdX15_lends : yX15_lends.cls = RX15 ∧ yX15_lends.cls ≠ "java/lang/invoke/MethodHandle" ∧ yX15_lends.cls ≠ "java/lang/invoke/VarHandle" ∧ (parseMethodDescriptor yX15_lends.desc).map (fun d => d.parameters.length) = some 1 := by decide +kernel
theorem hdX15_tells : yX15_tells.cls = RX15 ∧ yX15_tells.cls ≠ "java/lang/invoke/MethodHandle" ∧ yX15_tells.cls ≠ "java/lang/invoke/VarHandle" ∧ (parseMethodDescriptor yX15_tells.desc).map (fun d => d.parameters.length) = some 1 := by decide +kernel
theorem hdX16_buys : yX16_buys.cls = RX16 ∧ yX16_buys.cls ≠ "java/lang/invoke/MethodHandle" ∧ yX16_buys.cls ≠ "java/lang/invoke/VarHandle" ∧ (parseMethodDescriptor yX16_buys.desc).map (fun d => d.parameters.length) = some 1 := by decide +kernel
theorem hdX16_kind : yX16_kind.cls = RX16 ∧ yX16_kind.cls ≠ "java/lang/invoke/MethodHandle" ∧ yX16_kind.cls ≠ "java/lang/invoke/VarHandle" ∧ (parseMethodDescriptor yX16_kind.desc).map (fun d => d.parameters.length) = some 0 := by decide +kernel
theorem hdX17_isUnder : yX17_isUnder.cls = RX17 ∧ yX17_isUnder.cls ≠ "java/lang/invoke/MethodHandle" ∧ yX17_isUnder.cls ≠ "java/lang/invoke/VarHandle" ∧ (parseMethodDescriptor yX17_isUnder.desc).map (fun d => d.parameters.length) = some 1 := by decide +kernel
theorem hdX17_keeps : yX17_keeps.cls = RX17 ∧ yX17_keeps.cls ≠ "java/lang/invoke/MethodHandle" ∧ yX17_keeps.cls ≠ "java/lang/invoke/VarHandle" ∧ (parseMethodDescriptor yX17_keeps.desc).map (fun d => d.parameters.length) = some 1 := by decide +kernel
theorem hdX17_kind : yX17_kind.cls = RX17 ∧ yX17_kind.cls ≠ "java/lang/invoke/MethodHandle" ∧ yX17_kind.cls ≠ "java/lang/invoke/VarHandle" ∧ (parseMethodDescriptor yX17_kind.desc).map (fun d => d.parameters.length) = some 0 := by decide +kernel
theorem hdX18_isUnder : yX18_isUnder.cls = RX18 ∧ yX18_isUnder.cls ≠ "java/lang/invoke/MethodHandle" ∧ yX18_isUnder.cls ≠ "java/lang/invoke/VarHandle" ∧ (parseMethodDescriptor yX18_isUnder.desc).map (fun d => d.parameters.length) = some 1 := by decide +kernel
theorem hdX18_kind : yX18_kind.cls = RX18 ∧ yX18_kind.cls ≠ "java/lang/invoke/MethodHandle" ∧ yX18_kind.cls ≠ "java/lang/invoke/VarHandle" ∧ (parseMethodDescriptor yX18_kind.desc).map (fun d => d.parameters.length) = some 0 := by decide +kernel
theorem hdX18_lends : yX18_lends.cls = RX18 ∧ yX18_lends.cls ≠ "java/lang/invoke/MethodHandle" ∧ yX18_lends.cls ≠ "java/lang/invoke/VarHandle" ∧ (parseMethodDescriptor yX18_lends.desc).map (fun d => d.parameters.length) = some 1 := by decide +kernel
theorem hdX19_isUnder : yX19_isUnder.cls = RX19 ∧ yX19_isUnder.cls ≠ "java/lang/invoke/MethodHandle" ∧ yX19_isUnder.cls ≠ "java/lang/invoke/VarHandle" ∧ (parseMethodDescriptor yX19_isUnder.desc).map (fun d => d.parameters.length) = some 1 := by decide +kernel
theorem hdX19_kind : yX19_kind.cls = RX19 ∧ yX19_kind.cls ≠ "java/lang/invoke/MethodHandle" ∧ yX19_kind.cls ≠ "java/lang/invoke/VarHandle" ∧ (parseMethodDescriptor yX19_kind.desc).map (fun d => d.parameters.length) = some 0 := by decide +kernel
theorem hdX19_lends : yX19_lends.cls = RX19 ∧ yX19_lends.cls ≠ "java/lang/invoke/MethodHandle" ∧ yX19_lends.cls ≠ "java/lang/invoke/VarHandle" ∧ (parseMethodDescriptor yX19_lends.desc).map (fun d => d.parameters.length) = some 1 := by decide +kernel
theorem hdX20_buys : yX20_buys.cls = RX20 ∧ yX20_buys.cls ≠ "java/lang/invoke/MethodHandle" ∧ yX20_buys.cls ≠ "java/lang/invoke/VarHandle" ∧ (parseMethodDescriptor yX20_buys.desc).map (fun d => d.parameters.length) = some 1 := by decide +kernel
theorem hdX20_kind : yX20_kind.cls = RX20 ∧ yX20_kind.cls ≠ "java/lang/invoke/MethodHandle" ∧ yX20_kind.cls ≠ "java/lang/invoke/VarHandle" ∧ (parseMethodDescriptor yX20_kind.desc).map (fun d => d.parameters.length) = some 0 := by decide +kernel
theorem hdX20_tells : yX20_tells.cls = RX20 ∧ yX20_tells.cls ≠ "java/lang/invoke/MethodHandle" ∧ yX20_tells.cls ≠ "java/lang/invoke/VarHandle" ∧ (parseMethodDescriptor yX20_tells.desc).map (fun d => d.parameters.length) = some 1 := by decide +kernel
theorem hdX21_buys : yX21_buys.cls = RX21 ∧ yX21_buys.cls ≠ "java/lang/invoke/MethodHandle" ∧ yX21_buys.cls ≠ "java/lang/invoke/VarHandle" ∧ (parseMethodDescriptor yX21_buys.desc).map (fun d => d.parameters.length) = some 1 := by decide +kernel
theorem hdX21_kind : yX21_kind.cls = RX21 ∧ yX21_kind.cls ≠ "java/lang/invoke/MethodHandle" ∧ yX21_kind.cls ≠ "java/lang/invoke/VarHandle" ∧ (parseMethodDescriptor yX21_kind.desc).map (fun d => d.parameters.length) = some 0 := by decide +kernel
theorem hdX22_keeps : yX22_keeps.cls = RX22 ∧ yX22_keeps.cls ≠ "java/lang/invoke/MethodHandle" ∧ yX22_keeps.cls ≠ "java/lang/invoke/VarHandle" ∧ (parseMethodDescriptor yX22_keeps.desc).map (fun d => d.parameters.length) = some 1 := by decide +kernel
theorem hdX22_kind : yX22_kind.cls = RX22 ∧ yX22_kind.cls ≠ "java/lang/invoke/MethodHandle" ∧ yX22_kind.cls ≠ "java/lang/invoke/VarHandle" ∧ (parseMethodDescriptor yX22_kind.desc).map (fun d => d.parameters.length) = some 0 := by decide +kernel
theorem hdX22_tells : yX22_tells.cls = RX22 ∧ yX22_tells.cls ≠ "java/lang/invoke/MethodHandle" ∧ yX22_tells.cls ≠ "java/lang/invoke/VarHandle" ∧ (parseMethodDescriptor yX22_tells.desc).map (fun d => d.parameters.length) = some 1 := by decide +kernel
theorem hdX15_init : yX15_init.name = "<init>" ∧ yX15_init.cls ≠ "java/lang/invoke/MethodHandle" ∧ yX15_init.cls ≠ "java/lang/invoke/VarHandle" ∧ (parseMethodDescriptor yX15_init.desc).map (fun d => d.parameters.length) = some 2 := by decide +kernel
theorem hdX16_init : yX16_init.name = "<init>" ∧ yX16_init.cls ≠ "java/lang/invoke/MethodHandle" ∧ yX16_init.cls ≠ "java/lang/invoke/VarHandle" ∧ (parseMethodDescriptor yX16_init.desc).map (fun d => d.parameters.length) = some 2 := by decide +kernel
theorem hdX17_init : yX17_init.name = "<init>" ∧ yX17_init.cls ≠ "java/lang/invoke/MethodHandle" ∧ yX17_init.cls ≠ "java/lang/invoke/VarHandle" ∧ (parseMethodDescriptor yX17_init.desc).map (fun d => d.parameters.length) = some 2 := by decide +kernel
theorem hdX18_init : yX18_init.name = "<init>" ∧ yX18_init.cls ≠ "java/lang/invoke/MethodHandle" ∧ yX18_init.cls ≠ "java/lang/invoke/VarHandle" ∧ (parseMethodDescriptor yX18_init.desc).map (fun d => d.parameters.length) = some 2 := by decide +kernel
theorem hdX19_init : yX19_init.name = "<init>" ∧ yX19_init.cls ≠ "java/lang/invoke/MethodHandle" ∧ yX19_init.cls ≠ "java/lang/invoke/VarHandle" ∧ (parseMethodDescriptor yX19_init.desc).map (fun d => d.parameters.length) = some 2 := by decide +kernel
theorem hdX20_init : yX20_init.name = "<init>" ∧ yX20_init.cls ≠ "java/lang/invoke/MethodHandle" ∧ yX20_init.cls ≠ "java/lang/invoke/VarHandle" ∧ (parseMethodDescriptor yX20_init.desc).map (fun d => d.parameters.length) = some 2 := by decide +kernel
theorem hdX21_init : yX21_init.name = "<init>" ∧ yX21_init.cls ≠ "java/lang/invoke/MethodHandle" ∧ yX21_init.cls ≠ "java/lang/invoke/VarHandle" ∧ (parseMethodDescriptor yX21_init.desc).map (fun d => d.parameters.length) = some 2 := by decide +kernel
theorem hdX22_init : yX22_init.name = "<init>" ∧ yX22_init.cls ≠ "java/lang/invoke/MethodHandle" ∧ yX22_init.cls ≠ "java/lang/invoke/VarHandle" ∧ (parseMethodDescriptor yX22_init.desc).map (fun d => d.parameters.length) = some 2 := by decide +kernel
theorem hds_buys : "buys" ≠ "<init>" ∧ (parseMethodDescriptor "(I)I").map (fun d => d.parameters.length) = some 1 := by decide +kernel
theorem hdo_Purse_buys : "PointsForAll$Purse" ≠ "java/lang/invoke/MethodHandle" ∧ "PointsForAll$Purse" ≠ "java/lang/invoke/VarHandle" ∧ (parseMethodDescriptor "(I)I").map (fun d => d.parameters.length) = some 1 := by decide +kernel
theorem hdo_Points_buys : "PointsForAll$Points" ≠ "java/lang/invoke/MethodHandle" ∧ "PointsForAll$Points" ≠ "java/lang/invoke/VarHandle" ∧ (parseMethodDescriptor "(I)I").map (fun d => d.parameters.length) = some 1 := by decide +kernel
theorem hdo_Changed_buys : "PointsForAll$Changed" ≠ "java/lang/invoke/MethodHandle" ∧ "PointsForAll$Changed" ≠ "java/lang/invoke/VarHandle" ∧ (parseMethodDescriptor "(I)I").map (fun d => d.parameters.length) = some 1 := by decide +kernel
theorem hds_keeps : "keeps" ≠ "<init>" ∧ (parseMethodDescriptor "(I)I").map (fun d => d.parameters.length) = some 1 := by decide +kernel
theorem hdo_Purse_keeps : "PointsForAll$Purse" ≠ "java/lang/invoke/MethodHandle" ∧ "PointsForAll$Purse" ≠ "java/lang/invoke/VarHandle" ∧ (parseMethodDescriptor "(I)I").map (fun d => d.parameters.length) = some 1 := by decide +kernel
theorem hdo_Points_keeps : "PointsForAll$Points" ≠ "java/lang/invoke/MethodHandle" ∧ "PointsForAll$Points" ≠ "java/lang/invoke/VarHandle" ∧ (parseMethodDescriptor "(I)I").map (fun d => d.parameters.length) = some 1 := by decide +kernel
theorem hdo_Changed_keeps : "PointsForAll$Changed" ≠ "java/lang/invoke/MethodHandle" ∧ "PointsForAll$Changed" ≠ "java/lang/invoke/VarHandle" ∧ (parseMethodDescriptor "(I)I").map (fun d => d.parameters.length) = some 1 := by decide +kernel
theorem hds_lends : "lends" ≠ "<init>" ∧ (parseMethodDescriptor "(I)I").map (fun d => d.parameters.length) = some 1 := by decide +kernel
theorem hdo_Purse_lends : "PointsForAll$Purse" ≠ "java/lang/invoke/MethodHandle" ∧ "PointsForAll$Purse" ≠ "java/lang/invoke/VarHandle" ∧ (parseMethodDescriptor "(I)I").map (fun d => d.parameters.length) = some 1 := by decide +kernel
theorem hdo_Points_lends : "PointsForAll$Points" ≠ "java/lang/invoke/MethodHandle" ∧ "PointsForAll$Points" ≠ "java/lang/invoke/VarHandle" ∧ (parseMethodDescriptor "(I)I").map (fun d => d.parameters.length) = some 1 := by decide +kernel
theorem hdo_Changed_lends : "PointsForAll$Changed" ≠ "java/lang/invoke/MethodHandle" ∧ "PointsForAll$Changed" ≠ "java/lang/invoke/VarHandle" ∧ (parseMethodDescriptor "(I)I").map (fun d => d.parameters.length) = some 1 := by decide +kernel
theorem hds_tells : "tells" ≠ "<init>" ∧ (parseMethodDescriptor "(I)I").map (fun d => d.parameters.length) = some 1 := by decide +kernel
theorem hdo_Purse_tells : "PointsForAll$Purse" ≠ "java/lang/invoke/MethodHandle" ∧ "PointsForAll$Purse" ≠ "java/lang/invoke/VarHandle" ∧ (parseMethodDescriptor "(I)I").map (fun d => d.parameters.length) = some 1 := by decide +kernel
theorem hdo_Points_tells : "PointsForAll$Points" ≠ "java/lang/invoke/MethodHandle" ∧ "PointsForAll$Points" ≠ "java/lang/invoke/VarHandle" ∧ (parseMethodDescriptor "(I)I").map (fun d => d.parameters.length) = some 1 := by decide +kernel
theorem hdo_Changed_tells : "PointsForAll$Changed" ≠ "java/lang/invoke/MethodHandle" ∧ "PointsForAll$Changed" ≠ "java/lang/invoke/VarHandle" ∧ (parseMethodDescriptor "(I)I").map (fun d => d.parameters.length) = some 1 := by decide +kernel
theorem hds_isUnder : "isUnder" ≠ "<init>" ∧ (parseMethodDescriptor "(I)Z").map (fun d => d.parameters.length) = some 1 := by decide +kernel
theorem hdo_Purse_isUnder : "PointsForAll$Purse" ≠ "java/lang/invoke/MethodHandle" ∧ "PointsForAll$Purse" ≠ "java/lang/invoke/VarHandle" ∧ (parseMethodDescriptor "(I)Z").map (fun d => d.parameters.length) = some 1 := by decide +kernel
theorem hdo_Points_isUnder : "PointsForAll$Points" ≠ "java/lang/invoke/MethodHandle" ∧ "PointsForAll$Points" ≠ "java/lang/invoke/VarHandle" ∧ (parseMethodDescriptor "(I)Z").map (fun d => d.parameters.length) = some 1 := by decide +kernel
theorem hdo_Changed_isUnder : "PointsForAll$Changed" ≠ "java/lang/invoke/MethodHandle" ∧ "PointsForAll$Changed" ≠ "java/lang/invoke/VarHandle" ∧ (parseMethodDescriptor "(I)Z").map (fun d => d.parameters.length) = some 1 := by decide +kernel
theorem hds_kind : "kind" ≠ "<init>" ∧ (parseMethodDescriptor "()I").map (fun d => d.parameters.length) = some 0 := by decide +kernel
theorem hdo_Purse_kind : "PointsForAll$Purse" ≠ "java/lang/invoke/MethodHandle" ∧ "PointsForAll$Purse" ≠ "java/lang/invoke/VarHandle" ∧ (parseMethodDescriptor "()I").map (fun d => d.parameters.length) = some 0 := by decide +kernel
theorem hdo_Points_kind : "PointsForAll$Points" ≠ "java/lang/invoke/MethodHandle" ∧ "PointsForAll$Points" ≠ "java/lang/invoke/VarHandle" ∧ (parseMethodDescriptor "()I").map (fun d => d.parameters.length) = some 0 := by decide +kernel
theorem hdo_Changed_kind : "PointsForAll$Changed" ≠ "java/lang/invoke/MethodHandle" ∧ "PointsForAll$Changed" ≠ "java/lang/invoke/VarHandle" ∧ (parseMethodDescriptor "()I").map (fun d => d.parameters.length) = some 0 := by decide +kernel
set_option maxRecDepth 100000
def gNC (l : Launch) (r : GR) (A : Nat → Prop) (F L : Nat) (σ : GS) (a x : Nat) (P : GS → Int32 → Prop) : Prop :=
    ((∃ fs : List Value, gO σ a = some (.inr (8, fs))) ∧ gMet dX l yX9_value cX9_value 2 (some .int) F L 0 0 r A σ [.ref a, .ref x] (zI P)) ∨ ((∃ fs : List Value, gO σ a = some (.inr (9, fs))) ∧ gMet dX l yX10_value cX10_value 2 (some .int) F L 0 0 r A σ [.ref a, .ref x] (zI P)) ∨ ((∃ fs : List Value, gO σ a = some (.inr (10, fs))) ∧ gMet dX l yX11_value cX11_value 2 (some .int) F L 0 0 r A σ [.ref a, .ref x] (zI P)) ∨ ((∃ fs : List Value, gO σ a = some (.inr (11, fs))) ∧ gMet dX l yX12_value cX12_value 2 (some .int) F L 0 0 r A σ [.ref a, .ref x] (zI P)) ∨ ((∃ fs : List Value, gO σ a = some (.inr (12, fs))) ∧ gMet dX l yX13_value cX13_value 4 (some .int) F L 0 0 r A σ [.ref a, .ref x] (zI P))
theorem hdX8_value : "PointsForAll$Node" ≠ "java/lang/invoke/MethodHandle" ∧ "PointsForAll$Node" ≠ "java/lang/invoke/VarHandle" ∧ (parseMethodDescriptor "(LPointsForAll$Facts;)I").map (fun d => d.parameters.length) = some 1 := by decide +kernel
theorem rNode {p : Program} {l : Launch} {e : Env} {R : Room} {s : State} {m : MethodId} {args : Array Value} {below : List Frame} {meth : Method} {c : Code} {H : Heap} {locs : List Loc} {cells slots : Nat} {cc : ByteArray} {nL pc index : Nat} {ls : Array Slot} {own : String} {r : GR} {A : Nat → Prop} {σ : GS} {a x F L : Nat} {P : GS → Int32 → Prop} {lv : List (Nat × Value)} {st0 : List Value} (rest : List Value) (K : gC p s m args meth c cc nL own r A) (hM : gM dX r A σ s.heap H locs) (hl : lv_has ls nL lv) (Y : gNC l r A F L σ a x P) (h1 : Cond.methodLink own index ({ cls := "PointsForAll$Node", name := "value", desc := "(LPointsForAll$Facts;)I" } : MethodName) ∈ lw_all) (hR : F + 1 ≤ R.frames ∧ 8 + (4 + 11) + L ≤ R.locals) (hf : cells + 0 ≤ R.cells ∧ slots + 0 ≤ R.slots) (hst : st0 = [.ref x] ++ .ref a :: rest) (hw : (rest.map fun v => v.category).sum ≤ 8) (hdg : decode cc pc = .ok (.invokevirtual index, 3)) :
    va_Run p l e R s m args below meth c H locs cells slots 0 0 (F0 m pc ls st0) rest (gEnd dX r A (zI P) (Value.ref a :: [.ref x]).toArray) A := by
  rcases Y with ⟨⟨fs, hb⟩, Y⟩ | ⟨⟨fs, hb⟩, Y⟩ | ⟨⟨fs, hb⟩, Y⟩ | ⟨⟨fs, hb⟩, Y⟩ | ⟨⟨fs, hb⟩, Y⟩
  · exact rA (owner := "PointsForAll$Node") [.ref x] rest K kY8 hM hl hb Y h1 q788 q787 q807 q795 q104 q796 hdX8_value ⟨hR.1, Nat.le_trans (by omega) hR.2⟩ hf hst hw hdg
  · exact rA (owner := "PointsForAll$Node") [.ref x] rest K kY9 hM hl hb Y h1 q788 q787 q789 q790 q105 q791 hdX8_value ⟨hR.1, Nat.le_trans (by omega) hR.2⟩ hf hst hw hdg
  · exact rA (owner := "PointsForAll$Node") [.ref x] rest K kY10 hM hl hb Y h1 q788 q787 q809 q800 q106 q801 hdX8_value ⟨hR.1, Nat.le_trans (by omega) hR.2⟩ hf hst hw hdg
  · exact rA (owner := "PointsForAll$Node") [.ref x] rest K kY11 hM hl hb Y h1 q788 q787 q806 q793 q107 q794 hdX8_value ⟨hR.1, Nat.le_trans (by omega) hR.2⟩ hf hst hw hdg
  · exact rA (owner := "PointsForAll$Node") [.ref x] rest K kY12 hM hl hb Y h1 q788 q787 q808 q797 q108 q798 hdX8_value ⟨hR.1, Nat.le_trans (by omega) hR.2⟩ hf hst hw hdg
/-- an object of the pool whose class is one of these -/
def isK (L : List Nat) (σ : GS) (a : Nat) : Prop := ∃ (ci : Nat) (fs : List Value), ci ∈ L ∧ gO σ a = some (.inr (ci, fs))
def kLP : List Nat := [13, 14, 15, 16, 17, 18, 19, 20]
def kLH : List Nat := [13, 14, 15, 16, 17, 18, 19, 20, 21, 22, 23, 24, 25]
theorem g_aastP {p : Program} {l : Launch} {e : Env} {R : Room} {s : State} {m : MethodId} {args : Array Value} {below : List Frame} {meth : Method} {c : Code} {H : Heap} {locs : List Loc} {cells slots : Nat} {Q : State → Prop} {cc : ByteArray} {nL pc : Nat} {ls : Array Slot} {own : String} {r : GR} {A : Nat → Prop} {σ : GS} {b : Nat} (K : gC p s m args meth c cc nL own r A) (hM : gM dX r A σ s.heap H locs) {i : Int32} {rest : List Value} (hb : isK kLP σ b) (hin : vp_in i (dX.2.2.2.1 27)) (hdg : decode cc pc = .ok (.aastore, 1)) (kk : ∀ (H1 : Heap) (locs1 : List Loc) (σ1 : GS), σ1 = sQ σ 27 i.toNatClampNeg (some b) → gM dX r A σ1 s.heap H1 locs1 → W p l e R s m args below meth c H1 locs1 cells slots Q (F0 m (pc + 1) ls rest)) : W p l e R s m args below meth c H locs cells slots Q (F0 m pc ls (.ref b :: .int i :: .ref (r.2.2.1 27) :: rest)) := by
  obtain ⟨ci, fs, hci, hb⟩ := hb
  simp only [kLP, List.mem_cons, List.not_mem_nil, or_false] at hci
  rcases hci with rfl | rfl | rfl | rfl | rfl | rfl | rfl | rfl
  · exact g_aast K kY13 hM 27 rfl rfl rfl rfl hb hin hdg kk
  · exact g_aastC K kY14 hM 27 rfl rfl rfl rfl q2019 hb hin hdg kk
  · exact g_aastC K kY15 hM 27 rfl rfl rfl rfl q2021 hb hin hdg kk
  · exact g_aastC K kY16 hM 27 rfl rfl rfl rfl q2020 hb hin hdg kk
  · exact g_aastC K kY17 hM 27 rfl rfl rfl rfl q2018 hb hin hdg kk
  · exact g_aastC K kY18 hM 27 rfl rfl rfl rfl q2016 hb hin hdg kk
  · exact g_aastC K kY19 hM 27 rfl rfl rfl rfl q2022 hb hin hdg kk
  · exact g_aastC K kY20 hM 27 rfl rfl rfl rfl q2017 hb hin hdg kk
theorem g_aastH {p : Program} {l : Launch} {e : Env} {R : Room} {s : State} {m : MethodId} {args : Array Value} {below : List Frame} {meth : Method} {c : Code} {H : Heap} {locs : List Loc} {cells slots : Nat} {Q : State → Prop} {cc : ByteArray} {nL pc : Nat} {ls : Array Slot} {own : String} {r : GR} {A : Nat → Prop} {σ : GS} {b : Nat} (K : gC p s m args meth c cc nL own r A) (hM : gM dX r A σ s.heap H locs) {i : Int32} {rest : List Value} (hb : isK kLH σ b) (hin : vp_in i (dX.2.2.2.1 29)) (hdg : decode cc pc = .ok (.aastore, 1)) (kk : ∀ (H1 : Heap) (locs1 : List Loc) (σ1 : GS), σ1 = sQ σ 29 i.toNatClampNeg (some b) → gM dX r A σ1 s.heap H1 locs1 → W p l e R s m args below meth c H1 locs1 cells slots Q (F0 m (pc + 1) ls rest)) : W p l e R s m args below meth c H locs cells slots Q (F0 m pc ls (.ref b :: .int i :: .ref (r.2.2.1 29) :: rest)) := by
  obtain ⟨ci, fs, hci, hb⟩ := hb
  simp only [kLH, List.mem_cons, List.not_mem_nil, or_false] at hci
  rcases hci with rfl | rfl | rfl | rfl | rfl | rfl | rfl | rfl | rfl | rfl | rfl | rfl | rfl
  · exact g_aastC K kY13 hM 29 rfl rfl rfl rfl q2030 hb hin hdg kk
  · exact g_aastC K kY14 hM 29 rfl rfl rfl rfl q2023 hb hin hdg kk
  · exact g_aastC K kY15 hM 29 rfl rfl rfl rfl q2024 hb hin hdg kk
  · exact g_aastC K kY16 hM 29 rfl rfl rfl rfl q2025 hb hin hdg kk
  · exact g_aastC K kY17 hM 29 rfl rfl rfl rfl q2026 hb hin hdg kk
  · exact g_aastC K kY18 hM 29 rfl rfl rfl rfl q2027 hb hin hdg kk
  · exact g_aastC K kY19 hM 29 rfl rfl rfl rfl q2028 hb hin hdg kk
  · exact g_aastC K kY20 hM 29 rfl rfl rfl rfl q2029 hb hin hdg kk
  · exact g_aastC K kY21 hM 29 rfl rfl rfl rfl q2031 hb hin hdg kk
  · exact g_aastC K kY22 hM 29 rfl rfl rfl rfl q2032 hb hin hdg kk
  · exact g_aastC K kY23 hM 29 rfl rfl rfl rfl q2033 hb hin hdg kk
  · exact g_aastC K kY24 hM 29 rfl rfl rfl rfl q2034 hb hin hdg kk
  · exact g_aastC K kY25 hM 29 rfl rfl rfl rfl q2035 hb hin hdg kk
def f_X0_in (r : GR) (σ : GS) (x0 : Int32) (x1 : Int32) (x2 : Int32) (P : GS → Int32 → Prop) : Prop :=
    ((x0 < x1 → P σ (0 : Int32)) ∧
    (¬ x0 < x1 → ((x2 < x0 → P σ (0 : Int32)) ∧
     (¬ x2 < x0 → P σ (1 : Int32)))))
def f_X0_isThingSo (r : GR) (σ : GS) (x0 : Int32) (x1 : Int32) (x2 : Int32) (x3 : Int32) (P : GS → Int32 → Prop) : Prop :=
    f_X0_in r σ x0 (0 : Int32) (999 : Int32) (fun σ1 v2 =>
    ((v2 = 0 → P σ1 (0 : Int32)) ∧
    (¬ v2 = 0 → f_X0_in r σ1 x1 (0 : Int32) (99 : Int32) (fun σ4 v5 =>
     ((v5 = 0 → P σ4 (0 : Int32)) ∧
     (¬ v5 = 0 → f_X0_in r σ4 x2 (0 : Int32) (99 : Int32) (fun σ7 v8 =>
      ((v8 = 0 → P σ7 (0 : Int32)) ∧
      (¬ v8 = 0 → f_X0_in r σ7 x3 (0 : Int32) (99 : Int32) (fun σ10 v11 =>
       ((v11 = 0 → P σ10 (0 : Int32)) ∧
       (¬ v11 = 0 → P σ10 (1 : Int32)))))))))))))
def f_X3_init (r : GR) (σ : GS) (x0 : Nat) (x1 : Int32) (x2 : Int32) (x3 : Int32) (x4 : Int32) (P : GS → Prop) : Prop :=
    pS σ x0 3 1 (.int x1) (fun σ1 =>
    pS σ1 x0 3 2 (.int x2) (fun σ2 =>
    pS σ2 x0 3 3 (.int x3) (fun σ3 =>
    pS σ3 x0 3 0 (.int x4) (fun σ4 =>
    P σ4))))
def f_X0_thing (r : GR) (bc bs : Nat) (σ : GS) (x1 : Int32) (x2 : Int32) (x3 : Int32) (P : GS → Int32 → Prop) : Prop :=
    ((x2 < 0 → P σ (-1 : Int32)) ∧
    (¬ x2 < 0 → f_X0_isThingSo r σ x1 (x2 / (100 : Int32)) (x2 - x2 / (100 : Int32) * (100 : Int32)) x3 (fun σ2 v3 =>
     ((v3 = 0 → P σ2 (-1 : Int32)) ∧
     (¬ v3 = 0 → (((gI σ2 2) = (6 : Int32) → P σ2 (-3 : Int32)) ∧
      (¬ (gI σ2 2) = (6 : Int32) → (∃ (b8 s9 : Nat), b8 + 1 ≤ bc ∧ s9 + 4 ≤ bs ∧ (∀ a6 : Nat, gO σ2 a6 = none → ∀ σ7 : GS, σ7 = sO σ2 a6 (some (.inr (3, [.int 0, .int 0, .int 0, .int 0]))) → f_X3_init r σ7 a6 x1 (x2 / (100 : Int32)) (x2 - x2 / (100 : Int32) * (100 : Int32)) x3 (fun σ12 =>
       vp_in (gI σ2 2) 6 ∧ (∃ f15 : List Value, gO σ12 a6 = some (.inr (3, f15)) ∧ (∀ σ17 : GS, σ17 = sQ σ12 0 (gI σ2 2).toNatClampNeg (some a6) → (∀ σ18 : GS, σ18 = sI σ17 2 ((gI σ17 2) + (1 : Int32)) → P σ18 ((gI σ18 2) - (1 : Int32)))))))))))))))
def f_X0_isShelf (r : GR) (σ : GS) (x0 : Int32) (P : GS → Int32 → Prop) : Prop :=
    f_X0_in r σ x0 (0 : Int32) (5 : Int32) (fun σ1 v2 =>
    gZ v2 ∧ P σ1 v2)
def f_X5_init (r : GR) (σ : GS) (x0 : Nat) (x1 : Int32) (x2 : Int32) (x3 : Int32) (x4 : Int32) (x5 : Int32) (P : GS → Prop) : Prop :=
    pS σ x0 5 0 (.int x1) (fun σ1 =>
    pS σ1 x0 5 3 (.int x2) (fun σ2 =>
    pS σ2 x0 5 4 (.int x3) (fun σ3 =>
    pS σ3 x0 5 1 (.int x4) (fun σ4 =>
    pS σ4 x0 5 2 (.int x5) (fun σ5 =>
    P σ5)))))
def f_X0_sort (r : GR) (bc bs : Nat) (σ : GS) (x1 : Int32) (x2 : Int32) (x3 : Int32) (P : GS → Int32 → Prop) : Prop :=
    f_X0_in r σ x1 (1 : Int32) (99 : Int32) (fun σ1 v2 =>
    ((v2 = 0 → P σ1 (-1 : Int32)) ∧
    (¬ v2 = 0 → f_X0_in r σ1 x2 (0 : Int32) (9999 : Int32) (fun σ4 v5 =>
     ((v5 = 0 → P σ4 (-1 : Int32)) ∧
     (¬ v5 = 0 → ((x3 < 0 → P σ4 (-1 : Int32)) ∧
      (¬ x3 < 0 → (((3 : Int32) < (x3 / (10 : Int32)) → P σ4 (-1 : Int32)) ∧
       (¬ (3 : Int32) < (x3 / (10 : Int32)) → (((x3 - x3 / (10 : Int32) * (10 : Int32)) < (gI σ4 10) → (((gI σ4 3) = (5 : Int32) → P σ4 (-3 : Int32)) ∧
         (¬ (gI σ4 3) = (5 : Int32) → (∃ (b13 s14 : Nat), b13 + 1 ≤ bc ∧ s14 + 6 ≤ bs ∧ (∀ a11 : Nat, gO σ4 a11 = none → ∀ σ12 : GS, σ12 = sO σ4 a11 (some (.inr (5, [.int 0, .int 0, .int 0, .int 0, .int 0, .int 0]))) → f_X5_init r σ12 a11 x1 (x2 / (100 : Int32)) (x2 - x2 / (100 : Int32) * (100 : Int32)) (x3 / (10 : Int32)) (x3 - x3 / (10 : Int32) * (10 : Int32)) (fun σ17 =>
          vp_in (gI σ4 3) 5 ∧ (∃ f20 : List Value, gO σ17 a11 = some (.inr (5, f20)) ∧ (∀ σ22 : GS, σ22 = sQ σ17 1 (gI σ4 3).toNatClampNeg (some a11) → (∀ σ23 : GS, σ23 = sI σ22 3 ((gI σ22 3) + (1 : Int32)) → P σ23 ((gI σ23 3) - (1 : Int32))))))))))) ∧
        (¬ (x3 - x3 / (10 : Int32) * (10 : Int32)) < (gI σ4 10) → P σ4 (-1 : Int32)))))))))))))
def f_X0_isSort (r : GR) (σ : GS) (x1 : Int32) (P : GS → Int32 → Prop) : Prop :=
    f_X0_in r σ x1 (0 : Int32) ((gI σ 3) - (1 : Int32)) (fun σ1 v2 =>
    gZ v2 ∧ P σ1 v2)
def f_X0_isThing (r : GR) (σ : GS) (x1 : Int32) (P : GS → Int32 → Prop) : Prop :=
    f_X0_in r σ x1 (0 : Int32) ((gI σ 2) - (1 : Int32)) (fun σ1 v2 =>
    gZ v2 ∧ P σ1 v2)
def f_X5_points (r : GR) (σ : GS) (x0 : Nat) (P : GS → Int32 → Prop) : Prop :=
    pI σ x0 5 4 (fun v2 => pI σ x0 5 1 (fun v4 => P σ (v2 + ((10 : Int32) * v4))))
def f_X0_of (r : GR) (σ : GS) (x1 : Int32) (x2 : Int32) (P : GS → Int32 → Prop) : Prop :=
    ((x2 < (10 : Int32) → f_X0_isThing r σ x1 (fun σ2 v3 =>
     ((v3 = 0 → P σ2 (-1 : Int32)) ∧
     (¬ v3 = 0 → vp_in x1 6 ∧ (∃ a6 : Nat, gQ σ2 0 x1.toNatClampNeg = some a6 ∧ ((x2 = (0 : Int32) → pI σ2 a6 3 1 (fun v9 => P σ2 v9)) ∧
      (¬ x2 = (0 : Int32) → ((x2 = (1 : Int32) → pI σ2 a6 3 2 (fun v11 => P σ2 v11)) ∧
      (¬ x2 = (1 : Int32) → ((x2 = (2 : Int32) → pI σ2 a6 3 3 (fun v13 => P σ2 v13)) ∧
      (¬ x2 = (2 : Int32) → ((x2 = (3 : Int32) → pI σ2 a6 3 0 (fun v15 => P σ2 v15)) ∧
      (¬ x2 = (3 : Int32) → P σ2 (-1 : Int32)))))))))))))) ∧
    (¬ x2 < (10 : Int32) → f_X0_isSort r σ x1 (fun σ17 v18 =>
     ((v18 = 0 → P σ17 (-1 : Int32)) ∧
     (¬ v18 = 0 → vp_in x1 5 ∧ (∃ a21 : Nat, gQ σ17 1 x1.toNatClampNeg = some a21 ∧ ((x2 = (10 : Int32) → pI σ17 a21 5 0 (fun v24 => P σ17 v24)) ∧
      (¬ x2 = (10 : Int32) → ((x2 = (11 : Int32) → pI σ17 a21 5 3 (fun v26 => P σ17 v26)) ∧
      (¬ x2 = (11 : Int32) → ((x2 = (12 : Int32) → (∃ f29 : List Value, gO σ17 a21 = some (.inr (5, f29)) ∧ f_X5_points r σ17 a21 (fun σ27 v28 =>
       P σ27 v28))) ∧
      (¬ x2 = (12 : Int32) → ((x2 = (13 : Int32) → pI σ17 a21 5 1 (fun v32 => P σ17 v32)) ∧
      (¬ x2 = (13 : Int32) → ((x2 = (14 : Int32) → pI σ17 a21 5 2 (fun v34 => P σ17 v34)) ∧
      (¬ x2 = (14 : Int32) → P σ17 (-1 : Int32)))))))))))))))))
def f_X0_setTo (r : GR) (σ : GS) (x1 : Int32) (x2 : Int32) (x3 : Int32) (P : GS → Prop) : Prop :=
    ((x1 = (0 : Int32) → vp_in x2 6 ∧ (∃ a2 : Nat, gQ σ 0 x2.toNatClampNeg = some a2 ∧ pS σ a2 3 1 (.int x3) (fun σ4 =>
     P σ4))) ∧
    (¬ x1 = (0 : Int32) → ((x1 = (1 : Int32) → vp_in x2 6 ∧ (∃ a6 : Nat, gQ σ 0 x2.toNatClampNeg = some a6 ∧ pS σ a6 3 2 (.int x3) (fun σ8 =>
     P σ8))) ∧
    (¬ x1 = (1 : Int32) → ((x1 = (2 : Int32) → vp_in x2 6 ∧ (∃ a10 : Nat, gQ σ 0 x2.toNatClampNeg = some a10 ∧ pS σ a10 3 3 (.int x3) (fun σ12 =>
     P σ12))) ∧
    (¬ x1 = (2 : Int32) → ((x1 = (3 : Int32) → vp_in x2 5 ∧ (∃ a14 : Nat, gQ σ 1 x2.toNatClampNeg = some a14 ∧ pS σ a14 5 3 (.int x3) (fun σ16 =>
     P σ16))) ∧
    (¬ x1 = (3 : Int32) → vp_in x2 5 ∧ (∃ a18 : Nat, gQ σ 1 x2.toNatClampNeg = some a18 ∧ pS σ a18 5 4 (.int x3) (fun σ20 =>
     P σ20))))))))))
def f_X0_undo (r : GR) (σ : GS) (P : GS → Int32 → Prop) : Prop :=
    (((gI σ 5) = 0 → P σ (-5 : Int32)) ∧
    (¬ (gI σ 5) = 0 → (∀ σ2 : GS, σ2 = sI σ 5 ((gI σ 5) - (1 : Int32)) → (∀ σ3 : GS, σ3 = sI σ2 6 ((gI σ2 6) + (1 : Int32)) → vp_in (gI σ3 5) 40 ∧ (∃ a5 : Nat, gQ σ3 4 (gI σ3 5).toNatClampNeg = some a5 ∧ pI σ3 a5 4 0 (fun v8 => vp_in (gI σ3 5) 40 ∧ (∃ a10 : Nat, gQ σ3 4 (gI σ3 5).toNatClampNeg = some a10 ∧ pI σ3 a10 4 1 (fun v13 => vp_in (gI σ3 5) 40 ∧ (∃ a15 : Nat, gQ σ3 4 (gI σ3 5).toNatClampNeg = some a15 ∧ pI σ3 a15 4 2 (fun v18 => f_X0_setTo r σ3 v8 v13 v18 (fun σ19 =>
     P σ19 (gI σ19 5))))))))))))
def f_X0_redo (r : GR) (σ : GS) (P : GS → Int32 → Prop) : Prop :=
    (((gI σ 6) = 0 → P σ (-5 : Int32)) ∧
    (¬ (gI σ 6) = 0 → vp_in (gI σ 5) 40 ∧ (∃ a3 : Nat, gQ σ 4 (gI σ 5).toNatClampNeg = some a3 ∧ pI σ a3 4 0 (fun v6 => vp_in (gI σ 5) 40 ∧ (∃ a8 : Nat, gQ σ 4 (gI σ 5).toNatClampNeg = some a8 ∧ pI σ a8 4 1 (fun v11 => vp_in (gI σ 5) 40 ∧ (∃ a13 : Nat, gQ σ 4 (gI σ 5).toNatClampNeg = some a13 ∧ pI σ a13 4 3 (fun v16 => f_X0_setTo r σ v6 v11 v16 (fun σ17 =>
     (∀ σ19 : GS, σ19 = sI σ17 5 ((gI σ17 5) + (1 : Int32)) → (∀ σ20 : GS, σ20 = sI σ19 6 ((gI σ19 6) - (1 : Int32)) → P σ20 (gI σ20 6))))))))))))
def f_X0_valueAt (r : GR) (σ : GS) (x1 : Int32) (x2 : Int32) (P : GS → Int32 → Prop) : Prop :=
    ((x1 = (0 : Int32) → vp_in x2 6 ∧ (∃ a2 : Nat, gQ σ 0 x2.toNatClampNeg = some a2 ∧ pI σ a2 3 1 (fun v5 => P σ v5))) ∧
    (¬ x1 = (0 : Int32) → ((x1 = (1 : Int32) → vp_in x2 6 ∧ (∃ a7 : Nat, gQ σ 0 x2.toNatClampNeg = some a7 ∧ pI σ a7 3 2 (fun v10 => P σ v10))) ∧
    (¬ x1 = (1 : Int32) → ((x1 = (2 : Int32) → vp_in x2 6 ∧ (∃ a12 : Nat, gQ σ 0 x2.toNatClampNeg = some a12 ∧ pI σ a12 3 3 (fun v15 => P σ v15))) ∧
    (¬ x1 = (2 : Int32) → ((x1 = (3 : Int32) → vp_in x2 5 ∧ (∃ a17 : Nat, gQ σ 1 x2.toNatClampNeg = some a17 ∧ pI σ a17 5 3 (fun v20 => P σ v20))) ∧
    (¬ x1 = (3 : Int32) → vp_in x2 5 ∧ (∃ a22 : Nat, gQ σ 1 x2.toNatClampNeg = some a22 ∧ pI σ a22 5 4 (fun v25 => P σ v25))))))))))
def f_X4_init (r : GR) (σ : GS) (x0 : Nat) (x1 : Int32) (x2 : Int32) (x3 : Int32) (x4 : Int32) (P : GS → Prop) : Prop :=
    pS σ x0 4 0 (.int x1) (fun σ1 =>
    pS σ1 x0 4 1 (.int x2) (fun σ2 =>
    pS σ2 x0 4 2 (.int x3) (fun σ3 =>
    pS σ3 x0 4 3 (.int x4) (fun σ4 =>
    P σ4))))
def f_X0_become_73 (r : GR) (P : GS → Int32 → Prop) (bc bs : Nat) (σ : GS) (x1 : Int32) (x2 : Int32) (x3 : Int32) (x4 : Int32) : Prop :=
    (∃ (b3 s4 : Nat), b3 + 1 ≤ bc ∧ s4 + 4 ≤ bs ∧ (∀ a1 : Nat, gO σ a1 = none → ∀ σ2 : GS, σ2 = sO σ a1 (some (.inr (4, [.int 0, .int 0, .int 0, .int 0]))) → f_X4_init r σ2 a1 x1 x2 x4 x3 (fun σ7 =>
    vp_in (gI σ 5) 40 ∧ (∃ f10 : List Value, gO σ7 a1 = some (.inr (4, f10)) ∧ (∀ σ12 : GS, σ12 = sQ σ7 4 (gI σ 5).toNatClampNeg (some a1) → (∀ σ13 : GS, σ13 = sI σ12 5 ((gI σ12 5) + (1 : Int32)) → f_X0_setTo r σ13 x1 x2 x3 (fun σ14 =>
    P σ14 x4)))))))
def f_X0_become_34 (r : GR) (P : GS → Int32 → Prop) : Nat → Nat → Nat → GS → Int32 → Int32 → Int32 → Int32 → Int32 → Prop
  | 0 => fun _ _ _ _ _ _ _ _ => False
  | n + 1 => fun bc bs σ x1 x2 x3 x4 x5 => (((40 : Int32) ≤ x5 → (∀ σ2 : GS, σ2 = sI σ 5 ((gI σ 5) - (1 : Int32)) → f_X0_become_73 r P bc bs σ2 x1 x2 x3 x4)) ∧
    (¬ (40 : Int32) ≤ x5 → vp_in x5 40 ∧ (∃ a4 : Nat, gQ σ 4 x5.toNatClampNeg = some a4 ∧ vp_in (x5 - (1 : Int32)) 40 ∧ (∃ f7 : List Value, gO σ a4 = some (.inr (4, f7)) ∧ (∀ σ9 : GS, σ9 = sQ σ 4 (x5 - (1 : Int32)).toNatClampNeg (some a4) → f_X0_become_34 r P n bc bs σ9 x1 x2 x3 x4 (x5 + 1))))))
def f_X0_become (r : GR) (bc bs : Nat) (σ : GS) (x1 : Int32) (x2 : Int32) (x3 : Int32) (P : GS → Int32 → Prop) : Prop :=
    f_X0_valueAt r σ x1 x2 (fun σ1 v2 =>
    ((v2 = x3 → P σ1 v2) ∧
    (¬ v2 = x3 → (∀ σ4 : GS, σ4 = sI σ1 6 (0 : Int32) → (((gI σ4 5) = (40 : Int32) → (∃ q_ : Nat, f_X0_become_34 r P q_ bc bs σ4 x1 x2 x3 v2 (1 : Int32))) ∧
     (¬ (gI σ4 5) = (40 : Int32) → f_X0_become_73 r P bc bs σ4 x1 x2 x3 v2))))))
def f_X0_mend_31 (r : GR) (P : GS → Int32 → Prop) (bc bs : Nat) (σ : GS) (x1 : Int32) (x2 : Int32) (x3 : Int32) (t2 : Int32) (t1 : Int32) (t0 : Int32) : Prop :=
    f_X0_in r σ t0 t1 t2 (fun σ1 v2 =>
    ((v2 = 0 → P σ1 (-1 : Int32)) ∧
    (¬ v2 = 0 → (∃ (c6 s7 : Nat), (∃ (b8 s9 : Nat), b8 + c6 ≤ bc ∧ s9 + s7 ≤ bs ∧ f_X0_become r c6 s7 σ1 x2 x1 x3 (fun σ4 v5 =>
     P σ4 v5))))))
def f_X0_mend (r : GR) (bc bs : Nat) (σ : GS) (x1 : Int32) (x2 : Int32) (x3 : Int32) (P : GS → Int32 → Prop) : Prop :=
    f_X0_isThing r σ x1 (fun σ1 v2 =>
    ((v2 = 0 → P σ1 (-1 : Int32)) ∧
    (¬ v2 = 0 → f_X0_in r σ1 x2 (0 : Int32) (2 : Int32) (fun σ4 v5 =>
     ((v5 = 0 → P σ4 (-1 : Int32)) ∧
     (¬ v5 = 0 → ((x2 = 0 → f_X0_mend_31 r P bc bs σ4 x1 x2 x3 (999 : Int32) (0 : Int32) x3) ∧
      (¬ x2 = 0 → f_X0_mend_31 r P bc bs σ4 x1 x2 x3 (99 : Int32) (0 : Int32) x3))))))))
def f_X0_purse (r : GR) (bc bs : Nat) (σ : GS) (x1 : Int32) (x2 : Int32) (x3 : Int32) (P : GS → Int32 → Prop) : Prop :=
    f_X0_isSort r σ x1 (fun σ1 v2 =>
    ((v2 = 0 → P σ1 (-1 : Int32)) ∧
    (¬ v2 = 0 → f_X0_in r σ1 x2 (0 : Int32) (1 : Int32) (fun σ4 v5 =>
     ((v5 = 0 → P σ4 (-1 : Int32)) ∧
     (¬ v5 = 0 → f_X0_in r σ4 x3 (0 : Int32) (99 : Int32) (fun σ7 v8 =>
      ((v8 = 0 → P σ7 (-1 : Int32)) ∧
      (¬ v8 = 0 → (∃ (c12 s13 : Nat), (∃ (b14 s15 : Nat), b14 + c12 ≤ bc ∧ s15 + s13 ≤ bs ∧ f_X0_become r c12 s13 σ7 ((3 : Int32) + x2) x1 x3 (fun σ10 v11 =>
       P σ10 v11))))))))))))
def f_X0_feed_27 (r : GR) (P : GS → Int32 → Prop) : Nat → GS → Int32 → Int32 → Int32 → Prop
  | 0 => fun _ _ _ _ => False
  | n + 1 => fun σ x1 x2 x3 => ((x1 ≤ x3 → P σ (gI σ 8)) ∧
    (¬ x1 ≤ x3 → vp_in (gI σ 8) 120 ∧ (∀ σ3 : GS, σ3 = sA σ 7 (gI σ 8).toNatClampNeg (vp_nar .byte ((x2 >>> (((8 : Int32) * x3) &&& 31)).toInt8.toInt32)) → (∀ σ4 : GS, σ4 = sI σ3 8 ((gI σ3 8) + (1 : Int32)) → f_X0_feed_27 r P n σ4 x1 x2 (x3 + 1)))))
def f_X0_feed (r : GR) (σ : GS) (x1 : Int32) (x2 : Int32) (P : GS → Int32 → Prop) : Prop :=
    f_X0_in r σ x1 (1 : Int32) (4 : Int32) (fun σ1 v2 =>
    ((v2 = 0 → P σ1 (-1 : Int32)) ∧
    (¬ v2 = 0 → ((((gI σ1 8) + x1) ≤ (120 : Int32) → (∃ q_ : Nat, f_X0_feed_27 r P q_ σ1 x1 x2 (0 : Int32))) ∧
     (¬ ((gI σ1 8) + x1) ≤ (120 : Int32) → P σ1 (-3 : Int32))))))
def f_X6_init (r : GR) (σ : GS) (x0 : Nat) (P : GS → Prop) : Prop :=
    pS σ x0 6 3 (.ref r.2.1) (fun σ1 =>
    pS σ1 x0 6 1 (.int (-1 : Int32)) (fun σ2 =>
    P σ2))
def f_X6_here (r : GR) (σ : GS) (x0 : Nat) (P : GS → Int32 → Prop) : Prop :=
    pI σ x0 6 0 (fun v2 => pV σ x0 6 3 (.ref r.2.1) ∧ (((gI σ 8) ≤ v2 → P σ (-1 : Int32)) ∧
    (¬ (gI σ 8) ≤ v2 → pV σ x0 6 3 (.ref r.2.1) ∧ pI σ x0 6 0 (fun v7 => vp_in v7 120 ∧ P σ (gA σ 7 v7.toNatClampNeg)))))
def f_X8_init (r : GR) (σ : GS) (x0 : Nat) (P : GS → Prop) : Prop :=
    P σ
def f_X10_init (r : GR) (σ : GS) (x0 : Nat) (x1 : Option Nat) (P : GS → Prop) : Prop :=
    f_X8_init r σ x0 (fun σ1 =>
    pS σ1 x0 9 0 (va_rf x1) (fun σ3 =>
    P σ3))
def f_X11_init (r : GR) (σ : GS) (x0 : Nat) (x1 : Option Nat) (P : GS → Prop) : Prop :=
    f_X8_init r σ x0 (fun σ1 =>
    pS σ1 x0 10 0 (va_rf x1) (fun σ3 =>
    P σ3))
def f_X12_init (r : GR) (σ : GS) (x0 : Nat) (x1 : Int32) (P : GS → Prop) : Prop :=
    f_X8_init r σ x0 (fun σ1 =>
    pS σ1 x0 11 0 (.int x1) (fun σ3 =>
    P σ3))
def f_J4_isLatin1_s3 (r : GR) (σ : GS) (P : GS → Int32 → Prop) : Prop :=
    (((1 : Int32) = 0 → P σ (0 : Int32)) ∧
    (¬ (1 : Int32) = 0 → (((0 : Int32) = 0 → P σ (1 : Int32)) ∧
     (¬ (0 : Int32) = 0 → P σ (0 : Int32)))))
def f_J4_coder_s3 (r : GR) (σ : GS) (P : GS → Int32 → Prop) : Prop :=
    (((1 : Int32) = 0 → P σ (1 : Int32)) ∧
    (¬ (1 : Int32) = 0 → P σ (0 : Int32)))
def f_J4_length_s3 (r : GR) (σ : GS) (P : GS → Int32 → Prop) : Prop :=
    f_J4_coder_s3 r σ  (fun σ1 v2 =>
    P σ1 ((Int32.ofNat 7) >>> (v2 &&& 31)))
def f_J8_canEncode (r : GR) (σ : GS) (x0 : Int32) (P : GS → Int32 → Prop) : Prop :=
    ((x0 < 0 → P σ (0 : Int32)) ∧
    (¬ x0 < 0 → (((255 : Int32) < x0 → P σ (0 : Int32)) ∧
     (¬ (255 : Int32) < x0 → P σ (1 : Int32)))))
def f_J8_indexOfChar_s3_7 (r : GR) (P : GS → Int32 → Prop) : Nat → GS → Int32 → Int32 → Int32 → Prop
  | 0 => fun _ _ _ _ => False
  | n + 1 => fun σ x3 x4 x5 => ((x3 ≤ x5 → P σ (-1 : Int32)) ∧
    (¬ x3 ≤ x5 → vp_in x5 7 ∧ ((((bytS.getD 3 []).getD x5.toNatClampNeg 0) = x4 → P σ x5) ∧
     (¬ ((bytS.getD 3 []).getD x5.toNatClampNeg 0) = x4 → f_J8_indexOfChar_s3_7 r P n σ x3 x4 (x5 + 1)))))
def f_J8_indexOfChar_s3 (r : GR) (σ : GS) (x1 : Int32) (x2 : Int32) (x3 : Int32) (P : GS → Int32 → Prop) : Prop :=
    (∃ q_ : Nat, f_J8_indexOfChar_s3_7 r P q_ σ x3 x1.toInt8.toInt32 x2)
def f_J8_indexOf_s3 (r : GR) (σ : GS) (x1 : Int32) (x2 : Int32) (x3 : Int32) (P : GS → Int32 → Prop) : Prop :=
    f_J8_canEncode r σ x1 (fun σ1 v2 =>
    ((v2 = 0 → P σ1 (-1 : Int32)) ∧
    (¬ v2 = 0 → (∀ z4 : Int32, z4 = (if x2 < (0 : Int32) then (0 : Int32) else x2) → (∀ z5 : Int32, z5 = (if (Int32.ofNat 7) < x3 then (Int32.ofNat 7) else x3) → ((z4 < z5 → f_J8_indexOfChar_s3 r σ1 x1 z4 z5 (fun σ7 v8 =>
      P σ7 v8)) ∧
     (¬ z4 < z5 → P σ1 (-1 : Int32))))))))
def f_J4_indexOf_2_s3 (r : GR) (σ : GS) (x1 : Int32) (x2 : Int32) (P : GS → Int32 → Prop) : Prop :=
    f_J4_isLatin1_s3 r σ  (fun σ1 v2 =>
    ((v2 = 0 → f_J4_length_s3 r σ1  (fun σ4 v5 =>
     False)) ∧
    (¬ v2 = 0 → f_J4_length_s3 r σ1  (fun σ6 v7 =>
     f_J8_indexOf_s3 r σ6 x1 x2 v7 (fun σ8 v9 =>
     P σ8 v9)))))
def f_J4_indexOf_s3 (r : GR) (σ : GS) (x1 : Int32) (P : GS → Int32 → Prop) : Prop :=
    f_J4_indexOf_2_s3 r σ x1 (0 : Int32) (fun σ1 v2 =>
    P σ1 v2)
def f_X6_isOne_s3 (r : GR) (σ : GS) (x0 : Nat) (P : GS → Int32 → Prop) : Prop :=
    (∃ f3 : List Value, gO σ x0 = some (.inr (6, f3)) ∧ f_X6_here r σ x0 (fun σ1 v2 =>
    ((v2 < 0 → P σ1 (0 : Int32)) ∧
    (¬ v2 < 0 → (∃ f8 : List Value, gO σ1 x0 = some (.inr (6, f8)) ∧ f_X6_here r σ1 x0 (fun σ6 v7 =>
     f_J4_indexOf_s3 r σ6 v7 (fun σ10 v11 =>
     ((v11 < 0 → P σ10 (0 : Int32)) ∧
     (¬ v11 < 0 → P σ10 (1 : Int32))))))))))
def f_X6_opens (r : GR) (σ : GS) (x0 : Nat) (P : GS → Int32 → Prop) : Prop :=
    pI σ x0 6 2 (fun v2 => ((v2 = (6 : Int32) → P σ (0 : Int32)) ∧
    (¬ v2 = (6 : Int32) → pI σ x0 6 2 (fun v5 => pS σ x0 6 2 (.int (v5 + (1 : Int32))) (fun σ6 =>
     pI σ6 x0 6 0 (fun v8 => pS σ6 x0 6 0 (.int (v8 + (1 : Int32))) (fun σ9 =>
     P σ9 (1 : Int32))))))))
def f_X6_wrong (r : GR) (σ : GS) (x0 : Nat) (P : GS → Option Nat → Prop) : Prop :=
    pI σ x0 6 1 (fun v2 => ((0 ≤ v2 → P σ none) ∧
    (¬ 0 ≤ v2 → pI σ x0 6 0 (fun v5 => pS σ x0 6 1 (.int v5) (fun σ6 =>
     P σ6 none)))))
def f_X9_init (r : GR) (σ : GS) (x0 : Nat) (x1 : Int32) (P : GS → Prop) : Prop :=
    f_X8_init r σ x0 (fun σ1 =>
    pS σ1 x0 8 0 (.int x1) (fun σ3 =>
    P σ3))
def f_J4_isLatin1_s2 (r : GR) (σ : GS) (P : GS → Int32 → Prop) : Prop :=
    (((1 : Int32) = 0 → P σ (0 : Int32)) ∧
    (¬ (1 : Int32) = 0 → (((0 : Int32) = 0 → P σ (1 : Int32)) ∧
     (¬ (0 : Int32) = 0 → P σ (0 : Int32)))))
def f_J4_coder_s2 (r : GR) (σ : GS) (P : GS → Int32 → Prop) : Prop :=
    (((1 : Int32) = 0 → P σ (1 : Int32)) ∧
    (¬ (1 : Int32) = 0 → P σ (0 : Int32)))
def f_J4_length_s2 (r : GR) (σ : GS) (P : GS → Int32 → Prop) : Prop :=
    f_J4_coder_s2 r σ  (fun σ1 v2 =>
    P σ1 ((Int32.ofNat 3) >>> (v2 &&& 31)))
def f_J8_indexOfChar_s2_7 (r : GR) (P : GS → Int32 → Prop) : Nat → GS → Int32 → Int32 → Int32 → Prop
  | 0 => fun _ _ _ _ => False
  | n + 1 => fun σ x3 x4 x5 => ((x3 ≤ x5 → P σ (-1 : Int32)) ∧
    (¬ x3 ≤ x5 → vp_in x5 3 ∧ ((((bytS.getD 2 []).getD x5.toNatClampNeg 0) = x4 → P σ x5) ∧
     (¬ ((bytS.getD 2 []).getD x5.toNatClampNeg 0) = x4 → f_J8_indexOfChar_s2_7 r P n σ x3 x4 (x5 + 1)))))
def f_J8_indexOfChar_s2 (r : GR) (σ : GS) (x1 : Int32) (x2 : Int32) (x3 : Int32) (P : GS → Int32 → Prop) : Prop :=
    (∃ q_ : Nat, f_J8_indexOfChar_s2_7 r P q_ σ x3 x1.toInt8.toInt32 x2)
def f_J8_indexOf_s2 (r : GR) (σ : GS) (x1 : Int32) (x2 : Int32) (x3 : Int32) (P : GS → Int32 → Prop) : Prop :=
    f_J8_canEncode r σ x1 (fun σ1 v2 =>
    ((v2 = 0 → P σ1 (-1 : Int32)) ∧
    (¬ v2 = 0 → (∀ z4 : Int32, z4 = (if x2 < (0 : Int32) then (0 : Int32) else x2) → (∀ z5 : Int32, z5 = (if (Int32.ofNat 3) < x3 then (Int32.ofNat 3) else x3) → ((z4 < z5 → f_J8_indexOfChar_s2 r σ1 x1 z4 z5 (fun σ7 v8 =>
      P σ7 v8)) ∧
     (¬ z4 < z5 → P σ1 (-1 : Int32))))))))
def f_J4_indexOf_2_s2 (r : GR) (σ : GS) (x1 : Int32) (x2 : Int32) (P : GS → Int32 → Prop) : Prop :=
    f_J4_isLatin1_s2 r σ  (fun σ1 v2 =>
    ((v2 = 0 → f_J4_length_s2 r σ1  (fun σ4 v5 =>
     False)) ∧
    (¬ v2 = 0 → f_J4_length_s2 r σ1  (fun σ6 v7 =>
     f_J8_indexOf_s2 r σ6 x1 x2 v7 (fun σ8 v9 =>
     P σ8 v9)))))
def f_J4_indexOf_s2 (r : GR) (σ : GS) (x1 : Int32) (P : GS → Int32 → Prop) : Prop :=
    f_J4_indexOf_2_s2 r σ x1 (0 : Int32) (fun σ1 v2 =>
    P σ1 v2)
def f_X6_isOne_s2 (r : GR) (σ : GS) (x0 : Nat) (P : GS → Int32 → Prop) : Prop :=
    (∃ f3 : List Value, gO σ x0 = some (.inr (6, f3)) ∧ f_X6_here r σ x0 (fun σ1 v2 =>
    ((v2 < 0 → P σ1 (0 : Int32)) ∧
    (¬ v2 < 0 → (∃ f8 : List Value, gO σ1 x0 = some (.inr (6, f8)) ∧ f_X6_here r σ1 x0 (fun σ6 v7 =>
     f_J4_indexOf_s2 r σ6 v7 (fun σ10 v11 =>
     ((v11 < 0 → P σ10 (0 : Int32)) ∧
     (¬ v11 < 0 → P σ10 (1 : Int32))))))))))
def f_X13_init (r : GR) (σ : GS) (x0 : Nat) (x1 : Int32) (x2 : Option Nat) (x3 : Option Nat) (P : GS → Prop) : Prop :=
    f_X8_init r σ x0 (fun σ1 =>
    pS σ1 x0 12 0 (.int x1) (fun σ3 =>
    pS σ3 x0 12 1 (va_rf x2) (fun σ4 =>
    pS σ4 x0 12 2 (va_rf x3) (fun σ5 =>
    P σ5))))
def f_X6_joined (r : GR) (bc bs : Nat) (σ : GS) (x0 : Nat) (x1 : Int32) (x2 : Option Nat) (x3 : Option Nat) (P : GS → Option Nat → Prop) : Prop :=
    pI σ x0 6 1 (fun v2 => ((v2 < 0 → (∃ (b6 s7 : Nat), b6 + 1 ≤ bc ∧ s7 + 3 ≤ bs ∧ (∀ a4 : Nat, gO σ a4 = none → ∀ σ5 : GS, σ5 = sO σ a4 (some (.inr (12, [.int 0, .null, .null]))) → f_X13_init r σ5 a4 x1 x2 x3 (fun σ10 =>
     P σ10 (some a4))))) ∧
    (¬ v2 < 0 → P σ none)))
def f_J4_isLatin1_s1 (r : GR) (σ : GS) (P : GS → Int32 → Prop) : Prop :=
    (((1 : Int32) = 0 → P σ (0 : Int32)) ∧
    (¬ (1 : Int32) = 0 → (((0 : Int32) = 0 → P σ (1 : Int32)) ∧
     (¬ (0 : Int32) = 0 → P σ (0 : Int32)))))
def f_J4_coder_s1 (r : GR) (σ : GS) (P : GS → Int32 → Prop) : Prop :=
    (((1 : Int32) = 0 → P σ (1 : Int32)) ∧
    (¬ (1 : Int32) = 0 → P σ (0 : Int32)))
def f_J4_length_s1 (r : GR) (σ : GS) (P : GS → Int32 → Prop) : Prop :=
    f_J4_coder_s1 r σ  (fun σ1 v2 =>
    P σ1 ((Int32.ofNat 2) >>> (v2 &&& 31)))
def f_J8_indexOfChar_s1_7 (r : GR) (P : GS → Int32 → Prop) : Nat → GS → Int32 → Int32 → Int32 → Prop
  | 0 => fun _ _ _ _ => False
  | n + 1 => fun σ x3 x4 x5 => ((x3 ≤ x5 → P σ (-1 : Int32)) ∧
    (¬ x3 ≤ x5 → vp_in x5 2 ∧ ((((bytS.getD 1 []).getD x5.toNatClampNeg 0) = x4 → P σ x5) ∧
     (¬ ((bytS.getD 1 []).getD x5.toNatClampNeg 0) = x4 → f_J8_indexOfChar_s1_7 r P n σ x3 x4 (x5 + 1)))))
def f_J8_indexOfChar_s1 (r : GR) (σ : GS) (x1 : Int32) (x2 : Int32) (x3 : Int32) (P : GS → Int32 → Prop) : Prop :=
    (∃ q_ : Nat, f_J8_indexOfChar_s1_7 r P q_ σ x3 x1.toInt8.toInt32 x2)
def f_J8_indexOf_s1 (r : GR) (σ : GS) (x1 : Int32) (x2 : Int32) (x3 : Int32) (P : GS → Int32 → Prop) : Prop :=
    f_J8_canEncode r σ x1 (fun σ1 v2 =>
    ((v2 = 0 → P σ1 (-1 : Int32)) ∧
    (¬ v2 = 0 → (∀ z4 : Int32, z4 = (if x2 < (0 : Int32) then (0 : Int32) else x2) → (∀ z5 : Int32, z5 = (if (Int32.ofNat 2) < x3 then (Int32.ofNat 2) else x3) → ((z4 < z5 → f_J8_indexOfChar_s1 r σ1 x1 z4 z5 (fun σ7 v8 =>
      P σ7 v8)) ∧
     (¬ z4 < z5 → P σ1 (-1 : Int32))))))))
def f_J4_indexOf_2_s1 (r : GR) (σ : GS) (x1 : Int32) (x2 : Int32) (P : GS → Int32 → Prop) : Prop :=
    f_J4_isLatin1_s1 r σ  (fun σ1 v2 =>
    ((v2 = 0 → f_J4_length_s1 r σ1  (fun σ4 v5 =>
     False)) ∧
    (¬ v2 = 0 → f_J4_length_s1 r σ1  (fun σ6 v7 =>
     f_J8_indexOf_s1 r σ6 x1 x2 v7 (fun σ8 v9 =>
     P σ8 v9)))))
def f_J4_indexOf_s1 (r : GR) (σ : GS) (x1 : Int32) (P : GS → Int32 → Prop) : Prop :=
    f_J4_indexOf_2_s1 r σ x1 (0 : Int32) (fun σ1 v2 =>
    P σ1 v2)
def f_X6_isOne_s1 (r : GR) (σ : GS) (x0 : Nat) (P : GS → Int32 → Prop) : Prop :=
    (∃ f3 : List Value, gO σ x0 = some (.inr (6, f3)) ∧ f_X6_here r σ x0 (fun σ1 v2 =>
    ((v2 < 0 → P σ1 (0 : Int32)) ∧
    (¬ v2 < 0 → (∃ f8 : List Value, gO σ1 x0 = some (.inr (6, f8)) ∧ f_X6_here r σ1 x0 (fun σ6 v7 =>
     f_J4_indexOf_s1 r σ6 v7 (fun σ10 v11 =>
     ((v11 < 0 → P σ10 (0 : Int32)) ∧
     (¬ v11 < 0 → P σ10 (1 : Int32))))))))))
def f_J4_isLatin1_s0 (r : GR) (σ : GS) (P : GS → Int32 → Prop) : Prop :=
    (((1 : Int32) = 0 → P σ (0 : Int32)) ∧
    (¬ (1 : Int32) = 0 → (((0 : Int32) = 0 → P σ (1 : Int32)) ∧
     (¬ (0 : Int32) = 0 → P σ (0 : Int32)))))
def f_J4_coder_s0 (r : GR) (σ : GS) (P : GS → Int32 → Prop) : Prop :=
    (((1 : Int32) = 0 → P σ (1 : Int32)) ∧
    (¬ (1 : Int32) = 0 → P σ (0 : Int32)))
def f_J4_length_s0 (r : GR) (σ : GS) (P : GS → Int32 → Prop) : Prop :=
    f_J4_coder_s0 r σ  (fun σ1 v2 =>
    P σ1 ((Int32.ofNat 3) >>> (v2 &&& 31)))
def f_J8_indexOfChar_s0_7 (r : GR) (P : GS → Int32 → Prop) : Nat → GS → Int32 → Int32 → Int32 → Prop
  | 0 => fun _ _ _ _ => False
  | n + 1 => fun σ x3 x4 x5 => ((x3 ≤ x5 → P σ (-1 : Int32)) ∧
    (¬ x3 ≤ x5 → vp_in x5 3 ∧ ((((bytS.getD 0 []).getD x5.toNatClampNeg 0) = x4 → P σ x5) ∧
     (¬ ((bytS.getD 0 []).getD x5.toNatClampNeg 0) = x4 → f_J8_indexOfChar_s0_7 r P n σ x3 x4 (x5 + 1)))))
def f_J8_indexOfChar_s0 (r : GR) (σ : GS) (x1 : Int32) (x2 : Int32) (x3 : Int32) (P : GS → Int32 → Prop) : Prop :=
    (∃ q_ : Nat, f_J8_indexOfChar_s0_7 r P q_ σ x3 x1.toInt8.toInt32 x2)
def f_J8_indexOf_s0 (r : GR) (σ : GS) (x1 : Int32) (x2 : Int32) (x3 : Int32) (P : GS → Int32 → Prop) : Prop :=
    f_J8_canEncode r σ x1 (fun σ1 v2 =>
    ((v2 = 0 → P σ1 (-1 : Int32)) ∧
    (¬ v2 = 0 → (∀ z4 : Int32, z4 = (if x2 < (0 : Int32) then (0 : Int32) else x2) → (∀ z5 : Int32, z5 = (if (Int32.ofNat 3) < x3 then (Int32.ofNat 3) else x3) → ((z4 < z5 → f_J8_indexOfChar_s0 r σ1 x1 z4 z5 (fun σ7 v8 =>
      P σ7 v8)) ∧
     (¬ z4 < z5 → P σ1 (-1 : Int32))))))))
def f_J4_indexOf_2_s0 (r : GR) (σ : GS) (x1 : Int32) (x2 : Int32) (P : GS → Int32 → Prop) : Prop :=
    f_J4_isLatin1_s0 r σ  (fun σ1 v2 =>
    ((v2 = 0 → f_J4_length_s0 r σ1  (fun σ4 v5 =>
     False)) ∧
    (¬ v2 = 0 → f_J4_length_s0 r σ1  (fun σ6 v7 =>
     f_J8_indexOf_s0 r σ6 x1 x2 v7 (fun σ8 v9 =>
     P σ8 v9)))))
def f_J4_indexOf_s0 (r : GR) (σ : GS) (x1 : Int32) (P : GS → Int32 → Prop) : Prop :=
    f_J4_indexOf_2_s0 r σ x1 (0 : Int32) (fun σ1 v2 =>
    P σ1 v2)
def f_X6_isOne_s0 (r : GR) (σ : GS) (x0 : Nat) (P : GS → Int32 → Prop) : Prop :=
    (∃ f3 : List Value, gO σ x0 = some (.inr (6, f3)) ∧ f_X6_here r σ x0 (fun σ1 v2 =>
    ((v2 < 0 → P σ1 (0 : Int32)) ∧
    (¬ v2 < 0 → (∃ f8 : List Value, gO σ1 x0 = some (.inr (6, f8)) ∧ f_X6_here r σ1 x0 (fun σ6 v7 =>
     f_J4_indexOf_s0 r σ6 v7 (fun σ10 v11 =>
     ((v11 < 0 → P σ10 (0 : Int32)) ∧
     (¬ v11 < 0 → P σ10 (1 : Int32))))))))))
def o_X6_operand_245 (r : GR) (c_X6_either : Nat → Nat → GS → Nat → (GS → Option Nat → Prop) → Prop) (c_X6_operand : Nat → Nat → GS → Nat → (GS → Option Nat → Prop) → Prop) (P : GS → Option Nat → Prop) (bc bs : Nat) (σ : GS) (x0 : Nat) : Prop :=
    (∃ f3 : List Value, gO σ x0 = some (.inr (6, f3)) ∧ f_X6_wrong r σ x0 (fun σ1 v2 =>
    P σ1 v2))
def o_X6_operand_227 (r : GR) (c_X6_either : Nat → Nat → GS → Nat → (GS → Option Nat → Prop) → Prop) (c_X6_operand : Nat → Nat → GS → Nat → (GS → Option Nat → Prop) → Prop) (P : GS → Option Nat → Prop) (bc bs : Nat) (σ : GS) (x0 : Nat) (x2 : Int32) (x3 : Int32) : Prop :=
    ((x2 = 0 → o_X6_operand_245 r c_X6_either c_X6_operand P bc bs σ x0) ∧
    (¬ x2 = 0 → (∃ f4 : List Value, gO σ x0 = some (.inr (6, f4)) ∧ f_X6_here r σ x0 (fun σ2 v3 =>
     f_X0_in r σ2 v3 (48 : Int32) (57 : Int32) (fun σ6 v7 =>
     ((v7 = 0 → (∃ (b11 s12 : Nat), b11 + 1 ≤ bc ∧ s12 + 1 ≤ bs ∧ (∀ a9 : Nat, gO σ6 a9 = none → ∀ σ10 : GS, σ10 = sO σ6 a9 (some (.inr (11, [.int 0]))) → f_X12_init r σ10 a9 x3 (fun σ15 =>
      P σ15 (some a9))))) ∧
     (¬ v7 = 0 → o_X6_operand_245 r c_X6_either c_X6_operand P bc bs σ6 x0)))))))
def o_X6_operand_179 (r : GR) (c_X6_either : Nat → Nat → GS → Nat → (GS → Option Nat → Prop) → Prop) (c_X6_operand : Nat → Nat → GS → Nat → (GS → Option Nat → Prop) → Prop) (P : GS → Option Nat → Prop) : Nat → Nat → Nat → GS → Nat → Int32 → Int32 → Prop
  | 0 => fun _ _ _ _ _ _ => False
  | n + 1 => fun bc bs σ x0 x2 x3 => (((4 : Int32) ≤ x2 → o_X6_operand_227 r c_X6_either c_X6_operand P bc bs σ x0 x2 x3) ∧
    (¬ (4 : Int32) ≤ x2 → (∃ f4 : List Value, gO σ x0 = some (.inr (6, f4)) ∧ f_X6_here r σ x0 (fun σ2 v3 =>
     f_X0_in r σ2 v3 (48 : Int32) (57 : Int32) (fun σ6 v7 =>
     ((v7 = 0 → o_X6_operand_227 r c_X6_either c_X6_operand P bc bs σ6 x0 x2 x3) ∧
     (¬ v7 = 0 → (∃ f11 : List Value, gO σ6 x0 = some (.inr (6, f11)) ∧ f_X6_here r σ6 x0 (fun σ9 v10 =>
      (∀ z13 : Int32, z13 = (((10 : Int32) * x3) + v10) - (48 : Int32) → pI σ9 x0 6 0 (fun v15 => pS σ9 x0 6 0 (.int (v15 + (1 : Int32))) (fun σ16 =>
      o_X6_operand_179 r c_X6_either c_X6_operand P n bc bs σ16 x0 (x2 + 1) z13))))))))))))
def o_X6_operand_45 (r : GR) (c_X6_either : Nat → Nat → GS → Nat → (GS → Option Nat → Prop) → Prop) (c_X6_operand : Nat → Nat → GS → Nat → (GS → Option Nat → Prop) → Prop) (P : GS → Option Nat → Prop) (bc bs : Nat) (σ : GS) (x0 : Nat) (x1 : Int32) : Prop :=
    (∃ f3 : List Value, gO σ x0 = some (.inr (6, f3)) ∧ f_X6_opens r σ x0 (fun σ1 v2 =>
    ((v2 = 0 → (∃ f41 : List Value, gO σ1 x0 = some (.inr (6, f41)) ∧ f_X6_wrong r σ1 x0 (fun σ39 v40 =>
     P σ39 v40))) ∧
    (¬ v2 = 0 → (∃ (c8 s9 : Nat), (∃ (b10 s11 : Nat), b10 + c8 ≤ bc ∧ s11 + s9 ≤ bs ∧ (∃ f14 : List Value, gO σ1 x0 = some (.inr (6, f14)) ∧ c_X6_operand c8 s9 σ1 x0 (fun σ6 v7 =>
     pI σ6 x0 6 2 (fun v17 => pS σ6 x0 6 2 (.int (v17 - (1 : Int32))) (fun σ18 =>
     pI σ18 x0 6 1 (fun v20 => ((v20 < 0 → ((x1 = (33 : Int32) → (∃ (b33 s34 : Nat), b33 + 1 ≤ b10 ∧ s34 + 1 ≤ s11 ∧ (∀ a31 : Nat, gO σ18 a31 = none → ∀ σ32 : GS, σ32 = sO σ18 a31 (some (.inr (9, [.null]))) → f_X10_init r σ32 a31 v7 (fun σ37 =>
       P σ37 (some a31))))) ∧
      (¬ x1 = (33 : Int32) → (∃ (b25 s26 : Nat), b25 + 1 ≤ b10 ∧ s26 + 1 ≤ s11 ∧ (∀ a23 : Nat, gO σ18 a23 = none → ∀ σ24 : GS, σ24 = sO σ18 a23 (some (.inr (10, [.null]))) → f_X11_init r σ24 a23 v7 (fun σ29 =>
       P σ29 (some a23))))))) ∧
     (¬ v20 < 0 → P σ18 none)))))))))))))
def o_X6_operand (r : GR) (c_X6_either : Nat → Nat → GS → Nat → (GS → Option Nat → Prop) → Prop) (c_X6_operand : Nat → Nat → GS → Nat → (GS → Option Nat → Prop) → Prop) (bc bs : Nat) (σ : GS) (x0 : Nat) (P : GS → Option Nat → Prop) : Prop :=
    (∃ f3 : List Value, gO σ x0 = some (.inr (6, f3)) ∧ f_X6_here r σ x0 (fun σ1 v2 =>
    (∃ f7 : List Value, gO σ1 x0 = some (.inr (6, f7)) ∧ f_X6_isOne_s3 r σ1 x0 (fun σ5 v6 =>
    ((v6 = 0 → ((v2 = (33 : Int32) → o_X6_operand_45 r c_X6_either c_X6_operand P bc bs σ5 x0 v2) ∧
     (¬ v2 = (33 : Int32) → ((v2 = (45 : Int32) → o_X6_operand_45 r c_X6_either c_X6_operand P bc bs σ5 x0 v2) ∧
      (¬ v2 = (45 : Int32) → ((v2 = (40 : Int32) → (∃ f15 : List Value, gO σ5 x0 = some (.inr (6, f15)) ∧ f_X6_opens r σ5 x0 (fun σ13 v14 =>
        ((v14 = 0 → (∃ f48 : List Value, gO σ13 x0 = some (.inr (6, f48)) ∧ f_X6_wrong r σ13 x0 (fun σ46 v47 =>
         P σ46 v47))) ∧
        (¬ v14 = 0 → (∃ (c20 s21 : Nat), (∃ (b22 s23 : Nat), b22 + c20 ≤ bc ∧ s23 + s21 ≤ bs ∧ (∃ f26 : List Value, gO σ13 x0 = some (.inr (6, f26)) ∧ c_X6_either c20 s21 σ13 x0 (fun σ18 v19 =>
         pI σ18 x0 6 1 (fun v29 => ((v29 < 0 → (∃ f33 : List Value, gO σ18 x0 = some (.inr (6, f33)) ∧ f_X6_here r σ18 x0 (fun σ31 v32 =>
          ((v32 = (41 : Int32) → pI σ31 x0 6 0 (fun v37 => pS σ31 x0 6 0 (.int (v37 + (1 : Int32))) (fun σ38 =>
           pI σ38 x0 6 2 (fun v40 => pS σ38 x0 6 2 (.int (v40 - (1 : Int32))) (fun σ41 =>
           P σ41 v19))))) ∧
          (¬ v32 = (41 : Int32) → (∃ f44 : List Value, gO σ31 x0 = some (.inr (6, f44)) ∧ f_X6_wrong r σ31 x0 (fun σ42 v43 =>
           P σ42 v43))))))) ∧
         (¬ v29 < 0 → P σ18 none)))))))))))) ∧
       (¬ v2 = (40 : Int32) → (∃ q_ : Nat, o_X6_operand_179 r c_X6_either c_X6_operand P q_ bc bs σ5 x0 (0 : Int32) (0 : Int32))))))))) ∧
    (¬ v6 = 0 → pI σ5 x0 6 0 (fun v51 => pS σ5 x0 6 0 (.int (v51 + (1 : Int32))) (fun σ52 =>
     (∃ (b55 s56 : Nat), b55 + 1 ≤ bc ∧ s56 + 1 ≤ bs ∧ (∀ a53 : Nat, gO σ52 a53 = none → ∀ σ54 : GS, σ54 = sO σ52 a53 (some (.inr (8, [.int 0]))) → f_X9_init r σ54 a53 v2 (fun σ59 =>
     P σ59 (some a53))))))))))))
def o_X6_product_5 (r : GR) (c_X6_operand : Nat → Nat → GS → Nat → (GS → Option Nat → Prop) → Prop) (P : GS → Option Nat → Prop) : Nat → Nat → Nat → GS → Nat → Option Nat → Prop
  | 0 => fun _ _ _ _ _ => False
  | n + 1 => fun bc bs σ x0 x1 => pI σ x0 6 1 (fun v2 => ((0 ≤ v2 → P σ x1) ∧
    (¬ 0 ≤ v2 → (∃ f6 : List Value, gO σ x0 = some (.inr (6, f6)) ∧ f_X6_isOne_s2 r σ x0 (fun σ4 v5 =>
     ((v5 = 0 → P σ4 x1) ∧
     (¬ v5 = 0 → (∃ f11 : List Value, gO σ4 x0 = some (.inr (6, f11)) ∧ f_X6_here r σ4 x0 (fun σ9 v10 =>
      pI σ9 x0 6 0 (fun v14 => pS σ9 x0 6 0 (.int (v14 + (1 : Int32))) (fun σ15 =>
      (∃ (c18 s19 : Nat), (∃ (b20 s21 : Nat), b20 + c18 ≤ bc ∧ s21 + s19 ≤ bs ∧ (∃ f24 : List Value, gO σ15 x0 = some (.inr (6, f24)) ∧ c_X6_operand c18 s19 σ15 x0 (fun σ16 v17 =>
      (∃ (c28 s29 : Nat), (∃ (b30 s31 : Nat), b30 + c28 ≤ b20 ∧ s31 + s29 ≤ s21 ∧ (∃ f34 : List Value, gO σ16 x0 = some (.inr (6, f34)) ∧ f_X6_joined r c28 s29 σ16 x0 v10 x1 v17 (fun σ26 v27 =>
      o_X6_product_5 r c_X6_operand P n b30 s31 σ26 x0 v27)))))))))))))))))))
def o_X6_product (r : GR) (c_X6_operand : Nat → Nat → GS → Nat → (GS → Option Nat → Prop) → Prop) (bc bs : Nat) (σ : GS) (x0 : Nat) (P : GS → Option Nat → Prop) : Prop :=
    (∃ (c3 s4 : Nat), (∃ (b5 s6 : Nat), b5 + c3 ≤ bc ∧ s6 + s4 ≤ bs ∧ (∃ f9 : List Value, gO σ x0 = some (.inr (6, f9)) ∧ c_X6_operand c3 s4 σ x0 (fun σ1 v2 =>
    (∃ q_ : Nat, o_X6_product_5 r c_X6_operand P q_ b5 s6 σ1 x0 v2)))))
def o_X6_sum_5 (r : GR) (c_X6_product : Nat → Nat → GS → Nat → (GS → Option Nat → Prop) → Prop) (P : GS → Option Nat → Prop) : Nat → Nat → Nat → GS → Nat → Option Nat → Prop
  | 0 => fun _ _ _ _ _ => False
  | n + 1 => fun bc bs σ x0 x1 => pI σ x0 6 1 (fun v2 => ((0 ≤ v2 → P σ x1) ∧
    (¬ 0 ≤ v2 → (∃ f6 : List Value, gO σ x0 = some (.inr (6, f6)) ∧ f_X6_isOne_s1 r σ x0 (fun σ4 v5 =>
     ((v5 = 0 → P σ4 x1) ∧
     (¬ v5 = 0 → (∃ f11 : List Value, gO σ4 x0 = some (.inr (6, f11)) ∧ f_X6_here r σ4 x0 (fun σ9 v10 =>
      pI σ9 x0 6 0 (fun v14 => pS σ9 x0 6 0 (.int (v14 + (1 : Int32))) (fun σ15 =>
      (∃ (c18 s19 : Nat), (∃ (b20 s21 : Nat), b20 + c18 ≤ bc ∧ s21 + s19 ≤ bs ∧ (∃ f24 : List Value, gO σ15 x0 = some (.inr (6, f24)) ∧ c_X6_product c18 s19 σ15 x0 (fun σ16 v17 =>
      (∃ (c28 s29 : Nat), (∃ (b30 s31 : Nat), b30 + c28 ≤ b20 ∧ s31 + s29 ≤ s21 ∧ (∃ f34 : List Value, gO σ16 x0 = some (.inr (6, f34)) ∧ f_X6_joined r c28 s29 σ16 x0 v10 x1 v17 (fun σ26 v27 =>
      o_X6_sum_5 r c_X6_product P n b30 s31 σ26 x0 v27)))))))))))))))))))
def o_X6_sum (r : GR) (c_X6_product : Nat → Nat → GS → Nat → (GS → Option Nat → Prop) → Prop) (bc bs : Nat) (σ : GS) (x0 : Nat) (P : GS → Option Nat → Prop) : Prop :=
    (∃ (c3 s4 : Nat), (∃ (b5 s6 : Nat), b5 + c3 ≤ bc ∧ s6 + s4 ≤ bs ∧ (∃ f9 : List Value, gO σ x0 = some (.inr (6, f9)) ∧ c_X6_product c3 s4 σ x0 (fun σ1 v2 =>
    (∃ q_ : Nat, o_X6_sum_5 r c_X6_product P q_ b5 s6 σ1 x0 v2)))))
def o_X6_compared (r : GR) (c_X6_sum : Nat → Nat → GS → Nat → (GS → Option Nat → Prop) → Prop) (bc bs : Nat) (σ : GS) (x0 : Nat) (P : GS → Option Nat → Prop) : Prop :=
    (∃ (c3 s4 : Nat), (∃ (b5 s6 : Nat), b5 + c3 ≤ bc ∧ s6 + s4 ≤ bs ∧ (∃ f9 : List Value, gO σ x0 = some (.inr (6, f9)) ∧ c_X6_sum c3 s4 σ x0 (fun σ1 v2 =>
    pI σ1 x0 6 1 (fun v12 => ((0 ≤ v12 → P σ1 v2) ∧
    (¬ 0 ≤ v12 → (∃ f16 : List Value, gO σ1 x0 = some (.inr (6, f16)) ∧ f_X6_isOne_s0 r σ1 x0 (fun σ14 v15 =>
     ((v15 = 0 → P σ14 v2) ∧
     (¬ v15 = 0 → (∃ f21 : List Value, gO σ14 x0 = some (.inr (6, f21)) ∧ f_X6_here r σ14 x0 (fun σ19 v20 =>
      pI σ19 x0 6 0 (fun v24 => pS σ19 x0 6 0 (.int (v24 + (1 : Int32))) (fun σ25 =>
      (∃ (c28 s29 : Nat), (∃ (b30 s31 : Nat), b30 + c28 ≤ b5 ∧ s31 + s29 ≤ s6 ∧ (∃ f34 : List Value, gO σ25 x0 = some (.inr (6, f34)) ∧ c_X6_sum c28 s29 σ25 x0 (fun σ26 v27 =>
      (∃ (c38 s39 : Nat), (∃ (b40 s41 : Nat), b40 + c38 ≤ b30 ∧ s41 + s39 ≤ s31 ∧ (∃ f44 : List Value, gO σ26 x0 = some (.inr (6, f44)) ∧ f_X6_joined r c38 s39 σ26 x0 v20 v2 v27 (fun σ36 v37 =>
      P σ36 v37)))))))))))))))))))))))
def o_X6_all_5 (r : GR) (c_X6_compared : Nat → Nat → GS → Nat → (GS → Option Nat → Prop) → Prop) (P : GS → Option Nat → Prop) : Nat → Nat → Nat → GS → Nat → Option Nat → Prop
  | 0 => fun _ _ _ _ _ => False
  | n + 1 => fun bc bs σ x0 x1 => pI σ x0 6 1 (fun v2 => ((0 ≤ v2 → P σ x1) ∧
    (¬ 0 ≤ v2 → (∃ f6 : List Value, gO σ x0 = some (.inr (6, f6)) ∧ f_X6_here r σ x0 (fun σ4 v5 =>
     ((v5 = (38 : Int32) → pI σ4 x0 6 0 (fun v10 => pS σ4 x0 6 0 (.int (v10 + (1 : Int32))) (fun σ11 =>
      (∃ (c14 s15 : Nat), (∃ (b16 s17 : Nat), b16 + c14 ≤ bc ∧ s17 + s15 ≤ bs ∧ (∃ f20 : List Value, gO σ11 x0 = some (.inr (6, f20)) ∧ c_X6_compared c14 s15 σ11 x0 (fun σ12 v13 =>
      (∃ (c24 s25 : Nat), (∃ (b26 s27 : Nat), b26 + c24 ≤ b16 ∧ s27 + s25 ≤ s17 ∧ (∃ f30 : List Value, gO σ12 x0 = some (.inr (6, f30)) ∧ f_X6_joined r c24 s25 σ12 x0 (38 : Int32) x1 v13 (fun σ22 v23 =>
      o_X6_all_5 r c_X6_compared P n b26 s27 σ22 x0 v23))))))))))) ∧
     (¬ v5 = (38 : Int32) → P σ4 x1)))))))
def o_X6_all (r : GR) (c_X6_compared : Nat → Nat → GS → Nat → (GS → Option Nat → Prop) → Prop) (bc bs : Nat) (σ : GS) (x0 : Nat) (P : GS → Option Nat → Prop) : Prop :=
    (∃ (c3 s4 : Nat), (∃ (b5 s6 : Nat), b5 + c3 ≤ bc ∧ s6 + s4 ≤ bs ∧ (∃ f9 : List Value, gO σ x0 = some (.inr (6, f9)) ∧ c_X6_compared c3 s4 σ x0 (fun σ1 v2 =>
    (∃ q_ : Nat, o_X6_all_5 r c_X6_compared P q_ b5 s6 σ1 x0 v2)))))
def o_X6_either_5 (r : GR) (c_X6_all : Nat → Nat → GS → Nat → (GS → Option Nat → Prop) → Prop) (P : GS → Option Nat → Prop) : Nat → Nat → Nat → GS → Nat → Option Nat → Prop
  | 0 => fun _ _ _ _ _ => False
  | n + 1 => fun bc bs σ x0 x1 => pI σ x0 6 1 (fun v2 => ((0 ≤ v2 → P σ x1) ∧
    (¬ 0 ≤ v2 → (∃ f6 : List Value, gO σ x0 = some (.inr (6, f6)) ∧ f_X6_here r σ x0 (fun σ4 v5 =>
     ((v5 = (124 : Int32) → pI σ4 x0 6 0 (fun v10 => pS σ4 x0 6 0 (.int (v10 + (1 : Int32))) (fun σ11 =>
      (∃ (c14 s15 : Nat), (∃ (b16 s17 : Nat), b16 + c14 ≤ bc ∧ s17 + s15 ≤ bs ∧ (∃ f20 : List Value, gO σ11 x0 = some (.inr (6, f20)) ∧ c_X6_all c14 s15 σ11 x0 (fun σ12 v13 =>
      (∃ (c24 s25 : Nat), (∃ (b26 s27 : Nat), b26 + c24 ≤ b16 ∧ s27 + s25 ≤ s17 ∧ (∃ f30 : List Value, gO σ12 x0 = some (.inr (6, f30)) ∧ f_X6_joined r c24 s25 σ12 x0 (124 : Int32) x1 v13 (fun σ22 v23 =>
      o_X6_either_5 r c_X6_all P n b26 s27 σ22 x0 v23))))))))))) ∧
     (¬ v5 = (124 : Int32) → P σ4 x1)))))))
def o_X6_either (r : GR) (c_X6_all : Nat → Nat → GS → Nat → (GS → Option Nat → Prop) → Prop) (bc bs : Nat) (σ : GS) (x0 : Nat) (P : GS → Option Nat → Prop) : Prop :=
    (∃ (c3 s4 : Nat), (∃ (b5 s6 : Nat), b5 + c3 ≤ bc ∧ s6 + s4 ≤ bs ∧ (∃ f9 : List Value, gO σ x0 = some (.inr (6, f9)) ∧ c_X6_all c3 s4 σ x0 (fun σ1 v2 =>
    (∃ q_ : Nat, o_X6_either_5 r c_X6_all P q_ b5 s6 σ1 x0 v2)))))
def e_X6_product (r : GR) (c : Nat → Nat → GS → Nat → (GS → Option Nat → Prop) → Prop) : Nat → Nat → GS → Nat → (GS → Option Nat → Prop) → Prop := fun bc bs σ x0 P => o_X6_product r c bc bs σ x0 P
def e_X6_sum (r : GR) (c : Nat → Nat → GS → Nat → (GS → Option Nat → Prop) → Prop) : Nat → Nat → GS → Nat → (GS → Option Nat → Prop) → Prop := fun bc bs σ x0 P => o_X6_sum r (e_X6_product r c) bc bs σ x0 P
def e_X6_compared (r : GR) (c : Nat → Nat → GS → Nat → (GS → Option Nat → Prop) → Prop) : Nat → Nat → GS → Nat → (GS → Option Nat → Prop) → Prop := fun bc bs σ x0 P => o_X6_compared r (e_X6_sum r c) bc bs σ x0 P
def e_X6_all (r : GR) (c : Nat → Nat → GS → Nat → (GS → Option Nat → Prop) → Prop) : Nat → Nat → GS → Nat → (GS → Option Nat → Prop) → Prop := fun bc bs σ x0 P => o_X6_all r (e_X6_compared r c) bc bs σ x0 P
def e_X6_either (r : GR) (c : Nat → Nat → GS → Nat → (GS → Option Nat → Prop) → Prop) : Nat → Nat → GS → Nat → (GS → Option Nat → Prop) → Prop := fun bc bs σ x0 P => o_X6_either r (e_X6_all r c) bc bs σ x0 P
def d_X6_operand (r : GR) : Nat → Nat → Nat → GS → Nat → (GS → Option Nat → Prop) → Prop
  | 0 => fun _ _ _ _ _ => False
  | d + 1 => fun bc bs σ x0 P => o_X6_operand r (e_X6_either r (d_X6_operand r d)) (d_X6_operand r d) bc bs σ x0 P
def f_X6_either (r : GR) (bc bs : Nat) (σ : GS) (x0 : Nat) (P : GS → Option Nat → Prop) : Prop := e_X6_either r (d_X6_operand r 8) bc bs σ x0 P
def f_X7_init (r : GR) (σ : GS) (x0 : Nat) (P : GS → Prop) : Prop :=
    P σ
def f_X6_line (r : GR) (bc bs : Nat) (σ : GS) (x0 : Nat) (P : GS → Option Nat → Prop) : Prop :=
    (∃ (b3 s4 : Nat), b3 + 1 ≤ bc ∧ s4 + 3 ≤ bs ∧ (∀ a1 : Nat, gO σ a1 = none → ∀ σ2 : GS, σ2 = sO σ a1 (some (.inr (7, [.null, .null, .null]))) → f_X7_init r σ2 a1 (fun σ7 =>
    (∃ (c11 s12 : Nat), (∃ (b13 s14 : Nat), b13 + c11 ≤ b3 ∧ s14 + s12 ≤ s4 ∧ (∃ f17 : List Value, gO σ7 x0 = some (.inr (6, f17)) ∧ f_X6_either r c11 s12 σ7 x0 (fun σ9 v10 =>
    pS σ9 a1 7 1 (va_rf v10) (fun σ19 =>
    pI σ19 x0 6 1 (fun v21 => ((0 ≤ v21 → P σ19 (some a1)) ∧
    (¬ 0 ≤ v21 → (∃ f25 : List Value, gO σ19 x0 = some (.inr (6, f25)) ∧ f_X6_here r σ19 x0 (fun σ23 v24 =>
     ((v24 = (63 : Int32) → pI σ23 x0 6 0 (fun v29 => pS σ23 x0 6 0 (.int (v29 + (1 : Int32))) (fun σ30 =>
      pQ σ30 a1 7 1 (fun v32 => pS σ30 a1 7 0 (va_rf v32) (fun σ33 =>
      (∃ (c36 s37 : Nat), (∃ (b38 s39 : Nat), b38 + c36 ≤ b13 ∧ s39 + s37 ≤ s14 ∧ (∃ f42 : List Value, gO σ33 x0 = some (.inr (6, f42)) ∧ f_X6_either r c36 s37 σ33 x0 (fun σ34 v35 =>
      pS σ34 a1 7 1 (va_rf v35) (fun σ44 =>
      P σ44 (some a1))))))))))) ∧
     (¬ v24 = (63 : Int32) → P σ23 (some a1))))))))))))))))
def f_X6_lines_49 (r : GR) (P : GS → Option Nat → Prop) (bc bs : Nat) (σ : GS) (x0 : Nat) (x1 : Option Nat) : Prop :=
    pI σ x0 6 1 (fun v2 => ((0 ≤ v2 → P σ x1) ∧
    (¬ 0 ≤ v2 → pI σ x0 6 0 (fun v5 => pV σ x0 6 3 (.ref r.2.1) ∧ (((gI σ 8) ≤ v5 → P σ x1) ∧
     (¬ (gI σ 8) ≤ v5 → pI σ x0 6 0 (fun v9 => pS σ x0 6 1 (.int v9) (fun σ10 =>
      P σ10 x1))))))))
def f_X6_lines_7 (r : GR) (P : GS → Option Nat → Prop) : Nat → Nat → Nat → GS → Nat → Option Nat → Option Nat → Prop
  | 0 => fun _ _ _ _ _ _ => False
  | n + 1 => fun bc bs σ x0 x1 x2 => pI σ x0 6 1 (fun v2 => ((0 ≤ v2 → f_X6_lines_49 r P bc bs σ x0 x1) ∧
    (¬ 0 ≤ v2 → (∃ f6 : List Value, gO σ x0 = some (.inr (6, f6)) ∧ f_X6_here r σ x0 (fun σ4 v5 =>
     ((v5 = (59 : Int32) → pI σ4 x0 6 0 (fun v10 => pS σ4 x0 6 0 (.int (v10 + (1 : Int32))) (fun σ11 =>
      (∃ (c14 s15 : Nat), (∃ (b16 s17 : Nat), b16 + c14 ≤ bc ∧ s17 + s15 ≤ bs ∧ (∃ f20 : List Value, gO σ11 x0 = some (.inr (6, f20)) ∧ f_X6_line r c14 s15 σ11 x0 (fun σ12 v13 =>
      (∃ a22 : Nat, x2 = some a22 ∧ pS σ12 a22 7 2 (va_rf v13) (fun σ24 =>
      (∃ a25 : Nat, x2 = some a25 ∧ pQ σ24 a25 7 2 (fun v28 => f_X6_lines_7 r P n b16 s17 σ24 x0 x1 v28))))))))))) ∧
     (¬ v5 = (59 : Int32) → f_X6_lines_49 r P bc bs σ4 x0 x1)))))))
def f_X6_lines (r : GR) (bc bs : Nat) (σ : GS) (x0 : Nat) (P : GS → Option Nat → Prop) : Prop :=
    (∃ (c3 s4 : Nat), (∃ (b5 s6 : Nat), b5 + c3 ≤ bc ∧ s6 + s4 ≤ bs ∧ (∃ f9 : List Value, gO σ x0 = some (.inr (6, f9)) ∧ f_X6_line r c3 s4 σ x0 (fun σ1 v2 =>
    (∃ q_ : Nat, f_X6_lines_7 r P q_ b5 s6 σ1 x0 v2 v2)))))
def f_X0_want (r : GR) (bc bs : Nat) (σ : GS) (P : GS → Int32 → Prop) : Prop :=
    (((gI σ 10) = (4 : Int32) → P σ (-3 : Int32)) ∧
    (¬ (gI σ 10) = (4 : Int32) → (∃ (b4 s5 : Nat), b4 + 1 ≤ bc ∧ s5 + 4 ≤ bs ∧ (∀ a2 : Nat, gO σ a2 = none → ∀ σ3 : GS, σ3 = sO σ a2 (some (.inr (6, [.int 0, .int 0, .int 0, .null]))) → f_X6_init r σ3 a2 (fun σ8 =>
     (∃ (c12 s13 : Nat), (∃ (b14 s15 : Nat), b14 + c12 ≤ b4 ∧ s15 + s13 ≤ s5 ∧ (∃ f18 : List Value, gO σ8 a2 = some (.inr (6, f18)) ∧ f_X6_lines r c12 s13 σ8 a2 (fun σ10 v11 =>
     (∀ σ20 : GS, σ20 = sI σ10 8 (0 : Int32) → pI σ20 a2 6 1 (fun v22 => ((v22 < 0 → vp_in (gI σ20 10) 4 ∧ (∃ a25 : Nat, v11 = some a25 ∧ (∃ f27 : List Value, gO σ20 a25 = some (.inr (7, f27)) ∧ (∀ σ29 : GS, σ29 = sQ σ20 9 (gI σ20 10).toNatClampNeg (some a25) → (∀ σ30 : GS, σ30 = sI σ29 10 ((gI σ29 10) + (1 : Int32)) → P σ30 ((gI σ30 10) - (1 : Int32))))))) ∧
     (¬ v22 < 0 → pI σ20 a2 6 1 (fun v32 => P σ20 ((-100 : Int32) - v32)))))))))))))))
def f_X1_clear_2 (r : GR) (P : GS → Prop) : Nat → GS → Nat → Int32 → Prop
  | 0 => fun _ _ _ => False
  | n + 1 => fun σ x0 x1 => pP σ x0 1 0 (fun v2 => (∃ (n3 : Nat) (f4 : Nat → Int32), pA σ r.2.2.2 v2 0 n3 f4 ∧ (((Int32.ofNat n3) ≤ x1 → P σ) ∧
    (¬ (Int32.ofNat n3) ≤ x1 → pP σ x0 1 0 (fun v8 => (∃ (n9 : Nat) (f10 : Nat → Int32), pA σ r.2.2.2 v8 0 n9 f10 ∧ vp_in x1 n9 ∧ (∀ σ13 : GS, σ13 = sO σ v8 (some (.inl (r.2.2.2 0, n9, .inl (upd f10 x1.toNatClampNeg (0 : Int32))))) → f_X1_clear_2 r P n σ13 x0 (x1 + 1))))))))
def f_X1_clear (r : GR) (σ : GS) (x0 : Nat) (P : GS → Prop) : Prop :=
    (∃ q_ : Nat, f_X1_clear_2 r P q_ σ x0 (0 : Int32))
def o_X10_value (r : GR) (c_X8_value : GS → Nat → Nat → (GS → Int32 → Prop) → Prop) (σ : GS) (x0 : Nat) (x1 : Nat) (P : GS → Int32 → Prop) : Prop :=
    pQ σ x0 9 0 (fun v2 => (∃ a3 : Nat, v2 = some a3 ∧ c_X8_value σ a3 x1 (fun σ5 v6 =>
    ((v6 = 0 → P σ5 (1 : Int32)) ∧
    (¬ v6 = 0 → P σ5 (0 : Int32))))))
def o_X11_value (r : GR) (c_X8_value : GS → Nat → Nat → (GS → Int32 → Prop) → Prop) (σ : GS) (x0 : Nat) (x1 : Nat) (P : GS → Int32 → Prop) : Prop :=
    pQ σ x0 10 0 (fun v2 => (∃ a3 : Nat, v2 = some a3 ∧ c_X8_value σ a3 x1 (fun σ5 v6 =>
    P σ5 (-v6))))
def o_X12_value (r : GR) (σ : GS) (x0 : Nat) (x1 : Nat) (P : GS → Int32 → Prop) : Prop :=
    pI σ x0 11 0 (fun v2 => P σ v2)
def f_X13_is (r : GR) (σ : GS) (x0 : Int32) (P : GS → Int32 → Prop) : Prop :=
    ((x0 = 0 → P σ (0 : Int32)) ∧
    (¬ x0 = 0 → P σ (1 : Int32)))
def o_X13_value_263 (r : GR) (c_X8_value : GS → Nat → Nat → (GS → Int32 → Prop) → Prop) (P : GS → Int32 → Prop) (σ : GS) (t0 : Int32) : Prop :=
    f_X13_is r σ t0 (fun σ1 v2 =>
    P σ1 v2)
def o_X13_value_258 (r : GR) (c_X8_value : GS → Nat → Nat → (GS → Int32 → Prop) → Prop) (P : GS → Int32 → Prop) (σ : GS) : Prop :=
    o_X13_value_263 r c_X8_value P σ (1 : Int32)
def o_X13_value_246 (r : GR) (c_X8_value : GS → Nat → Nat → (GS → Int32 → Prop) → Prop) (P : GS → Int32 → Prop) (σ : GS) (t0 : Int32) : Prop :=
    f_X13_is r σ t0 (fun σ1 v2 =>
    P σ1 v2)
def o_X13_value_245 (r : GR) (c_X8_value : GS → Nat → Nat → (GS → Int32 → Prop) → Prop) (P : GS → Int32 → Prop) (σ : GS) : Prop :=
    o_X13_value_246 r c_X8_value P σ (0 : Int32)
def o_X13_value_229 (r : GR) (c_X8_value : GS → Nat → Nat → (GS → Int32 → Prop) → Prop) (P : GS → Int32 → Prop) (σ : GS) (t0 : Int32) : Prop :=
    f_X13_is r σ t0 (fun σ1 v2 =>
    P σ1 v2)
def o_X13_value_215 (r : GR) (c_X8_value : GS → Nat → Nat → (GS → Int32 → Prop) → Prop) (P : GS → Int32 → Prop) (σ : GS) (t0 : Int32) : Prop :=
    f_X13_is r σ t0 (fun σ1 v2 =>
    P σ1 v2)
def o_X13_value_201 (r : GR) (c_X8_value : GS → Nat → Nat → (GS → Int32 → Prop) → Prop) (P : GS → Int32 → Prop) (σ : GS) (t0 : Int32) : Prop :=
    f_X13_is r σ t0 (fun σ1 v2 =>
    P σ1 v2)
def o_X13_value_183 (r : GR) (c_X8_value : GS → Nat → Nat → (GS → Int32 → Prop) → Prop) (P : GS → Int32 → Prop) (σ : GS) : Prop :=
    P σ (0 : Int32)
def o_X13_value (r : GR) (c_X8_value : GS → Nat → Nat → (GS → Int32 → Prop) → Prop) (σ : GS) (x0 : Nat) (x1 : Nat) (P : GS → Int32 → Prop) : Prop :=
    pQ σ x0 12 1 (fun v2 => (∃ a3 : Nat, v2 = some a3 ∧ c_X8_value σ a3 x1 (fun σ5 v6 =>
    pQ σ5 x0 12 2 (fun v8 => (∃ a9 : Nat, v8 = some a9 ∧ c_X8_value σ5 a9 x1 (fun σ11 v12 =>
    pI σ11 x0 12 0 (fun v14 => ((v14 = (37 : Int32) → ((v12 = 0 → o_X13_value_183 r c_X8_value P σ11 ) ∧
     (¬ v12 = 0 → ((v12 = (-1 : Int32) → o_X13_value_183 r c_X8_value P σ11 ) ∧
      (¬ v12 = (-1 : Int32) → ¬ v12 = 0 ∧ P σ11 (v6 - v6 / v12 * v12)))))) ∧
    (¬ v14 = (37 : Int32) → ((v14 = (38 : Int32) → ((v6 = 0 → o_X13_value_245 r c_X8_value P σ11 ) ∧
     (¬ v6 = 0 → ((v12 = 0 → o_X13_value_245 r c_X8_value P σ11 ) ∧
      (¬ v12 = 0 → o_X13_value_246 r c_X8_value P σ11 (1 : Int32)))))) ∧
    (¬ v14 = (38 : Int32) → ((v14 = (42 : Int32) → P σ11 (v6 * v12)) ∧
    (¬ v14 = (42 : Int32) → ((v14 = (43 : Int32) → P σ11 (v6 + v12)) ∧
    (¬ v14 = (43 : Int32) → ((v14 = (45 : Int32) → P σ11 (v6 - v12)) ∧
    (¬ v14 = (45 : Int32) → ((v14 = (47 : Int32) → ((v12 = 0 → P σ11 (0 : Int32)) ∧
     (¬ v12 = 0 → ((v12 = (-1 : Int32) → P σ11 (-v6)) ∧
      (¬ v12 = (-1 : Int32) → ¬ v12 = 0 ∧ P σ11 (v6 / v12)))))) ∧
    (¬ v14 = (47 : Int32) → ((v14 = (60 : Int32) → ((v12 ≤ v6 → o_X13_value_201 r c_X8_value P σ11 (0 : Int32)) ∧
     (¬ v12 ≤ v6 → o_X13_value_201 r c_X8_value P σ11 (1 : Int32)))) ∧
    (¬ v14 = (60 : Int32) → ((v14 = (61 : Int32) → ((v6 = v12 → o_X13_value_215 r c_X8_value P σ11 (1 : Int32)) ∧
     (¬ v6 = v12 → o_X13_value_215 r c_X8_value P σ11 (0 : Int32)))) ∧
    (¬ v14 = (61 : Int32) → ((v14 = (62 : Int32) → ((v6 ≤ v12 → o_X13_value_229 r c_X8_value P σ11 (0 : Int32)) ∧
     (¬ v6 ≤ v12 → o_X13_value_229 r c_X8_value P σ11 (1 : Int32)))) ∧
    (¬ v14 = (62 : Int32) → ((v6 = 0 → ((v12 = 0 → o_X13_value_263 r c_X8_value P σ11 (0 : Int32)) ∧
      (¬ v12 = 0 → o_X13_value_258 r c_X8_value P σ11 ))) ∧
     (¬ v6 = 0 → o_X13_value_258 r c_X8_value P σ11 )))))))))))))))))))))))))))
def o_X9_value (r : GR) (σ : GS) (x0 : Nat) (x1 : Nat) (P : GS → Int32 → Prop) : Prop :=
    pP σ x1 1 0 (fun v2 => pI σ x0 8 0 (fun v4 => (∃ (n5 : Nat) (f6 : Nat → Int32), pA σ r.2.2.2 v2 0 n5 f6 ∧ vp_in v4 n5 ∧ P σ (f6 v4.toNatClampNeg))))
def o_X8_value (r : GR) (c : GS → Nat → Nat → (GS → Int32 → Prop) → Prop) (σ : GS) (x0 x1 : Nat) (P : GS → Int32 → Prop) : Prop :=
    (∃ fs : List Value, gO σ x0 = some (.inr (8, fs)) ∧ o_X9_value r σ x0 x1 P) ∨ (∃ fs : List Value, gO σ x0 = some (.inr (9, fs)) ∧ o_X10_value r c σ x0 x1 P) ∨ (∃ fs : List Value, gO σ x0 = some (.inr (10, fs)) ∧ o_X11_value r c σ x0 x1 P) ∨ (∃ fs : List Value, gO σ x0 = some (.inr (11, fs)) ∧ o_X12_value r σ x0 x1 P) ∨ (∃ fs : List Value, gO σ x0 = some (.inr (12, fs)) ∧ o_X13_value r c σ x0 x1 P)
def d_X8_value (r : GR) : Nat → GS → Nat → Nat → (GS → Int32 → Prop) → Prop
  | 0 => fun _ _ _ _ => False
  | d + 1 => o_X8_value r (d_X8_value r d)
def f_X8_value (r : GR) (σ : GS) (x0 x1 : Nat) (P : GS → Int32 → Prop) : Prop := d_X8_value r 200 σ x0 x1 P
def f_X0_worthOf_155 (r : GR) (P : GS → Int32 → Prop) (σ : GS) (x4 : Option Nat) : Prop :=
    (∃ a1 : Nat, x4 = some a1 ∧ pQ σ a1 7 1 (fun v4 => (∃ a5 : Nat, v4 = some a5 ∧ f_X8_value r σ a5 (r.2.2.1 11) (fun σ7 v8 =>
    P σ7 (if (0 : Int32) < (if v8 < (999 : Int32) then v8 else (999 : Int32)) then (if v8 < (999 : Int32) then v8 else (999 : Int32)) else (0 : Int32))))))
def f_X0_worthOf_127 (r : GR) (P : GS → Int32 → Prop) : Nat → GS → Option Nat → Prop
  | 0 => fun _ _ => False
  | n + 1 => fun σ x4 => ((x4 = none → P σ (0 : Int32)) ∧
    (¬ x4 = none → (∃ a2 : Nat, x4 = some a2 ∧ pQ σ a2 7 0 (fun v5 => ((v5 = none → f_X0_worthOf_155 r P σ x4) ∧
     (¬ v5 = none → (∃ a7 : Nat, x4 = some a7 ∧ pQ σ a7 7 0 (fun v10 => (∃ a11 : Nat, v10 = some a11 ∧ f_X8_value r σ a11 (r.2.2.1 11) (fun σ13 v14 =>
      ((v14 = 0 → (∃ a16 : Nat, x4 = some a16 ∧ pQ σ13 a16 7 2 (fun v19 => f_X0_worthOf_127 r P n σ13 v19))) ∧
      (¬ v14 = 0 → f_X0_worthOf_155 r P σ13 x4))))))))))))
def f_X0_worthOf (r : GR) (σ : GS) (x1 : Int32) (x2 : Int32) (x3 : Int32) (P : GS → Int32 → Prop) : Prop :=
    (∃ f3 : List Value, gO σ (r.2.2.1 11) = some (.inr (1, f3)) ∧ f_X1_clear r σ (r.2.2.1 11) (fun σ1 =>
    pP σ1 (r.2.2.1 11) 1 0 (fun v6 => (∃ (n7 : Nat) (f8 : Nat → Int32), pA σ1 r.2.2.2 v6 0 n7 f8 ∧ vp_in (116 : Int32) n7 ∧ (∀ σ11 : GS, σ11 = sO σ1 v6 (some (.inl (r.2.2.2 0, n7, .inl (upd f8 (116 : Int32).toNatClampNeg x2)))) → pP σ11 (r.2.2.1 11) 1 0 (fun v13 => (∃ (n14 : Nat) (f15 : Nat → Int32), pA σ11 r.2.2.2 v13 0 n14 f15 ∧ vp_in (107 : Int32) n14 ∧ (∀ σ18 : GS, σ18 = sO σ11 v13 (some (.inl (r.2.2.2 0, n14, .inl (upd f15 (107 : Int32).toNatClampNeg x3)))) → pP σ18 (r.2.2.1 11) 1 0 (fun v20 => vp_in x2 6 ∧ (∃ a22 : Nat, gQ σ18 0 x2.toNatClampNeg = some a22 ∧ pI σ18 a22 3 2 (fun v25 => (∃ (n26 : Nat) (f27 : Nat → Int32), pA σ18 r.2.2.2 v20 0 n26 f27 ∧ vp_in (99 : Int32) n26 ∧ (∀ σ30 : GS, σ30 = sO σ18 v20 (some (.inl (r.2.2.2 0, n26, .inl (upd f27 (99 : Int32).toNatClampNeg v25)))) → pP σ30 (r.2.2.1 11) 1 0 (fun v32 => vp_in x2 6 ∧ (∃ a34 : Nat, gQ σ30 0 x2.toNatClampNeg = some a34 ∧ pI σ30 a34 3 3 (fun v37 => (∃ (n38 : Nat) (f39 : Nat → Int32), pA σ30 r.2.2.2 v32 0 n38 f39 ∧ vp_in (112 : Int32) n38 ∧ (∀ σ42 : GS, σ42 = sO σ30 v32 (some (.inl (r.2.2.2 0, n38, .inl (upd f39 (112 : Int32).toNatClampNeg v37)))) → pP σ42 (r.2.2.1 11) 1 0 (fun v44 => (∃ (n45 : Nat) (f46 : Nat → Int32), pA σ42 r.2.2.2 v44 0 n45 f46 ∧ vp_in (115 : Int32) n45 ∧ (∀ σ49 : GS, σ49 = sO σ42 v44 (some (.inl (r.2.2.2 0, n45, .inl (upd f46 (115 : Int32).toNatClampNeg x1)))) → pP σ49 (r.2.2.1 11) 1 0 (fun v51 => vp_in x1 5 ∧ (∃ a53 : Nat, gQ σ49 1 x1.toNatClampNeg = some a53 ∧ pI σ49 a53 5 1 (fun v56 => (∃ (n57 : Nat) (f58 : Nat → Int32), pA σ49 r.2.2.2 v51 0 n57 f58 ∧ vp_in (98 : Int32) n57 ∧ (∀ σ61 : GS, σ61 = sO σ49 v51 (some (.inl (r.2.2.2 0, n57, .inl (upd f58 (98 : Int32).toNatClampNeg v56)))) → pP σ61 (r.2.2.1 11) 1 0 (fun v63 => (∃ (n64 : Nat) (f65 : Nat → Int32), pA σ61 r.2.2.2 v63 0 n64 f65 ∧ vp_in (110 : Int32) n64 ∧ (∀ σ68 : GS, σ68 = sO σ61 v63 (some (.inl (r.2.2.2 0, n64, .inl (upd f65 (110 : Int32).toNatClampNeg (gI σ61 2))))) → vp_in x1 5 ∧ (∃ a70 : Nat, gQ σ68 1 x1.toNatClampNeg = some a70 ∧ pI σ68 a70 5 2 (fun v73 => vp_in v73 4 ∧ (∃ q_ : Nat, f_X0_worthOf_127 r P q_ σ68 (gQ σ68 9 v73.toNatClampNeg)))))))))))))))))))))))))))))))))
def f_X0_worth (r : GR) (σ : GS) (x1 : Int32) (x2 : Int32) (P : GS → Int32 → Prop) : Prop :=
    f_X0_isSort r σ x1 (fun σ1 v2 =>
    ((v2 = 0 → P σ1 (-1 : Int32)) ∧
    (¬ v2 = 0 → ((x2 < 0 → P σ1 (-1 : Int32)) ∧
     (¬ x2 < 0 → f_X0_isThing r σ1 (x2 / (10 : Int32)) (fun σ5 v6 =>
      ((v6 = 0 → P σ5 (-1 : Int32)) ∧
      (¬ v6 = 0 → f_X0_in r σ5 (x2 - x2 / (10 : Int32) * (10 : Int32)) (1 : Int32) (3 : Int32) (fun σ8 v9 =>
       ((v9 = 0 → P σ8 (-1 : Int32)) ∧
       (¬ v9 = 0 → f_X0_worthOf r σ8 x1 (x2 / (10 : Int32)) (x2 - x2 / (10 : Int32) * (10 : Int32)) (fun σ11 v12 =>
        P σ11 v12))))))))))))
def f_X0_basketMany (r : GR) (σ : GS) (P : GS → Int32 → Prop) : Prop :=
    P σ ((1 : Int32) <<< (((2 : Int32) * (gI σ 2)) &&& 31))
def f_X0_bestBy_129 (r : GR) (k5 : GS → Int32 → Int32 → Int32 → Int32 → Prop) (P : GS → Int32 → Prop) (σ : GS) (x1 : Int32) (x2 : Int32) (x3 : Int32) (x4 : Int32) : Prop :=
    k5 σ x1 x2 x3 (x4 + 1)
def f_X0_bestBy_119 (r : GR) (k5 : GS → Int32 → Int32 → Int32 → Int32 → Prop) (P : GS → Int32 → Prop) (σ : GS) (x1 : Int32) (x2 : Int32) (x3 : Int32) (x4 : Int32) (t0 : Int32) : Prop :=
    ((t0 ≤ 0 → f_X0_bestBy_129 r k5 P σ x1 x2 x3 x4) ∧
    (¬ t0 ≤ 0 → f_X0_bestBy_129 r k5 P σ x1 x2 x4 x4))
def f_X0_bestBy_5 (r : GR) (P : GS → Int32 → Prop) : Nat → GS → Int32 → Int32 → Int32 → Int32 → Prop
  | 0 => fun _ _ _ _ _ => False
  | n + 1 => fun σ x1 x2 x3 x4 => f_X0_basketMany r σ  (fun σ1 v2 =>
    ((v2 ≤ x4 → P σ1 x3) ∧
    (¬ v2 ≤ x4 → vp_in x4 4096 ∧ ((x1 < (gA σ1 13 x4.toNatClampNeg) → f_X0_bestBy_129 r (f_X0_bestBy_5 r P n) P σ1 x1 x2 x3 x4) ∧
     (¬ x1 < (gA σ1 13 x4.toNatClampNeg) → vp_in x4 4096 ∧ (((gA σ1 14 x4.toNatClampNeg) ≤ x2 → vp_in x4 4096 ∧ vp_in x3 4096 ∧ (((gA σ1 12 x4.toNatClampNeg) = (gA σ1 12 x3.toNatClampNeg) → vp_in x4 4096 ∧ vp_in x3 4096 ∧ (((gA σ1 13 x4.toNatClampNeg) = (gA σ1 13 x3.toNatClampNeg) → vp_in x3 4096 ∧ vp_in x4 4096 ∧ f_X0_bestBy_119 r (f_X0_bestBy_5 r P n) P σ1 x1 x2 x3 x4 ((gA σ1 14 x3.toNatClampNeg) - (gA σ1 14 x4.toNatClampNeg))) ∧
        (¬ (gA σ1 13 x4.toNatClampNeg) = (gA σ1 13 x3.toNatClampNeg) → vp_in x3 4096 ∧ vp_in x4 4096 ∧ f_X0_bestBy_119 r (f_X0_bestBy_5 r P n) P σ1 x1 x2 x3 x4 ((gA σ1 13 x3.toNatClampNeg) - (gA σ1 13 x4.toNatClampNeg))))) ∧
       (¬ (gA σ1 12 x4.toNatClampNeg) = (gA σ1 12 x3.toNatClampNeg) → vp_in x4 4096 ∧ vp_in x3 4096 ∧ f_X0_bestBy_119 r (f_X0_bestBy_5 r P n) P σ1 x1 x2 x3 x4 ((gA σ1 12 x4.toNatClampNeg) - (gA σ1 12 x3.toNatClampNeg))))) ∧
      (¬ (gA σ1 14 x4.toNatClampNeg) ≤ x2 → f_X0_bestBy_129 r (f_X0_bestBy_5 r P n) P σ1 x1 x2 x3 x4)))))))
def f_X0_bestBy (r : GR) (σ : GS) (x1 : Int32) (x2 : Int32) (P : GS → Int32 → Prop) : Prop :=
    (∃ q_ : Nat, f_X0_bestBy_5 r P q_ σ x1 x2 (0 : Int32) (1 : Int32))
def f_X0_inBasket (r : GR) (σ : GS) (x1 : Int32) (x2 : Int32) (P : GS → Int32 → Prop) : Prop :=
    P σ ((x1 >>> (((2 : Int32) * (((gI σ 2) - (1 : Int32)) - x2)) &&& 31)) &&& (3 : Int32))
def f_X0_look_101 (r : GR) (k70 : GS → Int32 → Prop) (P : GS → Prop) : Nat → GS → Int32 → Int32 → Prop
  | 0 => fun _ _ _ => False
  | n + 1 => fun σ x2 x3 => (((gI σ 2) ≤ x3 → k70 σ (x2 + 1)) ∧
    (¬ (gI σ 2) ≤ x3 → f_X0_inBasket r σ x2 x3 (fun σ2 v3 =>
     vp_in x2 4096 ∧ vp_in (((4 : Int32) * x3) + v3) 24 ∧ vp_in x2 4096 ∧ (∀ σ7 : GS, σ7 = sA σ2 12 x2.toNatClampNeg ((gA σ2 12 x2.toNatClampNeg) + (gA σ2 15 (((4 : Int32) * x3) + v3).toNatClampNeg)) → vp_in x2 4096 ∧ vp_in x3 6 ∧ (∃ a10 : Nat, gQ σ7 0 x3.toNatClampNeg = some a10 ∧ pI σ7 a10 3 2 (fun v13 => vp_in x2 4096 ∧ (∀ σ15 : GS, σ15 = sA σ7 13 x2.toNatClampNeg ((gA σ7 13 x2.toNatClampNeg) + (v3 * v13)) → vp_in x2 4096 ∧ vp_in x3 6 ∧ (∃ a18 : Nat, gQ σ15 0 x3.toNatClampNeg = some a18 ∧ pI σ15 a18 3 3 (fun v21 => vp_in x2 4096 ∧ (∀ σ23 : GS, σ23 = sA σ15 14 x2.toNatClampNeg ((gA σ15 14 x2.toNatClampNeg) + (v3 * v21)) → f_X0_look_101 r k70 P n σ23 x2 (x3 + 1)))))))))))
def f_X0_look_70 (r : GR) (P : GS → Prop) : Nat → GS → Int32 → Prop
  | 0 => fun _ _ => False
  | n + 1 => fun σ x2 => f_X0_basketMany r σ  (fun σ1 v2 =>
    ((v2 ≤ x2 → P σ1) ∧
    (¬ v2 ≤ x2 → vp_in x2 4096 ∧ (∀ σ5 : GS, σ5 = sA σ1 12 x2.toNatClampNeg (0 : Int32) → vp_in x2 4096 ∧ (∀ σ7 : GS, σ7 = sA σ5 13 x2.toNatClampNeg (0 : Int32) → vp_in x2 4096 ∧ (∀ σ9 : GS, σ9 = sA σ7 14 x2.toNatClampNeg (0 : Int32) → (∃ q_ : Nat, f_X0_look_101 r (f_X0_look_70 r P n) P q_ σ9 x2 (0 : Int32))))))))
def f_X0_look_21 (r : GR) (k2 : GS → Int32 → Int32 → Prop) (P : GS → Prop) : Nat → GS → Int32 → Int32 → Int32 → Prop
  | 0 => fun _ _ _ _ => False
  | n + 1 => fun σ x1 x2 x3 => (((3 : Int32) < x3 → k2 σ x1 (x2 + 1)) ∧
    (¬ (3 : Int32) < x3 → vp_in ((((4 : Int32) * x2) + x3) - (1 : Int32)) 24 ∧ f_X0_worthOf r σ x1 x2 x3 (fun σ3 v4 =>
     vp_in (((4 : Int32) * x2) + x3) 24 ∧ (∀ σ6 : GS, σ6 = sA σ3 15 (((4 : Int32) * x2) + x3).toNatClampNeg ((gA σ 15 ((((4 : Int32) * x2) + x3) - (1 : Int32)).toNatClampNeg) + v4) → f_X0_look_21 r k2 P n σ6 x1 x2 (x3 + 1)))))
def f_X0_look_2 (r : GR) (P : GS → Prop) : Nat → GS → Int32 → Int32 → Prop
  | 0 => fun _ _ _ => False
  | n + 1 => fun σ x1 x2 => (((gI σ 2) ≤ x2 → (∃ q_ : Nat, f_X0_look_70 r P q_ σ (0 : Int32))) ∧
    (¬ (gI σ 2) ≤ x2 → vp_in ((4 : Int32) * x2) 24 ∧ (∀ σ3 : GS, σ3 = sA σ 15 ((4 : Int32) * x2).toNatClampNeg (0 : Int32) → (∃ q_ : Nat, f_X0_look_21 r (f_X0_look_2 r P n) P q_ σ3 x1 x2 (1 : Int32)))))
def f_X0_look (r : GR) (σ : GS) (x1 : Int32) (P : GS → Prop) : Prop :=
    (∃ q_ : Nat, f_X0_look_2 r P q_ σ x1 (0 : Int32))
def f_X0_bestOf (r : GR) (σ : GS) (x1 : Int32) (P : GS → Int32 → Prop) : Prop :=
    f_X0_look r σ x1 (fun σ1 =>
    vp_in x1 5 ∧ (∃ a4 : Nat, gQ σ1 1 x1.toNatClampNeg = some a4 ∧ pI σ1 a4 5 3 (fun v7 => vp_in x1 5 ∧ (∃ a9 : Nat, gQ σ1 1 x1.toNatClampNeg = some a9 ∧ (∃ f13 : List Value, gO σ1 a9 = some (.inr (5, f13)) ∧ f_X5_points r σ1 a9 (fun σ11 v12 =>
    f_X0_bestBy r σ11 v7 v12 (fun σ15 v16 =>
    P σ15 v16)))))))
def f_X0_digits_4 (r : GR) (P : GS → Int32 → Prop) : Nat → GS → Int32 → Int32 → Int32 → Prop
  | 0 => fun _ _ _ _ => False
  | n + 1 => fun σ x1 x2 x3 => (((gI σ 2) ≤ x3 → P σ x2) ∧
    (¬ (gI σ 2) ≤ x3 → f_X0_inBasket r σ x1 x3 (fun σ2 v3 =>
     f_X0_digits_4 r P n σ2 x1 (((10 : Int32) * x2) + v3) (x3 + 1))))
def f_X0_digits (r : GR) (σ : GS) (x1 : Int32) (P : GS → Int32 → Prop) : Prop :=
    (∃ q_ : Nat, f_X0_digits_4 r P q_ σ x1 (0 : Int32) (0 : Int32))
def f_X0_basket (r : GR) (σ : GS) (x1 : Int32) (x2 : Int32) (P : GS → Int32 → Prop) : Prop :=
    f_X0_isSort r σ x1 (fun σ1 v2 =>
    ((v2 = 0 → P σ1 (-1 : Int32)) ∧
    (¬ v2 = 0 → f_X0_in r σ1 x2 (0 : Int32) (3 : Int32) (fun σ4 v5 =>
     ((v5 = 0 → P σ4 (-1 : Int32)) ∧
     (¬ v5 = 0 → f_X0_bestOf r σ4 x1 (fun σ7 v8 =>
      ((x2 = 0 → f_X0_digits r σ7 v8 (fun σ15 v16 =>
       P σ15 v16)) ∧
      (¬ x2 = 0 → ((x2 = (1 : Int32) → vp_in v8 4096 ∧ P σ7 (gA σ7 12 v8.toNatClampNeg)) ∧
       (¬ x2 = (1 : Int32) → ((x2 = (2 : Int32) → vp_in v8 4096 ∧ P σ7 (gA σ7 13 v8.toNatClampNeg)) ∧
        (¬ x2 = (2 : Int32) → vp_in v8 4096 ∧ P σ7 (gA σ7 14 v8.toNatClampNeg))))))))))))))
def f_X0_over (r : GR) (σ : GS) (x1 : Int32) (P : GS → Int32 → Prop) : Prop :=
    vp_in x1 6 ∧ (∃ a2 : Nat, gQ σ 0 x1.toNatClampNeg = some a2 ∧ pI σ a2 3 1 (fun v5 => vp_in x1 6 ∧ P σ (v5 - (gA σ 16 x1.toNatClampNeg))))
def f_X0_both_4 (r : GR) (P : GS → Int32 → Prop) : Nat → GS → Int32 → Int32 → Prop
  | 0 => fun _ _ _ => False
  | n + 1 => fun σ x1 x2 => (((gI σ 2) ≤ x2 → P σ x1) ∧
    (¬ (gI σ 2) ≤ x2 → f_X0_over r σ x2 (fun σ2 v3 =>
     f_X0_both_4 r P n σ2 (x1 + (if 0 ≤ v3 then v3 else 0 - v3)) (x2 + 1))))
def f_X0_both (r : GR) (σ : GS) (P : GS → Int32 → Prop) : Prop :=
    (∃ q_ : Nat, f_X0_both_4 r P q_ σ (0 : Int32) (0 : Int32))
def f_X0_findWanted_41 (r : GR) (k25 : GS → Int32 → Prop) (P : GS → Prop) : Nat → GS → Int32 → Int32 → Int32 → Prop
  | 0 => fun _ _ _ _ => False
  | n + 1 => fun σ x1 x2 x3 => (((gI σ 2) ≤ x3 → k25 σ (x1 + 1)) ∧
    (¬ (gI σ 2) ≤ x3 → vp_in x3 6 ∧ vp_in x1 5 ∧ (∃ a4 : Nat, gQ σ 1 x1.toNatClampNeg = some a4 ∧ pI σ a4 5 0 (fun v7 => f_X0_inBasket r σ x2 x3 (fun σ8 v9 =>
     vp_in x3 6 ∧ (∀ σ11 : GS, σ11 = sA σ8 16 x3.toNatClampNeg ((gA σ 16 x3.toNatClampNeg) + (v7 * v9)) → f_X0_findWanted_41 r k25 P n σ11 x1 x2 (x3 + 1)))))))
def f_X0_findWanted_25 (r : GR) (P : GS → Prop) : Nat → GS → Int32 → Prop
  | 0 => fun _ _ => False
  | n + 1 => fun σ x1 => (((gI σ 3) ≤ x1 → P σ) ∧
    (¬ (gI σ 3) ≤ x1 → f_X0_bestOf r σ x1 (fun σ2 v3 =>
     (∃ q_ : Nat, f_X0_findWanted_41 r (f_X0_findWanted_25 r P n) P q_ σ2 x1 v3 (0 : Int32)))))
def f_X0_findWanted_2 (r : GR) (P : GS → Prop) : Nat → GS → Int32 → Prop
  | 0 => fun _ _ => False
  | n + 1 => fun σ x1 => (((gI σ 2) ≤ x1 → (∃ q_ : Nat, f_X0_findWanted_25 r P q_ σ (0 : Int32))) ∧
    (¬ (gI σ 2) ≤ x1 → vp_in x1 6 ∧ (∀ σ3 : GS, σ3 = sA σ 16 x1.toNatClampNeg (0 : Int32) → f_X0_findWanted_2 r P n σ3 (x1 + 1))))
def f_X0_findWanted (r : GR) (σ : GS) (P : GS → Prop) : Prop :=
    (∃ q_ : Nat, f_X0_findWanted_2 r P q_ σ (0 : Int32))
def f_X0_wanted_35 (r : GR) (P : GS → Int32 → Prop) (σ : GS) (x1 : Int32) (x2 : Int32) : Prop :=
    f_X0_findWanted r σ  (fun σ1 =>
    ((0 ≤ x1 → ((x2 = 0 → vp_in x1 6 ∧ P σ1 (gA σ1 16 x1.toNatClampNeg)) ∧
     (¬ x2 = 0 → f_X0_over r σ1 x1 (fun σ5 v6 =>
      P σ5 v6)))) ∧
    (¬ 0 ≤ x1 → f_X0_both r σ1  (fun σ8 v9 =>
     P σ8 v9))))
def f_X0_wanted_13 (r : GR) (P : GS → Int32 → Prop) (σ : GS) (x1 : Int32) (x2 : Int32) : Prop :=
    f_X0_in r σ x2 (0 : Int32) (1 : Int32) (fun σ1 v2 =>
    ((v2 = 0 → P σ1 (-2000000000 : Int32)) ∧
    (¬ v2 = 0 → ((x1 = (-1 : Int32) → ((x2 = 0 → P σ1 (-2000000000 : Int32)) ∧
      (¬ x2 = 0 → f_X0_wanted_35 r P σ1 x1 x2))) ∧
     (¬ x1 = (-1 : Int32) → f_X0_wanted_35 r P σ1 x1 x2)))))
def f_X0_wanted (r : GR) (σ : GS) (x1 : Int32) (x2 : Int32) (P : GS → Int32 → Prop) : Prop :=
    ((x1 = (-1 : Int32) → f_X0_wanted_13 r P σ x1 x2) ∧
    (¬ x1 = (-1 : Int32) → f_X0_isThing r σ x1 (fun σ2 v3 =>
     ((v3 = 0 → P σ2 (-2000000000 : Int32)) ∧
     (¬ v3 = 0 → f_X0_wanted_13 r P σ2 x1 x2)))))
def f_X0_led (r : GR) (σ : GS) (x1 : Int32) (x2 : Int32) (P : GS → Int32 → Prop) : Prop :=
    f_X0_isThing r σ x1 (fun σ1 v2 =>
    ((v2 = 0 → P σ1 (-1 : Int32)) ∧
    (¬ v2 = 0 → f_X0_isSort r σ1 x2 (fun σ4 v5 =>
     ((v5 = 0 → P σ4 (-1 : Int32)) ∧
     (¬ v5 = 0 → vp_in x2 5 ∧ (∃ a8 : Nat, gQ σ4 1 x2.toNatClampNeg = some a8 ∧ pI σ4 a8 5 0 (fun v11 => f_X0_bestOf r σ4 x2 (fun σ12 v13 =>
      f_X0_inBasket r σ12 v13 x1 (fun σ14 v15 =>
      P σ14 (v11 * v15)))))))))))
def f_X0_step_89 (r : GR) (k4 : GS → Int32 → Int32 → Prop) (P : GS → Int32 → Prop) (σ : GS) (x2 : Int32) (t1 : Int32) (t0 : Int32) : Prop :=
    k4 σ (t0 ||| t1) (x2 + 1)
def f_X0_step_63 (r : GR) (k4 : GS → Int32 → Int32 → Prop) (P : GS → Int32 → Prop) (σ : GS) (x1 : Int32) (x2 : Int32) (t0 : Int32) : Prop :=
    vp_in x2 6 ∧ (∃ a2 : Nat, gQ σ 0 x2.toNatClampNeg = some a2 ∧ pI σ a2 3 3 (fun v5 => pS σ a2 3 3 (.int (v5 + t0)) (fun σ6 =>
    ((t0 = 0 → f_X0_step_89 r k4 P σ6 x2 (0 : Int32) x1) ∧
    (¬ t0 = 0 → f_X0_step_89 r k4 P σ6 x2 (1 : Int32) x1)))))
def f_X0_step_62 (r : GR) (k4 : GS → Int32 → Int32 → Prop) (P : GS → Int32 → Prop) (σ : GS) (x1 : Int32) (x2 : Int32) : Prop :=
    f_X0_step_63 r k4 P σ x1 x2 (0 : Int32)
def f_X0_step_38 (r : GR) (k4 : GS → Int32 → Int32 → Prop) (P : GS → Int32 → Prop) (σ : GS) (x1 : Int32) (x2 : Int32) : Prop :=
    f_X0_over r σ x2 (fun σ1 v2 =>
    ((v2 ≤ 0 → f_X0_step_62 r k4 P σ1 x1 x2) ∧
    (¬ v2 ≤ 0 → vp_in x2 6 ∧ (∃ a5 : Nat, gQ σ1 0 x2.toNatClampNeg = some a5 ∧ pI σ1 a5 3 3 (fun v8 => ((v8 ≤ 0 → f_X0_step_62 r k4 P σ1 x1 x2) ∧
     (¬ v8 ≤ 0 → f_X0_step_63 r k4 P σ1 x1 x2 (-1 : Int32))))))))
def f_X0_step_4 (r : GR) (P : GS → Int32 → Prop) : Nat → GS → Int32 → Int32 → Prop
  | 0 => fun _ _ _ => False
  | n + 1 => fun σ x1 x2 => (((gI σ 2) ≤ x2 → gZ x1 ∧ P σ x1) ∧
    (¬ (gI σ 2) ≤ x2 → f_X0_over r σ x2 (fun σ3 v4 =>
     ((0 ≤ v4 → f_X0_step_38 r (f_X0_step_4 r P n) P σ3 x1 x2) ∧
     (¬ 0 ≤ v4 → vp_in x2 6 ∧ (∃ a7 : Nat, gQ σ3 0 x2.toNatClampNeg = some a7 ∧ pI σ3 a7 3 3 (fun v10 => (((99 : Int32) ≤ v10 → f_X0_step_38 r (f_X0_step_4 r P n) P σ3 x1 x2) ∧
      (¬ (99 : Int32) ≤ v10 → f_X0_step_63 r (f_X0_step_4 r P n) P σ3 x1 x2 (1 : Int32))))))))))
def f_X0_step (r : GR) (σ : GS) (P : GS → Int32 → Prop) : Prop :=
    (∃ q_ : Nat, f_X0_step_4 r P q_ σ (0 : Int32) (0 : Int32))
def f_X0_takePoints_18_2 (r : GR) (P : GS → Prop) : Nat → GS → Int32 → Prop
  | 0 => fun _ _ => False
  | n + 1 => fun σ x2 => (((gI σ 2) ≤ x2 → P σ) ∧
    (¬ (gI σ 2) ≤ x2 → vp_in x2 6 ∧ (∃ a3 : Nat, gQ σ 0 x2.toNatClampNeg = some a3 ∧ pI σ a3 3 3 (fun v6 => vp_in x2 6 ∧ (∀ σ8 : GS, σ8 = sA σ 18 x2.toNatClampNeg v6 → f_X0_takePoints_18_2 r P n σ8 (x2 + 1))))))
def f_X0_takePoints_18 (r : GR) (σ : GS) (P : GS → Prop) : Prop :=
    (∃ q_ : Nat, f_X0_takePoints_18_2 r P q_ σ (0 : Int32))
def f_X0_takePoints_19_2 (r : GR) (P : GS → Prop) : Nat → GS → Int32 → Prop
  | 0 => fun _ _ => False
  | n + 1 => fun σ x2 => (((gI σ 2) ≤ x2 → P σ) ∧
    (¬ (gI σ 2) ≤ x2 → vp_in x2 6 ∧ (∃ a3 : Nat, gQ σ 0 x2.toNatClampNeg = some a3 ∧ pI σ a3 3 3 (fun v6 => vp_in x2 6 ∧ (∀ σ8 : GS, σ8 = sA σ 19 x2.toNatClampNeg v6 → f_X0_takePoints_19_2 r P n σ8 (x2 + 1))))))
def f_X0_takePoints_19 (r : GR) (σ : GS) (P : GS → Prop) : Prop :=
    (∃ q_ : Nat, f_X0_takePoints_19_2 r P q_ σ (0 : Int32))
def f_X0_goRounds_143 (r : GR) (P : GS → Prop) : Nat → GS → Int32 → Prop
  | 0 => fun _ _ => False
  | n + 1 => fun σ x2 => (((gI σ 2) ≤ x2 → P σ) ∧
    (¬ (gI σ 2) ≤ x2 → vp_in x2 6 ∧ (∃ a3 : Nat, gQ σ 0 x2.toNatClampNeg = some a3 ∧ vp_in x2 6 ∧ pS σ a3 3 3 (.int (gA σ 17 x2.toNatClampNeg)) (fun σ6 =>
     f_X0_goRounds_143 r P n σ6 (x2 + 1)))))
def f_X0_goRounds_125 (r : GR) (P : GS → Prop) (σ : GS) : Prop :=
    f_X0_both r σ  (fun σ1 v2 =>
    (∀ σ3 : GS, σ3 = sI σ1 21 v2 → f_X0_takePoints_19 r σ3  (fun σ4 =>
    (∃ q_ : Nat, f_X0_goRounds_143 r P q_ σ4 (0 : Int32)))))
def f_X0_goRounds_119 (r : GR) (k63 : GS → Int32 → Int32 → Prop) (P : GS → Prop) (σ : GS) (x1 : Int32) (x2 : Int32) : Prop :=
    k63 σ x1 (x2 + 1)
def f_X0_goRounds_63 (r : GR) (P : GS → Prop) : Nat → GS → Int32 → Int32 → Prop
  | 0 => fun _ _ _ => False
  | n + 1 => fun σ x1 x2 => ((x1 < x2 → f_X0_goRounds_125 r P σ ) ∧
    (¬ x1 < x2 → f_X0_step r σ  (fun σ2 v3 =>
     ((v3 = 0 → f_X0_goRounds_125 r P σ2 ) ∧
     (¬ v3 = 0 → (∀ σ5 : GS, σ5 = sI σ2 20 x2 → f_X0_findWanted r σ5  (fun σ6 =>
      f_X0_both r σ6  (fun σ8 v9 =>
      ((v9 < (gI σ8 22) → f_X0_both r σ8  (fun σ11 v12 =>
       (∀ σ13 : GS, σ13 = sI σ11 22 v12 → (∀ σ14 : GS, σ14 = sI σ13 23 x2 → f_X0_takePoints_18 r σ14  (fun σ15 =>
       f_X0_goRounds_119 r (f_X0_goRounds_63 r P n) P σ15 x1 x2))))) ∧
      (¬ v9 < (gI σ8 22) → f_X0_goRounds_119 r (f_X0_goRounds_63 r P n) P σ8 x1 x2))))))))))
def f_X0_goRounds_2 (r : GR) (P : GS → Prop) : Nat → GS → Int32 → Int32 → Prop
  | 0 => fun _ _ _ => False
  | n + 1 => fun σ x1 x2 => (((gI σ 2) ≤ x2 → f_X0_findWanted r σ  (fun σ2 =>
     (∀ σ4 : GS, σ4 = sI σ2 20 (0 : Int32) → f_X0_both r σ4  (fun σ5 v6 =>
     (∀ σ7 : GS, σ7 = sI σ5 22 v6 → (∀ σ8 : GS, σ8 = sI σ7 23 (0 : Int32) → f_X0_takePoints_18 r σ8  (fun σ9 =>
     (∃ q_ : Nat, f_X0_goRounds_63 r P q_ σ9 x1 (1 : Int32))))))))) ∧
    (¬ (gI σ 2) ≤ x2 → vp_in x2 6 ∧ (∃ a12 : Nat, gQ σ 0 x2.toNatClampNeg = some a12 ∧ pI σ a12 3 3 (fun v15 => vp_in x2 6 ∧ (∀ σ17 : GS, σ17 = sA σ 17 x2.toNatClampNeg v15 → f_X0_goRounds_2 r P n σ17 x1 (x2 + 1))))))
def f_X0_goRounds (r : GR) (σ : GS) (x1 : Int32) (P : GS → Prop) : Prop :=
    (∃ q_ : Nat, f_X0_goRounds_2 r P q_ σ x1 (0 : Int32))
def f_X0_found_30 (r : GR) (P : GS → Int32 → Prop) (σ : GS) (x1 : Int32) (x2 : Int32) : Prop :=
    f_X0_goRounds r σ x1 (fun σ1 =>
    ((x2 = (-4 : Int32) → P σ1 (gI σ1 23)) ∧
    (¬ x2 = (-4 : Int32) → ((x2 = (-3 : Int32) → P σ1 (gI σ1 22)) ∧
    (¬ x2 = (-3 : Int32) → ((x2 = (-2 : Int32) → P σ1 (gI σ1 21)) ∧
    (¬ x2 = (-2 : Int32) → ((x2 = (-1 : Int32) → P σ1 (gI σ1 20)) ∧
    (¬ x2 = (-1 : Int32) → vp_in x2 6 ∧ P σ1 (gA σ1 19 x2.toNatClampNeg))))))))))
def f_X0_found (r : GR) (σ : GS) (x1 : Int32) (x2 : Int32) (P : GS → Int32 → Prop) : Prop :=
    f_X0_in r σ x1 (1 : Int32) (60 : Int32) (fun σ1 v2 =>
    ((v2 = 0 → P σ1 (-1 : Int32)) ∧
    (¬ v2 = 0 → ((x2 < (-4 : Int32) → P σ1 (-1 : Int32)) ∧
     (¬ x2 < (-4 : Int32) → ((x2 < 0 → f_X0_found_30 r P σ1 x1 x2) ∧
      (¬ x2 < 0 → f_X0_isThing r σ1 x2 (fun σ6 v7 =>
       ((v7 = 0 → P σ6 (-1 : Int32)) ∧
       (¬ v7 = 0 → f_X0_found_30 r P σ6 x1 x2))))))))))
def f_X0_set_19 (r : GR) (P : GS → Int32 → Prop) : Nat → Nat → Nat → GS → Int32 → Prop
  | 0 => fun _ _ _ _ => False
  | n + 1 => fun bc bs σ x2 => (((gI σ 2) ≤ x2 → P σ (gI σ 22)) ∧
    (¬ (gI σ 2) ≤ x2 → vp_in x2 6 ∧ (∃ (c5 s6 : Nat), (∃ (b7 s8 : Nat), b7 + c5 ≤ bc ∧ s8 + s6 ≤ bs ∧ f_X0_become r c5 s6 σ (2 : Int32) x2 (gA σ 18 x2.toNatClampNeg) (fun σ3 v4 =>
     f_X0_set_19 r P n b7 s8 σ3 (x2 + 1))))))
def f_X0_set (r : GR) (bc bs : Nat) (σ : GS) (x1 : Int32) (P : GS → Int32 → Prop) : Prop :=
    f_X0_in r σ x1 (1 : Int32) (60 : Int32) (fun σ1 v2 =>
    ((v2 = 0 → P σ1 (-1 : Int32)) ∧
    (¬ v2 = 0 → f_X0_goRounds r σ1 x1 (fun σ4 =>
     (∃ q_ : Nat, f_X0_set_19 r P q_ bc bs σ4 (0 : Int32))))))
def f_X0_toldBasket_12 (r : GR) (P : GS → Int32 → Prop) : Nat → GS → Int32 → Int32 → Int32 → Prop
  | 0 => fun _ _ _ _ => False
  | n + 1 => fun σ x2 x3 x4 => ((x4 < 0 → ((x2 = 0 → P σ x3) ∧
     (¬ x2 = 0 → P σ (-1 : Int32)))) ∧
    (¬ x4 < 0 → (((x2 - x2 / (10 : Int32) * (10 : Int32)) ≤ (3 : Int32) → (∀ z4 : Int32, z4 = x3 ||| ((x2 - x2 / (10 : Int32) * (10 : Int32)) <<< (((2 : Int32) * (((gI σ 2) - (1 : Int32)) - x4)) &&& 31)) → f_X0_toldBasket_12 r P n σ (x2 / (10 : Int32)) z4 (x4 + (-1)))) ∧
     (¬ (x2 - x2 / (10 : Int32) * (10 : Int32)) ≤ (3 : Int32) → P σ (-1 : Int32)))))
def f_X0_toldBasket (r : GR) (σ : GS) (x1 : Int32) (P : GS → Int32 → Prop) : Prop :=
    (∃ q_ : Nat, f_X0_toldBasket_12 r P q_ σ x1 (0 : Int32) ((gI σ 2) - (1 : Int32)))
def f_X0_tell (r : GR) (σ : GS) (x1 : Int32) (x2 : Int32) (P : GS → Int32 → Prop) : Prop :=
    f_X0_isSort r σ x1 (fun σ1 v2 =>
    ((v2 = 0 → P σ1 (-1 : Int32)) ∧
    (¬ v2 = 0 → ((x2 < 0 → P σ1 (-1 : Int32)) ∧
     (¬ x2 < 0 → f_X0_toldBasket r σ1 x2 (fun σ5 v6 =>
      ((0 ≤ v6 → vp_in x1 5 ∧ (∃ a9 : Nat, gQ σ5 1 x1.toNatClampNeg = some a9 ∧ pI σ5 a9 5 5 (fun v12 => vp_in x1 5 ∧ (∃ a14 : Nat, gQ σ5 1 x1.toNatClampNeg = some a14 ∧ pS σ5 a14 5 5 (.int x2) (fun σ16 =>
       P σ16 v12))))) ∧
      (¬ 0 ≤ v6 → P σ5 (-1 : Int32)))))))))
def f_X0_judge_111 (r : GR) (k99 : GS → Int32 → Prop) (P : GS → Int32 → Prop) : Nat → GS → Int32 → Int32 → Int32 → Prop
  | 0 => fun _ _ _ _ => False
  | n + 1 => fun σ x1 x2 x3 => (((gI σ 3) ≤ x3 → vp_in x1 6 ∧ (∃ a3 : Nat, gQ σ 0 x1.toNatClampNeg = some a3 ∧ pI σ a3 3 1 (fun v6 => ((x2 ≤ v6 → k99 σ (x1 + 1)) ∧
     (¬ x2 ≤ v6 → P σ ((30 : Int32) + x1)))))) ∧
    (¬ (gI σ 3) ≤ x3 → vp_in x3 5 ∧ (∃ a9 : Nat, gQ σ 1 x3.toNatClampNeg = some a9 ∧ pI σ a9 5 0 (fun v12 => vp_in x3 5 ∧ (∃ a14 : Nat, gQ σ 1 x3.toNatClampNeg = some a14 ∧ pI σ a14 5 5 (fun v17 => f_X0_toldBasket r σ v17 (fun σ18 v19 =>
     f_X0_inBasket r σ18 v19 x1 (fun σ20 v21 =>
     f_X0_judge_111 r k99 P n σ20 x1 (x2 + (v12 * v21)) (x3 + 1)))))))))
def f_X0_judge_99 (r : GR) (P : GS → Int32 → Prop) : Nat → GS → Int32 → Prop
  | 0 => fun _ _ => False
  | n + 1 => fun σ x1 => (((gI σ 2) ≤ x1 → P σ (-2 : Int32)) ∧
    (¬ (gI σ 2) ≤ x1 → (∃ q_ : Nat, f_X0_judge_111 r (f_X0_judge_99 r P n) P q_ σ x1 (0 : Int32) (0 : Int32))))
def f_X0_judge_66 (r : GR) (P : GS → Int32 → Prop) (σ : GS) (x1 : Int32) : Prop :=
    P σ ((10 : Int32) + x1)
def f_X0_judge_2 (r : GR) (P : GS → Int32 → Prop) : Nat → GS → Int32 → Prop
  | 0 => fun _ _ => False
  | n + 1 => fun σ x1 => (((gI σ 3) ≤ x1 → (∃ q_ : Nat, f_X0_judge_99 r P q_ σ (0 : Int32))) ∧
    (¬ (gI σ 3) ≤ x1 → f_X0_bestOf r σ x1 (fun σ2 v3 =>
     vp_in x1 5 ∧ (∃ a5 : Nat, gQ σ2 1 x1.toNatClampNeg = some a5 ∧ pI σ2 a5 5 5 (fun v8 => f_X0_toldBasket r σ2 v8 (fun σ9 v10 =>
     vp_in v10 4096 ∧ vp_in x1 5 ∧ (∃ a13 : Nat, gQ σ9 1 x1.toNatClampNeg = some a13 ∧ pI σ9 a13 5 3 (fun v16 => ((v16 < (gA σ9 13 v10.toNatClampNeg) → f_X0_judge_66 r P σ9 x1) ∧
     (¬ v16 < (gA σ9 13 v10.toNatClampNeg) → vp_in v10 4096 ∧ vp_in x1 5 ∧ (∃ a20 : Nat, gQ σ9 1 x1.toNatClampNeg = some a20 ∧ (∃ f24 : List Value, gO σ9 a20 = some (.inr (5, f24)) ∧ f_X5_points r σ9 a20 (fun σ22 v23 =>
      (((gA σ9 14 v10.toNatClampNeg) ≤ v23 → vp_in v10 4096 ∧ vp_in v3 4096 ∧ (((gA σ22 12 v3.toNatClampNeg) ≤ (gA σ22 12 v10.toNatClampNeg) → f_X0_judge_2 r P n σ22 (x1 + 1)) ∧
       (¬ (gA σ22 12 v3.toNatClampNeg) ≤ (gA σ22 12 v10.toNatClampNeg) → P σ22 ((20 : Int32) + x1)))) ∧
      (¬ (gA σ9 14 v10.toNatClampNeg) ≤ v23 → f_X0_judge_66 r P σ22 x1)))))))))))))))
def f_X0_judge (r : GR) (σ : GS) (P : GS → Int32 → Prop) : Prop :=
    (∃ q_ : Nat, f_X0_judge_2 r P q_ σ (0 : Int32))
def f_X0_bestChanged_142 (r : GR) (k8 : GS → Nat → Int32 → Int32 → Int32 → Int32 → Prop) (P : GS → Int32 → Prop) (σ : GS) (x1 : Nat) (x2 : Int32) (x3 : Int32) (x4 : Int32) (x5 : Int32) : Prop :=
    k8 σ x1 x2 x3 x4 (x5 + 1)
def f_X0_bestChanged_125 (r : GR) (k8 : GS → Nat → Int32 → Int32 → Int32 → Int32 → Prop) (P : GS → Int32 → Prop) (σ : GS) (x1 : Nat) (x2 : Int32) (x3 : Int32) (x4 : Int32) (x5 : Int32) (x6 : Int32) (t0 : Int32) : Prop :=
    ((0 < t0 → f_X0_bestChanged_142 r k8 P σ x1 x2 x5 x6 x5) ∧
    (¬ 0 < t0 → f_X0_bestChanged_142 r k8 P σ x1 x2 x3 x4 x5))
def f_X0_bestChanged_8 (r : GR) (P : GS → Int32 → Prop) : Nat → GS → Nat → Int32 → Int32 → Int32 → Int32 → Prop
  | 0 => fun _ _ _ _ _ _ => False
  | n + 1 => fun σ x1 x2 x3 x4 x5 => f_X0_basketMany r σ  (fun σ1 v2 =>
    ((v2 ≤ x5 → P σ1 x3) ∧
    (¬ v2 ≤ x5 → vp_in x5 4096 ∧ vp_in x5 4096 ∧ (∀ z6 : Int32, z6 = (gA σ1 13 x5.toNatClampNeg) + (x2 * (gA σ1 14 x5.toNatClampNeg)) → pI σ1 x1 5 3 (fun v8 => (∃ f11 : List Value, gO σ1 x1 = some (.inr (5, f11)) ∧ f_X5_points r σ1 x1 (fun σ9 v10 =>
     ((z6 ≤ (v8 + (x2 * v10)) → ((0 ≤ x3 → vp_in x5 4096 ∧ vp_in x3 4096 ∧ (((gA σ9 12 x5.toNatClampNeg) = (gA σ9 12 x3.toNatClampNeg) → ((z6 = x4 → vp_in x3 4096 ∧ vp_in x5 4096 ∧ f_X0_bestChanged_125 r (f_X0_bestChanged_8 r P n) P σ9 x1 x2 x3 x4 x5 z6 ((gA σ9 14 x3.toNatClampNeg) - (gA σ9 14 x5.toNatClampNeg))) ∧
        (¬ z6 = x4 → f_X0_bestChanged_125 r (f_X0_bestChanged_8 r P n) P σ9 x1 x2 x3 x4 x5 z6 (x4 - z6)))) ∧
       (¬ (gA σ9 12 x5.toNatClampNeg) = (gA σ9 12 x3.toNatClampNeg) → vp_in x5 4096 ∧ vp_in x3 4096 ∧ f_X0_bestChanged_125 r (f_X0_bestChanged_8 r P n) P σ9 x1 x2 x3 x4 x5 z6 ((gA σ9 12 x5.toNatClampNeg) - (gA σ9 12 x3.toNatClampNeg))))) ∧
      (¬ 0 ≤ x3 → f_X0_bestChanged_125 r (f_X0_bestChanged_8 r P n) P σ9 x1 x2 x3 x4 x5 z6 (1 : Int32)))) ∧
     (¬ z6 ≤ (v8 + (x2 * v10)) → f_X0_bestChanged_142 r (f_X0_bestChanged_8 r P n) P σ9 x1 x2 x3 x4 x5)))))))))
def f_X0_bestChanged (r : GR) (σ : GS) (x1 : Nat) (x2 : Int32) (P : GS → Int32 → Prop) : Prop :=
    (∃ q_ : Nat, f_X0_bestChanged_8 r P q_ σ x1 x2 (-1 : Int32) (0 : Int32) (0 : Int32))
def f_X0_bestWorth (r : GR) (σ : GS) (x1 : Int32) (P : GS → Int32 → Prop) : Prop :=
    f_X0_bestOf r σ x1 (fun σ1 v2 =>
    vp_in v2 4096 ∧ P σ1 (gA σ1 12 v2.toNatClampNeg))
def f_X0_changed (r : GR) (σ : GS) (x1 : Int32) (x2 : Int32) (x3 : Int32) (P : GS → Int32 → Prop) : Prop :=
    f_X0_isSort r σ x1 (fun σ1 v2 =>
    ((v2 = 0 → P σ1 (-1 : Int32)) ∧
    (¬ v2 = 0 → f_X0_in r σ1 x2 (1 : Int32) (99 : Int32) (fun σ4 v5 =>
     ((v5 = 0 → P σ4 (-1 : Int32)) ∧
     (¬ v5 = 0 → f_X0_in r σ4 x3 (0 : Int32) (1 : Int32) (fun σ7 v8 =>
      ((v8 = 0 → P σ7 (-1 : Int32)) ∧
      (¬ v8 = 0 → f_X0_bestWorth r σ7 x1 (fun σ10 v11 =>
       vp_in x1 5 ∧ (∃ a13 : Nat, gQ σ10 1 x1.toNatClampNeg = some a13 ∧ f_X0_bestChanged r σ10 a13 x2 (fun σ15 v16 =>
       vp_in v16 4096 ∧ ((x3 = 0 → P σ15 (gA σ15 12 v16.toNatClampNeg)) ∧
       (¬ x3 = 0 → P σ15 ((gA σ15 12 v16.toNatClampNeg) - v11)))))))))))))))
def f_X0_free_15 (r : GR) (k2 : GS → Int32 → Prop) (P : GS → Int32 → Prop) : Nat → GS → Int32 → Int32 → Int32 → Int32 → Prop
  | 0 => fun _ _ _ _ _ => False
  | n + 1 => fun σ x1 x2 x3 x4 => (((gI σ 3) ≤ x4 → ((x3 < x2 → k2 σ (x1 + 1)) ∧
     (¬ x3 < x2 → P σ x1))) ∧
    (¬ (gI σ 3) ≤ x4 → f_X0_look r σ x4 (fun σ3 =>
     vp_in x4 5 ∧ (∃ a6 : Nat, gQ σ3 1 x4.toNatClampNeg = some a6 ∧ pI σ3 a6 5 0 (fun v9 => vp_in x4 5 ∧ (∃ a11 : Nat, gQ σ3 1 x4.toNatClampNeg = some a11 ∧ f_X0_bestChanged r σ3 a11 x1 (fun σ13 v14 =>
     vp_in v14 4096 ∧ (∀ z16 : Int32, z16 = x2 + (v9 * (gA σ13 14 v14.toNatClampNeg)) → vp_in x4 5 ∧ (∃ a18 : Nat, gQ σ13 1 x4.toNatClampNeg = some a18 ∧ pI σ13 a18 5 0 (fun v21 => vp_in x4 5 ∧ (∃ a23 : Nat, gQ σ13 1 x4.toNatClampNeg = some a23 ∧ (∃ f27 : List Value, gO σ13 a23 = some (.inr (5, f27)) ∧ f_X5_points r σ13 a23 (fun σ25 v26 =>
     f_X0_free_15 r k2 P n σ25 x1 z16 (x3 + (v21 * v26)) (x4 + 1))))))))))))))
def f_X0_free_2 (r : GR) (P : GS → Int32 → Prop) : Nat → GS → Int32 → Prop
  | 0 => fun _ _ => False
  | n + 1 => fun σ x1 => (((99 : Int32) < x1 → P σ (-2 : Int32)) ∧
    (¬ (99 : Int32) < x1 → (∃ q_ : Nat, f_X0_free_15 r (f_X0_free_2 r P n) P q_ σ x1 (0 : Int32) (0 : Int32) (0 : Int32))))
def f_X0_free (r : GR) (σ : GS) (P : GS → Int32 → Prop) : Prop :=
    (∃ q_ : Nat, f_X0_free_2 r P q_ σ (1 : Int32))
def f_X0_black_134 (r : GR) (k75 : GS → Nat → Int32 → Int32 → Int32 → Prop) (P : GS → Int32 → Prop) (σ : GS) (x4 : Nat) (x5 : Int32) (x6 : Int32) (x7 : Int32) : Prop :=
    k75 σ x4 x5 x6 (x7 + 1)
def f_X0_black_75 (r : GR) (P : GS → Int32 → Prop) : Nat → GS → Nat → Int32 → Int32 → Int32 → Prop
  | 0 => fun _ _ _ _ _ => False
  | n + 1 => fun σ x4 x5 x6 x7 => f_X0_basketMany r σ  (fun σ1 v2 =>
    ((v2 ≤ x7 → P σ1 x6) ∧
    (¬ v2 ≤ x7 → vp_in x7 4096 ∧ vp_in x7 4096 ∧ (∃ f8 : List Value, gO σ1 x4 = some (.inr (5, f8)) ∧ f_X5_points r σ1 x4 (fun σ6 v7 =>
     pI σ6 x4 5 3 (fun v11 => ((v11 < ((gA σ1 13 x7.toNatClampNeg) + (x5 * (if (0 : Int32) < ((gA σ1 14 x7.toNatClampNeg) - v7) then ((gA σ1 14 x7.toNatClampNeg) - v7) else (0 : Int32)))) → f_X0_black_134 r (f_X0_black_75 r P n) P σ6 x4 x5 x6 x7) ∧
     (¬ v11 < ((gA σ1 13 x7.toNatClampNeg) + (x5 * (if (0 : Int32) < ((gA σ1 14 x7.toNatClampNeg) - v7) then ((gA σ1 14 x7.toNatClampNeg) - v7) else (0 : Int32)))) → vp_in x7 4096 ∧ (∀ z14 : Int32, z14 = (if x6 < (gA σ6 12 x7.toNatClampNeg) then (gA σ6 12 x7.toNatClampNeg) else x6) → f_X0_black_134 r (f_X0_black_75 r P n) P σ6 x4 x5 z14 x7)))))))))
def f_X0_black (r : GR) (σ : GS) (x1 : Int32) (x2 : Int32) (x3 : Int32) (P : GS → Int32 → Prop) : Prop :=
    f_X0_isSort r σ x1 (fun σ1 v2 =>
    ((v2 = 0 → P σ1 (-1 : Int32)) ∧
    (¬ v2 = 0 → ((x2 < 0 → P σ1 (-1 : Int32)) ∧
     (¬ x2 < 0 → f_X0_in r σ1 (x2 / (100 : Int32)) (1 : Int32) (99 : Int32) (fun σ5 v6 =>
      ((v6 = 0 → P σ5 (-1 : Int32)) ∧
      (¬ v6 = 0 → f_X0_in r σ5 x3 (0 : Int32) (100 : Int32) (fun σ8 v9 =>
       ((v9 = 0 → P σ8 (-1 : Int32)) ∧
       (¬ v9 = 0 → vp_in x1 5 ∧ (∃ a12 : Nat, gQ σ8 1 x1.toNatClampNeg = some a12 ∧ f_X0_look r σ8 x1 (fun σ14 =>
        (∀ z16 : Int32, z16 = (x2 / (100 : Int32)) + ((((x2 - x2 / (100 : Int32) * (100 : Int32)) * x3) + (99 : Int32)) / (100 : Int32)) → (∃ q_ : Nat, f_X0_black_75 r P q_ σ14 a12 z16 (0 : Int32) (0 : Int32))))))))))))))))
def f_X0_allHeads_4 (r : GR) (P : GS → Int32 → Prop) : Nat → GS → Int32 → Int32 → Prop
  | 0 => fun _ _ _ => False
  | n + 1 => fun σ x1 x2 => (((gI σ 3) ≤ x2 → P σ x1) ∧
    (¬ (gI σ 3) ≤ x2 → vp_in x2 5 ∧ (∃ a3 : Nat, gQ σ 1 x2.toNatClampNeg = some a3 ∧ pI σ a3 5 0 (fun v6 => f_X0_allHeads_4 r P n σ (x1 + v6) (x2 + 1)))))
def f_X0_allHeads (r : GR) (σ : GS) (P : GS → Int32 → Prop) : Prop :=
    (∃ q_ : Nat, f_X0_allHeads_4 r P q_ σ (0 : Int32) (0 : Int32))
def f_X0_besideOf_151 (r : GR) (k66 : GS → Int32 → Int32 → Int32 → Int32 → Prop) (P : GS → Int32 → Prop) (σ : GS) (x1 : Int32) (x2 : Int32) (x3 : Int32) (x4 : Int32) : Prop :=
    k66 σ x1 x2 x3 (x4 + 1)
def f_X0_besideOf_81 (r : GR) (k66 : GS → Int32 → Int32 → Int32 → Int32 → Prop) (P : GS → Int32 → Prop) : Nat → GS → Int32 → Int32 → Int32 → Int32 → Int32 → Int32 → Prop
  | 0 => fun _ _ _ _ _ _ _ => False
  | n + 1 => fun σ x1 x2 x3 x4 x5 x6 => (((gI σ 2) ≤ x6 → vp_in x1 5 ∧ (∃ a3 : Nat, gQ σ 1 x1.toNatClampNeg = some a3 ∧ pI σ a3 5 3 (fun v6 => ((v6 < x5 → f_X0_besideOf_151 r k66 P σ x1 x2 x3 x4) ∧
     (¬ v6 < x5 → vp_in x4 4096 ∧ (∀ z9 : Int32, z9 = (if x3 < (gA σ 12 x4.toNatClampNeg) then (gA σ 12 x4.toNatClampNeg) else x3) → f_X0_besideOf_151 r k66 P σ x1 x2 z9 x4)))))) ∧
    (¬ (gI σ 2) ≤ x6 → f_X0_inBasket r σ x4 x6 (fun σ10 v11 =>
     vp_in x6 6 ∧ (∃ a13 : Nat, gQ σ10 0 x6.toNatClampNeg = some a13 ∧ pI σ10 a13 3 2 (fun v16 => (∀ z17 : Int32, z17 = x5 + (v11 * ((v16 * x2) / (100 : Int32))) → f_X0_besideOf_81 r k66 P n σ10 x1 x2 x3 x4 z17 (x6 + 1)))))))
def f_X0_besideOf_66 (r : GR) (P : GS → Int32 → Prop) : Nat → GS → Int32 → Int32 → Int32 → Int32 → Prop
  | 0 => fun _ _ _ _ _ => False
  | n + 1 => fun σ x1 x2 x3 x4 => f_X0_basketMany r σ  (fun σ1 v2 =>
    ((v2 ≤ x4 → P σ1 x3) ∧
    (¬ v2 ≤ x4 → (∃ q_ : Nat, f_X0_besideOf_81 r (f_X0_besideOf_66 r P n) P q_ σ1 x1 x2 x3 x4 (0 : Int32) (0 : Int32)))))
def f_X0_besideOf_14 (r : GR) (P : GS → Int32 → Prop) : Nat → GS → Int32 → Int32 → Prop
  | 0 => fun _ _ _ => False
  | n + 1 => fun σ x3 x4 => (((gI σ 2) ≤ x4 → P σ x3) ∧
    (¬ (gI σ 2) ≤ x4 → vp_in x4 6 ∧ (∃ a3 : Nat, gQ σ 0 x4.toNatClampNeg = some a3 ∧ pI σ a3 3 1 (fun v6 => f_X0_allHeads r σ  (fun σ7 v8 =>
     ¬ v8 = 0 ∧ vp_in (((4 : Int32) * x4) + (if (v6 / v8) < (3 : Int32) then (v6 / v8) else (3 : Int32))) 24 ∧ (∀ z11 : Int32, z11 = x3 + (gA σ7 15 (((4 : Int32) * x4) + (if (v6 / v8) < (3 : Int32) then (v6 / v8) else (3 : Int32))).toNatClampNeg) → f_X0_besideOf_14 r P n σ7 z11 (x4 + 1)))))))
def f_X0_besideOf (r : GR) (σ : GS) (x1 : Int32) (x2 : Int32) (P : GS → Int32 → Prop) : Prop :=
    f_X0_look r σ x1 (fun σ1 =>
    ((x2 = 0 → (∃ q_ : Nat, f_X0_besideOf_14 r P q_ σ1 (0 : Int32) (0 : Int32))) ∧
    (¬ x2 = 0 → (∃ q_ : Nat, f_X0_besideOf_66 r P q_ σ1 x1 x2 (0 : Int32) (0 : Int32)))))
def f_X0_isDear_16 (r : GR) (P : GS → Int32 → Prop) (σ : GS) : Prop :=
    P σ (1 : Int32)
def f_X0_isDear (r : GR) (σ : GS) (x0 : Int32) (P : GS → Int32 → Prop) : Prop :=
    ((x0 = 0 → f_X0_isDear_16 r P σ ) ∧
    (¬ x0 = 0 → f_X0_in r σ x0 (100 : Int32) (900 : Int32) (fun σ2 v3 =>
     ((v3 = 0 → P σ2 (0 : Int32)) ∧
     (¬ v3 = 0 → f_X0_isDear_16 r P σ2 )))))
def f_X0_beside (r : GR) (σ : GS) (x1 : Int32) (x2 : Int32) (P : GS → Int32 → Prop) : Prop :=
    f_X0_isSort r σ x1 (fun σ1 v2 =>
    ((v2 = 0 → P σ1 (-1 : Int32)) ∧
    (¬ v2 = 0 → f_X0_isDear r σ1 x2 (fun σ4 v5 =>
     ((v5 = 0 → P σ4 (-1 : Int32)) ∧
     (¬ v5 = 0 → f_X0_besideOf r σ4 x1 x2 (fun σ7 v8 =>
      P σ7 v8)))))))
def f_X0_loses_41 (r : GR) (k13 : GS → Int32 → Int32 → Int32 → Prop) (P : GS → Int32 → Prop) (σ : GS) (x1 : Int32) (x2 : Int32) (x3 : Int32) : Prop :=
    k13 σ x1 x2 (x3 + 1)
def f_X0_loses_13 (r : GR) (P : GS → Int32 → Prop) : Nat → GS → Int32 → Int32 → Int32 → Prop
  | 0 => fun _ _ _ _ => False
  | n + 1 => fun σ x1 x2 x3 => (((gI σ 3) ≤ x3 → P σ x2) ∧
    (¬ (gI σ 3) ≤ x3 → f_X0_bestWorth r σ x3 (fun σ2 v3 =>
     f_X0_besideOf r σ2 x3 x1 (fun σ4 v5 =>
     ((v5 ≤ v3 → f_X0_loses_41 r (f_X0_loses_13 r P n) P σ4 x1 x2 x3) ∧
     (¬ v5 ≤ v3 → f_X0_loses_41 r (f_X0_loses_13 r P n) P σ4 x1 (x2 ||| ((1 : Int32) <<< (x3 &&& 31))) x3))))))
def f_X0_loses (r : GR) (σ : GS) (x1 : Int32) (P : GS → Int32 → Prop) : Prop :=
    f_X0_isDear r σ x1 (fun σ1 v2 =>
    ((v2 = 0 → P σ1 (-1 : Int32)) ∧
    (¬ v2 = 0 → (∃ q_ : Nat, f_X0_loses_13 r P q_ σ1 x1 (0 : Int32) (0 : Int32)))))
def f_J13_bitCount (r : GR) (σ : GS) (x0 : Int32) (P : GS → Int32 → Prop) : Prop :=
    (∀ z1 : Int32, z1 = x0 - (((x0.toUInt32 >>> ((1 : Int32).toUInt32 &&& Int32.toUInt32 31)).toInt32) &&& (1431655765 : Int32)) → (∀ z2 : Int32, z2 = (z1 &&& (858993459 : Int32)) + (((z1.toUInt32 >>> ((2 : Int32).toUInt32 &&& Int32.toUInt32 31)).toInt32) &&& (858993459 : Int32)) → (∀ z3 : Int32, z3 = (z2 + ((z2.toUInt32 >>> ((4 : Int32).toUInt32 &&& Int32.toUInt32 31)).toInt32)) &&& (252645135 : Int32) → (∀ z4 : Int32, z4 = z3 + ((z3.toUInt32 >>> ((8 : Int32).toUInt32 &&& Int32.toUInt32 31)).toInt32) → (∀ z5 : Int32, z5 = z4 + ((z4.toUInt32 >>> ((16 : Int32).toUInt32 &&& Int32.toUInt32 31)).toInt32) → P σ (z5 &&& (63 : Int32)))))))
def f_X0_fewest_163 (r : GR) (P : GS → Int32 → Prop) : Nat → GS → Int32 → Int32 → Prop
  | 0 => fun _ _ _ => False
  | n + 1 => fun σ x1 x2 => (((gI σ 2) ≤ x2 → P σ x1) ∧
    (¬ (gI σ 2) ≤ x2 → vp_in x2 6 ∧ (∃ a3 : Nat, gQ σ 0 x2.toNatClampNeg = some a3 ∧ vp_in x2 6 ∧ pS σ a3 3 3 (.int (gA σ 17 x2.toNatClampNeg)) (fun σ6 =>
     f_X0_fewest_163 r P n σ6 x1 (x2 + 1)))))
def f_X0_fewest_155 (r : GR) (k36 : GS → Int32 → Int32 → Prop) (P : GS → Int32 → Prop) (σ : GS) (x1 : Int32) (x2 : Int32) : Prop :=
    k36 σ x1 (x2 + 1)
def f_X0_fewest_141 (r : GR) (k36 : GS → Int32 → Int32 → Prop) (k117 : GS → Int32 → Int32 → Int32 → Int32 → Prop) (P : GS → Int32 → Prop) (σ : GS) (x1 : Int32) (x2 : Int32) (x4 : Int32) (t1 : Int32) (t0 : Int32) : Prop :=
    k117 σ x1 x2 (t0 &&& t1) (x4 + 1)
def f_X0_fewest_117 (r : GR) (k36 : GS → Int32 → Int32 → Prop) (P : GS → Int32 → Prop) : Nat → GS → Int32 → Int32 → Int32 → Int32 → Prop
  | 0 => fun _ _ _ _ _ => False
  | n + 1 => fun σ x1 x2 x3 x4 => (((gI σ 2) ≤ x4 → ((x3 = 0 → f_X0_fewest_155 r k36 P σ x1 x2) ∧
     (¬ x3 = 0 → f_X0_fewest_155 r k36 P σ x2 x2))) ∧
    (¬ (gI σ 2) ≤ x4 → f_X0_over r σ x4 (fun σ3 v4 =>
     ((v4 < 0 → f_X0_fewest_141 r k36 (f_X0_fewest_117 r k36 P n) P σ3 x1 x2 x4 (0 : Int32) x3) ∧
     (¬ v4 < 0 → f_X0_fewest_141 r k36 (f_X0_fewest_117 r k36 P n) P σ3 x1 x2 x4 (1 : Int32) x3)))))
def f_X0_fewest_99 (r : GR) (k36 : GS → Int32 → Int32 → Prop) (k66 : GS → Int32 → Int32 → Int32 → Prop) (P : GS → Int32 → Prop) (σ : GS) (x1 : Int32) (x2 : Int32) (x3 : Int32) (t1 : Int32) (t0 : Nat) : Prop :=
    pS σ t0 3 3 (.int t1) (fun σ1 =>
    k66 σ1 x1 x2 (x3 + 1))
def f_X0_fewest_66 (r : GR) (k36 : GS → Int32 → Int32 → Prop) (P : GS → Int32 → Prop) : Nat → GS → Int32 → Int32 → Int32 → Prop
  | 0 => fun _ _ _ _ => False
  | n + 1 => fun σ x1 x2 x3 => (((gI σ 2) ≤ x3 → f_X0_findWanted r σ  (fun σ2 =>
     (∃ q_ : Nat, f_X0_fewest_117 r k36 P q_ σ2 x1 x2 (1 : Int32) (0 : Int32)))) ∧
    (¬ (gI σ 2) ≤ x3 → vp_in x3 6 ∧ (∃ a5 : Nat, gQ σ 0 x3.toNatClampNeg = some a5 ∧ ((((x2 >>> (x3 &&& 31)) &&& (1 : Int32)) = (1 : Int32) → vp_in x3 6 ∧ f_X0_fewest_99 r k36 (f_X0_fewest_66 r k36 P n) P σ x1 x2 x3 (gA σ 17 x3.toNatClampNeg) a5) ∧
     (¬ ((x2 >>> (x3 &&& 31)) &&& (1 : Int32)) = (1 : Int32) → f_X0_fewest_99 r k36 (f_X0_fewest_66 r k36 P n) P σ x1 x2 x3 (0 : Int32) a5)))))
def f_X0_fewest_64 (r : GR) (k36 : GS → Int32 → Int32 → Prop) (P : GS → Int32 → Prop) (σ : GS) (x1 : Int32) (x2 : Int32) : Prop :=
    (∃ q_ : Nat, f_X0_fewest_66 r k36 P q_ σ x1 x2 (0 : Int32))
def f_X0_fewest_36 (r : GR) (P : GS → Int32 → Prop) : Nat → GS → Int32 → Int32 → Prop
  | 0 => fun _ _ _ => False
  | n + 1 => fun σ x1 x2 => ((((1 : Int32) <<< ((gI σ 2) &&& 31)) ≤ x2 → (∃ q_ : Nat, f_X0_fewest_163 r P q_ σ x1 (0 : Int32))) ∧
    (¬ ((1 : Int32) <<< ((gI σ 2) &&& 31)) ≤ x2 → ((x1 < 0 → f_X0_fewest_64 r (f_X0_fewest_36 r P n) P σ x1 x2) ∧
     (¬ x1 < 0 → f_J13_bitCount r σ x2 (fun σ3 v4 =>
      f_J13_bitCount r σ3 x1 (fun σ5 v6 =>
      ((v4 < v6 → f_X0_fewest_64 r (f_X0_fewest_36 r P n) P σ5 x1 x2) ∧
      (¬ v4 < v6 → f_X0_fewest_155 r (f_X0_fewest_36 r P n) P σ5 x1 x2))))))))
def f_X0_fewest_2 (r : GR) (P : GS → Int32 → Prop) : Nat → GS → Int32 → Prop
  | 0 => fun _ _ => False
  | n + 1 => fun σ x1 => (((gI σ 2) ≤ x1 → (∃ q_ : Nat, f_X0_fewest_36 r P q_ σ (-2 : Int32) (0 : Int32))) ∧
    (¬ (gI σ 2) ≤ x1 → vp_in x1 6 ∧ (∃ a3 : Nat, gQ σ 0 x1.toNatClampNeg = some a3 ∧ pI σ a3 3 3 (fun v6 => vp_in x1 6 ∧ (∀ σ8 : GS, σ8 = sA σ 17 x1.toNatClampNeg v6 → f_X0_fewest_2 r P n σ8 (x1 + 1))))))
def f_X0_fewest (r : GR) (σ : GS) (P : GS → Int32 → Prop) : Prop :=
    (∃ q_ : Nat, f_X0_fewest_2 r P q_ σ (0 : Int32))
def f_X0_least_41 (r : GR) (k14 : GS → Int32 → Int32 → Int32 → Prop) (P : GS → Int32 → Prop) (σ : GS) (x1 : Int32) (x2 : Int32) (x3 : Int32) : Prop :=
    k14 σ x1 x2 (x3 + 1)
def f_X0_least_14 (r : GR) (P : GS → Int32 → Prop) : Nat → GS → Int32 → Int32 → Int32 → Prop
  | 0 => fun _ _ _ _ => False
  | n + 1 => fun σ x1 x2 x3 => (((gI σ 3) ≤ x3 → P σ x2) ∧
    (¬ (gI σ 3) ≤ x3 → f_X0_bestOf r σ x3 (fun σ2 v3 =>
     f_X0_inBasket r σ2 v3 x1 (fun σ4 v5 =>
     ((v5 ≤ 0 → f_X0_least_41 r (f_X0_least_14 r P n) P σ4 x1 x2 x3) ∧
     (¬ v5 ≤ 0 → f_X0_least_41 r (f_X0_least_14 r P n) P σ4 x1 (x2 ||| ((1 : Int32) <<< (x3 &&& 31))) x3))))))
def f_X0_least (r : GR) (σ : GS) (x1 : Int32) (P : GS → Int32 → Prop) : Prop :=
    f_X0_isThing r σ x1 (fun σ1 v2 =>
    ((v2 = 0 → P σ1 (-1 : Int32)) ∧
    (¬ v2 = 0 → (∃ q_ : Nat, f_X0_least_14 r P q_ σ1 x1 (0 : Int32) (0 : Int32)))))
def f_X0_months_65 (r : GR) (P : GS → Int32 → Prop) : Nat → GS → Int32 → Int32 → Int32 → Nat → Int32 → Int32 → Int32 → Int32 → Prop
  | 0 => fun _ _ _ _ _ _ _ _ _ => False
  | n + 1 => fun σ x2 x3 x4 x5 x6 x7 x8 x9 => ((x2 ≤ x9 → ((x4 = 0 → P σ x6) ∧
     (¬ x4 = 0 → P σ (x7 + x8)))) ∧
    (¬ x2 ≤ x9 → (∀ z3 : Int32, z3 = (if (0 : Int32) < (x8 - x3) then (x8 - x3) else (0 : Int32)) → (∃ f6 : List Value, gO σ x5 = some (.inr (5, f6)) ∧ f_X5_points r σ x5 (fun σ4 v5 =>
     pI σ4 x5 5 3 (fun v9 => f_X0_bestBy r σ4 v9 ((v5 + x8) - z3) (fun σ10 v11 =>
     vp_in v11 4096 ∧ vp_in v11 4096 ∧ (∀ z14 : Int32, z14 = ((v5 + x8) - z3) - (gA σ10 14 v11.toNatClampNeg) → f_X0_months_65 r P n σ10 x2 x3 x4 x5 (x6 + (gA σ10 12 v11.toNatClampNeg)) (x7 + z3) z14 (x9 + 1)))))))))
def f_X0_months (r : GR) (σ : GS) (x1 : Int32) (x2 : Int32) (x3 : Int32) (x4 : Int32) (P : GS → Int32 → Prop) : Prop :=
    f_X0_isSort r σ x1 (fun σ1 v2 =>
    ((v2 = 0 → P σ1 (-1 : Int32)) ∧
    (¬ v2 = 0 → f_X0_in r σ1 x2 (1 : Int32) (12 : Int32) (fun σ4 v5 =>
     ((v5 = 0 → P σ4 (-1 : Int32)) ∧
     (¬ v5 = 0 → f_X0_in r σ4 x3 (0 : Int32) (99 : Int32) (fun σ7 v8 =>
      ((v8 = 0 → P σ7 (-1 : Int32)) ∧
      (¬ v8 = 0 → f_X0_in r σ7 x4 (0 : Int32) (1 : Int32) (fun σ10 v11 =>
       ((v11 = 0 → P σ10 (-1 : Int32)) ∧
       (¬ v11 = 0 → vp_in x1 5 ∧ (∃ a14 : Nat, gQ σ10 1 x1.toNatClampNeg = some a14 ∧ f_X0_look r σ10 x1 (fun σ16 =>
        (∃ q_ : Nat, f_X0_months_65 r P q_ σ16 x2 x3 x4 a14 (0 : Int32) (0 : Int32) (0 : Int32) (0 : Int32))))))))))))))))
def f_X0_foresight_181 (r : GR) (P : GS → Int32 → Prop) : Nat → GS → Nat → Int32 → Int32 → Int32 → Int32 → Prop
  | 0 => fun _ _ _ _ _ _ => False
  | n + 1 => fun σ x2 x3 x4 x5 x6 => (∃ f3 : List Value, gO σ x2 = some (.inr (5, f3)) ∧ f_X5_points r σ x2 (fun σ1 v2 =>
    ((v2 < x6 → P σ1 (x5 - ((2 : Int32) * x3))) ∧
    (¬ v2 < x6 → vp_in x6 259 ∧ vp_in (x4 - x6) 259 ∧ (∀ z8 : Int32, z8 = (if x5 < ((gA σ1 24 x6.toNatClampNeg) + (gA σ1 24 (x4 - x6).toNatClampNeg)) then ((gA σ1 24 x6.toNatClampNeg) + (gA σ1 24 (x4 - x6).toNatClampNeg)) else x5) → f_X0_foresight_181 r P n σ1 x2 x3 x4 z8 (x6 + 1))))))
def f_X0_foresight_136 (r : GR) (P : GS → Int32 → Prop) : Nat → GS → Nat → Int32 → Int32 → Int32 → Prop
  | 0 => fun _ _ _ _ _ => False
  | n + 1 => fun σ x2 x3 x4 x5 => ((x4 < x5 → (∃ q_ : Nat, f_X0_foresight_181 r P q_ σ x2 x3 x4 (0 : Int32) (0 : Int32))) ∧
    (¬ x4 < x5 → vp_in x5 259 ∧ vp_in (x5 - (1 : Int32)) 259 ∧ vp_in x5 259 ∧ (∀ σ5 : GS, σ5 = sA σ 24 x5.toNatClampNeg (if (gA σ 24 x5.toNatClampNeg) < (gA σ 24 (x5 - (1 : Int32)).toNatClampNeg) then (gA σ 24 (x5 - (1 : Int32)).toNatClampNeg) else (gA σ 24 x5.toNatClampNeg)) → f_X0_foresight_136 r P n σ5 x2 x3 x4 (x5 + 1))))
def f_X0_foresight_127 (r : GR) (k58 : GS → Nat → Int32 → Int32 → Int32 → Prop) (P : GS → Int32 → Prop) (σ : GS) (x2 : Nat) (x3 : Int32) (x4 : Int32) (x5 : Int32) : Prop :=
    k58 σ x2 x3 x4 (x5 + 1)
def f_X0_foresight_58 (r : GR) (P : GS → Int32 → Prop) : Nat → GS → Nat → Int32 → Int32 → Int32 → Prop
  | 0 => fun _ _ _ _ _ => False
  | n + 1 => fun σ x2 x3 x4 x5 => f_X0_basketMany r σ  (fun σ1 v2 =>
    ((v2 ≤ x5 → (∃ q_ : Nat, f_X0_foresight_136 r P q_ σ1 x2 x3 x4 (1 : Int32))) ∧
    (¬ v2 ≤ x5 → vp_in x5 4096 ∧ pI σ1 x2 5 3 (fun v6 => ((v6 < (gA σ1 13 x5.toNatClampNeg) → f_X0_foresight_127 r (f_X0_foresight_58 r P n) P σ1 x2 x3 x4 x5) ∧
     (¬ v6 < (gA σ1 13 x5.toNatClampNeg) → vp_in x5 4096 ∧ ((x4 < (gA σ1 14 x5.toNatClampNeg) → f_X0_foresight_127 r (f_X0_foresight_58 r P n) P σ1 x2 x3 x4 x5) ∧
      (¬ x4 < (gA σ1 14 x5.toNatClampNeg) → vp_in x5 4096 ∧ vp_in x5 4096 ∧ vp_in (gA σ1 14 x5.toNatClampNeg) 259 ∧ vp_in x5 4096 ∧ vp_in (gA σ1 14 x5.toNatClampNeg) 259 ∧ (∀ σ15 : GS, σ15 = sA σ1 24 (gA σ1 14 x5.toNatClampNeg).toNatClampNeg (if (gA σ1 24 (gA σ1 14 x5.toNatClampNeg).toNatClampNeg) < (gA σ1 12 x5.toNatClampNeg) then (gA σ1 12 x5.toNatClampNeg) else (gA σ1 24 (gA σ1 14 x5.toNatClampNeg).toNatClampNeg)) → f_X0_foresight_127 r (f_X0_foresight_58 r P n) P σ15 x2 x3 x4 x5)))))))))
def f_X0_foresight_34 (r : GR) (P : GS → Int32 → Prop) : Nat → GS → Nat → Int32 → Int32 → Int32 → Prop
  | 0 => fun _ _ _ _ _ => False
  | n + 1 => fun σ x2 x3 x4 x5 => ((x4 < x5 → (∃ q_ : Nat, f_X0_foresight_58 r P q_ σ x2 x3 x4 (0 : Int32))) ∧
    (¬ x4 < x5 → vp_in x5 259 ∧ (∀ σ3 : GS, σ3 = sA σ 24 x5.toNatClampNeg (0 : Int32) → f_X0_foresight_34 r P n σ3 x2 x3 x4 (x5 + 1))))
def f_X0_foresight (r : GR) (σ : GS) (x1 : Int32) (P : GS → Int32 → Prop) : Prop :=
    f_X0_isSort r σ x1 (fun σ1 v2 =>
    ((v2 = 0 → P σ1 (-1 : Int32)) ∧
    (¬ v2 = 0 → vp_in x1 5 ∧ (∃ a5 : Nat, gQ σ1 1 x1.toNatClampNeg = some a5 ∧ f_X0_bestWorth r σ1 x1 (fun σ7 v8 =>
     (∃ f11 : List Value, gO σ7 a5 = some (.inr (5, f11)) ∧ f_X5_points r σ7 a5 (fun σ9 v10 =>
     (∃ q_ : Nat, f_X0_foresight_34 r P q_ σ9 a5 v8 ((2 : Int32) * v10) (0 : Int32)))))))))
def f_X0_cheap_78 (r : GR) (k17 : GS → Int32 → Int32 → Int32 → Prop) (P : GS → Int32 → Prop) (σ : GS) (x1 : Int32) (x2 : Int32) (x3 : Int32) : Prop :=
    k17 σ x1 x2 (x3 + 1)
def f_X0_cheap_76 (r : GR) (k17 : GS → Int32 → Int32 → Int32 → Prop) (P : GS → Int32 → Prop) (σ : GS) (x1 : Int32) (x3 : Int32) : Prop :=
    f_X0_cheap_78 r k17 P σ x1 x3 x3
def f_X0_cheap_17 (r : GR) (P : GS → Int32 → Prop) : Nat → GS → Int32 → Int32 → Int32 → Prop
  | 0 => fun _ _ _ _ => False
  | n + 1 => fun σ x1 x2 x3 => (((gI σ 2) ≤ x3 → P σ x2) ∧
    (¬ (gI σ 2) ≤ x3 → vp_in x3 6 ∧ (∃ a3 : Nat, gQ σ 0 x3.toNatClampNeg = some a3 ∧ pI σ a3 3 0 (fun v6 => vp_in x3 6 ∧ (∃ a8 : Nat, gQ σ 0 x3.toNatClampNeg = some a8 ∧ pI σ a8 3 2 (fun v11 => (((v11 - x1) < v6 → f_X0_cheap_78 r (f_X0_cheap_17 r P n) P σ x1 x2 x3) ∧
     (¬ (v11 - x1) < v6 → ((x2 < 0 → f_X0_cheap_76 r (f_X0_cheap_17 r P n) P σ x1 x3) ∧
      (¬ x2 < 0 → vp_in x3 6 ∧ (∃ a15 : Nat, gQ σ 0 x3.toNatClampNeg = some a15 ∧ pI σ a15 3 3 (fun v18 => vp_in x2 6 ∧ (∃ a20 : Nat, gQ σ 0 x2.toNatClampNeg = some a20 ∧ pI σ a20 3 3 (fun v23 => ((v18 < v23 → f_X0_cheap_76 r (f_X0_cheap_17 r P n) P σ x1 x3) ∧
       (¬ v18 < v23 → f_X0_cheap_78 r (f_X0_cheap_17 r P n) P σ x1 x2 x3))))))))))))))))
def f_X0_cheap (r : GR) (σ : GS) (x1 : Int32) (P : GS → Int32 → Prop) : Prop :=
    f_X0_in r σ x1 (0 : Int32) (99 : Int32) (fun σ1 v2 =>
    ((v2 = 0 → P σ1 (-1 : Int32)) ∧
    (¬ v2 = 0 → (∃ q_ : Nat, f_X0_cheap_17 r P q_ σ1 x1 (-2 : Int32) (0 : Int32)))))
def f_J13_signum (r : GR) (σ : GS) (x0 : Int32) (P : GS → Int32 → Prop) : Prop :=
    P σ ((x0 >>> ((31 : Int32) &&& 31)) ||| (((-x0).toUInt32 >>> ((31 : Int32).toUInt32 &&& Int32.toUInt32 31)).toInt32))
def f_X0_wrong_109 (r : GR) (P : GS → Int32 → Prop) (σ : GS) (x2 : Int32) : Prop :=
    P σ x2
def f_X0_wrong_95 (r : GR) (k25 : GS → Int32 → Int32 → Int32 → Int32 → Prop) (P : GS → Int32 → Prop) (σ : GS) (x1 : Int32) (x2 : Int32) (x3 : Int32) (x4 : Int32) : Prop :=
    k25 σ x1 x2 x3 (x4 + 1)
def f_X0_wrong_89 (r : GR) (k25 : GS → Int32 → Int32 → Int32 → Int32 → Prop) (P : GS → Int32 → Prop) (σ : GS) (x1 : Int32) (x4 : Int32) (x5 : Int32) : Prop :=
    f_X0_wrong_95 r k25 P σ x1 x4 x5 x4
def f_X0_wrong_25 (r : GR) (P : GS → Int32 → Prop) : Nat → GS → Int32 → Int32 → Int32 → Int32 → Prop
  | 0 => fun _ _ _ _ _ => False
  | n + 1 => fun σ x1 x2 x3 x4 => (((gI σ 2) ≤ x4 → ((x2 < 0 → f_X0_wrong_109 r P σ x2) ∧
     (¬ x2 < 0 → ((x1 = 0 → f_X0_wrong_109 r P σ x2) ∧
      (¬ x1 = 0 → ((x1 = (1 : Int32) → P σ x3) ∧
       (¬ x1 = (1 : Int32) → f_X0_over r σ x2 (fun σ5 v6 =>
        f_J13_signum r σ5 v6 (fun σ7 v8 =>
        P σ7 (-v8)))))))))) ∧
    (¬ (gI σ 2) ≤ x4 → vp_in x4 6 ∧ (∃ a10 : Nat, gQ σ 0 x4.toNatClampNeg = some a10 ∧ pI σ a10 3 1 (fun v13 => ((v13 = 0 → f_X0_wrong_95 r (f_X0_wrong_25 r P n) P σ x1 x2 x3 x4) ∧
     (¬ v13 = 0 → f_X0_over r σ x4 (fun σ15 v16 =>
      vp_in x4 6 ∧ (∃ a18 : Nat, gQ σ15 0 x4.toNatClampNeg = some a18 ∧ pI σ15 a18 3 1 (fun v21 => ¬ v21 = 0 ∧ (∀ z23 : Int32, z23 = ((1000 : Int32) * (if 0 ≤ v16 then v16 else 0 - v16)) / v21 → ((x2 < 0 → f_X0_wrong_89 r (f_X0_wrong_25 r P n) P σ15 x1 x4 z23) ∧
      (¬ x2 < 0 → ((x3 < z23 → f_X0_wrong_89 r (f_X0_wrong_25 r P n) P σ15 x1 x4 z23) ∧
       (¬ x3 < z23 → f_X0_wrong_95 r (f_X0_wrong_25 r P n) P σ15 x1 x2 x3 x4))))))))))))))
def f_X0_wrong (r : GR) (σ : GS) (x1 : Int32) (P : GS → Int32 → Prop) : Prop :=
    f_X0_in r σ x1 (0 : Int32) (2 : Int32) (fun σ1 v2 =>
    ((v2 = 0 → P σ1 (-2000000000 : Int32)) ∧
    (¬ v2 = 0 → f_X0_findWanted r σ1  (fun σ4 =>
     (∃ q_ : Nat, f_X0_wrong_25 r P q_ σ4 x1 (-2 : Int32) (0 : Int32) (0 : Int32))))))
def f_X14_init (r : GR) (σ : GS) (x0 : Nat) (P : GS → Prop) : Prop :=
    P σ
def f_X15_init_c13 (r : GR) (σ : GS) (x0 : Nat) (x2 : Int32) (P : GS → Prop) : Prop :=
    pS σ x0 13 1 (.ref r.2.1) (fun σ1 =>
    f_X14_init r σ1 x0 (fun σ2 =>
    pS σ2 x0 13 0 (.int x2) (fun σ4 =>
    P σ4)))
def f_X15_init_c14 (r : GR) (σ : GS) (x0 : Nat) (x2 : Int32) (P : GS → Prop) : Prop :=
    pW TX16 3 σ x0 14 1 (.ref r.2.1) (fun σ1 =>
    f_X14_init r σ1 x0 (fun σ2 =>
    pW TX16 3 σ2 x0 14 0 (.int x2) (fun σ4 =>
    P σ4)))
def f_X16_init_c14 (r : GR) (σ : GS) (x0 : Nat) (x2 : Int32) (P : GS → Prop) : Prop :=
    pW TX16 3 σ x0 14 2 (.ref r.2.1) (fun σ1 =>
    f_X15_init_c14 r σ1 x0 x2 (fun σ2 =>
    P σ2))
def f_X15_init_c15 (r : GR) (σ : GS) (x0 : Nat) (x2 : Int32) (P : GS → Prop) : Prop :=
    pW TX17 3 σ x0 15 1 (.ref r.2.1) (fun σ1 =>
    f_X14_init r σ1 x0 (fun σ2 =>
    pW TX17 3 σ2 x0 15 0 (.int x2) (fun σ4 =>
    P σ4)))
def f_X17_init_c15 (r : GR) (σ : GS) (x0 : Nat) (x2 : Int32) (P : GS → Prop) : Prop :=
    pW TX17 3 σ x0 15 2 (.ref r.2.1) (fun σ1 =>
    f_X15_init_c15 r σ1 x0 x2 (fun σ2 =>
    P σ2))
def f_X15_init_c16 (r : GR) (σ : GS) (x0 : Nat) (x2 : Int32) (P : GS → Prop) : Prop :=
    pW TX18 4 σ x0 16 1 (.ref r.2.1) (fun σ1 =>
    f_X14_init r σ1 x0 (fun σ2 =>
    pW TX18 4 σ2 x0 16 0 (.int x2) (fun σ4 =>
    P σ4)))
def f_X17_init_c16 (r : GR) (σ : GS) (x0 : Nat) (x2 : Int32) (P : GS → Prop) : Prop :=
    pW TX18 4 σ x0 16 2 (.ref r.2.1) (fun σ1 =>
    f_X15_init_c16 r σ1 x0 x2 (fun σ2 =>
    P σ2))
def f_X18_init_c16 (r : GR) (σ : GS) (x0 : Nat) (x2 : Int32) (P : GS → Prop) : Prop :=
    pW TX18 4 σ x0 16 3 (.ref r.2.1) (fun σ1 =>
    f_X17_init_c16 r σ1 x0 x2 (fun σ2 =>
    P σ2))
def f_X15_init_c17 (r : GR) (σ : GS) (x0 : Nat) (x2 : Int32) (P : GS → Prop) : Prop :=
    pW TX19 4 σ x0 17 1 (.ref r.2.1) (fun σ1 =>
    f_X14_init r σ1 x0 (fun σ2 =>
    pW TX19 4 σ2 x0 17 0 (.int x2) (fun σ4 =>
    P σ4)))
def f_X17_init_c17 (r : GR) (σ : GS) (x0 : Nat) (x2 : Int32) (P : GS → Prop) : Prop :=
    pW TX19 4 σ x0 17 2 (.ref r.2.1) (fun σ1 =>
    f_X15_init_c17 r σ1 x0 x2 (fun σ2 =>
    P σ2))
def f_X19_init_c17 (r : GR) (σ : GS) (x0 : Nat) (x2 : Int32) (P : GS → Prop) : Prop :=
    pW TX19 4 σ x0 17 3 (.ref r.2.1) (fun σ1 =>
    f_X17_init_c17 r σ1 x0 x2 (fun σ2 =>
    P σ2))
def f_X15_init_c18 (r : GR) (σ : GS) (x0 : Nat) (x2 : Int32) (P : GS → Prop) : Prop :=
    pW TX20 5 σ x0 18 1 (.ref r.2.1) (fun σ1 =>
    f_X14_init r σ1 x0 (fun σ2 =>
    pW TX20 5 σ2 x0 18 0 (.int x2) (fun σ4 =>
    P σ4)))
def f_X17_init_c18 (r : GR) (σ : GS) (x0 : Nat) (x2 : Int32) (P : GS → Prop) : Prop :=
    pW TX20 5 σ x0 18 2 (.ref r.2.1) (fun σ1 =>
    f_X15_init_c18 r σ1 x0 x2 (fun σ2 =>
    P σ2))
def f_X18_init_c18 (r : GR) (σ : GS) (x0 : Nat) (x2 : Int32) (P : GS → Prop) : Prop :=
    pW TX20 5 σ x0 18 3 (.ref r.2.1) (fun σ1 =>
    f_X17_init_c18 r σ1 x0 x2 (fun σ2 =>
    P σ2))
def f_X20_init_c18 (r : GR) (σ : GS) (x0 : Nat) (x2 : Int32) (P : GS → Prop) : Prop :=
    pW TX20 5 σ x0 18 4 (.ref r.2.1) (fun σ1 =>
    f_X18_init_c18 r σ1 x0 x2 (fun σ2 =>
    P σ2))
def f_X15_init_c19 (r : GR) (σ : GS) (x0 : Nat) (x2 : Int32) (P : GS → Prop) : Prop :=
    pW TX21 3 σ x0 19 1 (.ref r.2.1) (fun σ1 =>
    f_X14_init r σ1 x0 (fun σ2 =>
    pW TX21 3 σ2 x0 19 0 (.int x2) (fun σ4 =>
    P σ4)))
def f_X21_init_c19 (r : GR) (σ : GS) (x0 : Nat) (x2 : Int32) (P : GS → Prop) : Prop :=
    pW TX21 3 σ x0 19 2 (.ref r.2.1) (fun σ1 =>
    f_X15_init_c19 r σ1 x0 x2 (fun σ2 =>
    P σ2))
def f_X15_init_c20 (r : GR) (σ : GS) (x0 : Nat) (x2 : Int32) (P : GS → Prop) : Prop :=
    pW TX22 5 σ x0 20 1 (.ref r.2.1) (fun σ1 =>
    f_X14_init r σ1 x0 (fun σ2 =>
    pW TX22 5 σ2 x0 20 0 (.int x2) (fun σ4 =>
    P σ4)))
def f_X17_init_c20 (r : GR) (σ : GS) (x0 : Nat) (x2 : Int32) (P : GS → Prop) : Prop :=
    pW TX22 5 σ x0 20 2 (.ref r.2.1) (fun σ1 =>
    f_X15_init_c20 r σ1 x0 x2 (fun σ2 =>
    P σ2))
def f_X19_init_c20 (r : GR) (σ : GS) (x0 : Nat) (x2 : Int32) (P : GS → Prop) : Prop :=
    pW TX22 5 σ x0 20 3 (.ref r.2.1) (fun σ1 =>
    f_X17_init_c20 r σ1 x0 x2 (fun σ2 =>
    P σ2))
def f_X22_init_c20 (r : GR) (σ : GS) (x0 : Nat) (x2 : Int32) (P : GS → Prop) : Prop :=
    pW TX22 5 σ x0 20 4 (.ref r.2.1) (fun σ1 =>
    f_X19_init_c20 r σ1 x0 x2 (fun σ2 =>
    P σ2))
def f_X0_made (r : GR) (bc bs : Nat) (σ : GS) (x1 : Int32) (P : GS → Option Nat → Prop) : Prop :=
    ((x1 = (1 : Int32) → (∃ (b3 s4 : Nat), b3 + 1 ≤ bc ∧ s4 + 3 ≤ bs ∧ (∀ a1 : Nat, gO σ a1 = none → ∀ σ2 : GS, σ2 = sO σ a1 (some (.inr (14, [.int 0, .null, .null]))) → f_X16_init_c14 r σ2 a1 (gI σ2 28) (fun σ7 =>
     P σ7 (some a1))))) ∧
    (¬ x1 = (1 : Int32) → ((x1 = (2 : Int32) → (∃ (b11 s12 : Nat), b11 + 1 ≤ bc ∧ s12 + 3 ≤ bs ∧ (∀ a9 : Nat, gO σ a9 = none → ∀ σ10 : GS, σ10 = sO σ a9 (some (.inr (15, [.int 0, .null, .null]))) → f_X17_init_c15 r σ10 a9 (gI σ10 28) (fun σ15 =>
     P σ15 (some a9))))) ∧
    (¬ x1 = (2 : Int32) → ((x1 = (3 : Int32) → (∃ (b19 s20 : Nat), b19 + 1 ≤ bc ∧ s20 + 4 ≤ bs ∧ (∀ a17 : Nat, gO σ a17 = none → ∀ σ18 : GS, σ18 = sO σ a17 (some (.inr (16, [.int 0, .null, .null, .null]))) → f_X18_init_c16 r σ18 a17 (gI σ18 28) (fun σ23 =>
     P σ23 (some a17))))) ∧
    (¬ x1 = (3 : Int32) → ((x1 = (4 : Int32) → (∃ (b27 s28 : Nat), b27 + 1 ≤ bc ∧ s28 + 4 ≤ bs ∧ (∀ a25 : Nat, gO σ a25 = none → ∀ σ26 : GS, σ26 = sO σ a25 (some (.inr (17, [.int 0, .null, .null, .null]))) → f_X19_init_c17 r σ26 a25 (gI σ26 28) (fun σ31 =>
     P σ31 (some a25))))) ∧
    (¬ x1 = (4 : Int32) → ((x1 = (5 : Int32) → (∃ (b35 s36 : Nat), b35 + 1 ≤ bc ∧ s36 + 5 ≤ bs ∧ (∀ a33 : Nat, gO σ a33 = none → ∀ σ34 : GS, σ34 = sO σ a33 (some (.inr (18, [.int 0, .null, .null, .null, .null]))) → f_X20_init_c18 r σ34 a33 (gI σ34 28) (fun σ39 =>
     P σ39 (some a33))))) ∧
    (¬ x1 = (5 : Int32) → ((x1 = (6 : Int32) → (∃ (b43 s44 : Nat), b43 + 1 ≤ bc ∧ s44 + 3 ≤ bs ∧ (∀ a41 : Nat, gO σ a41 = none → ∀ σ42 : GS, σ42 = sO σ a41 (some (.inr (19, [.int 0, .null, .null]))) → f_X21_init_c19 r σ42 a41 (gI σ42 28) (fun σ47 =>
     P σ47 (some a41))))) ∧
    (¬ x1 = (6 : Int32) → ((x1 = (7 : Int32) → (∃ (b51 s52 : Nat), b51 + 1 ≤ bc ∧ s52 + 5 ≤ bs ∧ (∀ a49 : Nat, gO σ a49 = none → ∀ σ50 : GS, σ50 = sO σ a49 (some (.inr (20, [.int 0, .null, .null, .null, .null]))) → f_X22_init_c20 r σ50 a49 (gI σ50 28) (fun σ55 =>
     P σ55 (some a49))))) ∧
    (¬ x1 = (7 : Int32) → (∃ (b59 s60 : Nat), b59 + 1 ≤ bc ∧ s60 + 2 ≤ bs ∧ (∀ a57 : Nat, gO σ a57 = none → ∀ σ58 : GS, σ58 = sO σ a57 (some (.inr (13, [.int 0, .null]))) → f_X15_init_c13 r σ58 a57 (gI σ58 28) (fun σ63 =>
     P σ63 (some a57))))))))))))))))))
def f_X0_body (r : GR) (bc bs : Nat) (σ : GS) (x1 : Int32) (P : GS → Int32 → Prop) : Prop :=
    f_X0_in r σ x1 (0 : Int32) (7 : Int32) (fun σ1 v2 =>
    ((v2 = 0 → P σ1 (-1 : Int32)) ∧
    (¬ v2 = 0 → (((gI σ1 28) = (50 : Int32) → P σ1 (-3 : Int32)) ∧
     (¬ (gI σ1 28) = (50 : Int32) → (∃ (c7 s8 : Nat), (∃ (b9 s10 : Nat), b9 + c7 ≤ bc ∧ s10 + s8 ≤ bs ∧ f_X0_made r c7 s8 σ1 x1 (fun σ5 v6 =>
      (∃ a13 : Nat, v6 = some a13 ∧ vp_in (gI σ1 28) 50 ∧ isK kLP σ5 a13 ∧ (∀ σ17 : GS, σ17 = sQ σ5 27 (gI σ1 28).toNatClampNeg (some a13) → (∀ σ18 : GS, σ18 = sI σ17 28 ((gI σ17 28) + (1 : Int32)) → P σ18 ((gI σ18 28) - (1 : Int32)))))))))))))
def f_X0_ran_20 (r : GR) (P : GS → Prop) (σ : GS) : Prop :=
    (∀ σ1 : GS, σ1 = sI σ 25 ((gI σ 25) + (1 : Int32)) → P σ1)
def f_X0_ran (r : GR) (σ : GS) (x1 : Int32) (P : GS → Prop) : Prop :=
    (((24 : Int32) ≤ (gI σ 25) → f_X0_ran_20 r P σ ) ∧
    (¬ (24 : Int32) ≤ (gI σ 25) → vp_in (gI σ 25) 24 ∧ (∀ σ3 : GS, σ3 = sA σ 26 (gI σ 25).toNatClampNeg (vp_nar .byte x1.toInt8.toInt32) → f_X0_ran_20 r P σ3 )))
def f_X15_buys_c13 (r : GR) (σ : GS) (x0 : Nat) (x1 : Int32) (P : GS → Int32 → Prop) : Prop :=
    pV σ x0 13 1 (.ref r.2.1) ∧ f_X0_ran r σ (1 : Int32) (fun σ2 =>
    pI σ2 x0 13 0 (fun v5 => P σ2 (x1 + v5)))
def f_X15_buys_c15 (r : GR) (σ : GS) (x0 : Nat) (x1 : Int32) (P : GS → Int32 → Prop) : Prop :=
    pV σ x0 15 1 (.ref r.2.1) ∧ f_X0_ran r σ (1 : Int32) (fun σ2 =>
    pI σ2 x0 15 0 (fun v5 => P σ2 (x1 + v5)))
def f_X15_buys_c16 (r : GR) (σ : GS) (x0 : Nat) (x1 : Int32) (P : GS → Int32 → Prop) : Prop :=
    pV σ x0 16 1 (.ref r.2.1) ∧ f_X0_ran r σ (1 : Int32) (fun σ2 =>
    pI σ2 x0 16 0 (fun v5 => P σ2 (x1 + v5)))
def f_X15_buys_c17 (r : GR) (σ : GS) (x0 : Nat) (x1 : Int32) (P : GS → Int32 → Prop) : Prop :=
    pV σ x0 17 1 (.ref r.2.1) ∧ f_X0_ran r σ (1 : Int32) (fun σ2 =>
    pI σ2 x0 17 0 (fun v5 => P σ2 (x1 + v5)))
def f_X15_buys_c20 (r : GR) (σ : GS) (x0 : Nat) (x1 : Int32) (P : GS → Int32 → Prop) : Prop :=
    pV σ x0 20 1 (.ref r.2.1) ∧ f_X0_ran r σ (1 : Int32) (fun σ2 =>
    pI σ2 x0 20 0 (fun v5 => P σ2 (x1 + v5)))
def f_X15_buys_c14 (r : GR) (σ : GS) (x0 : Nat) (x1 : Int32) (P : GS → Int32 → Prop) : Prop :=
    pV σ x0 14 1 (.ref r.2.1) ∧ f_X0_ran r σ (1 : Int32) (fun σ2 =>
    pI σ2 x0 14 0 (fun v5 => P σ2 (x1 + v5)))
def f_X16_buys_c14 (r : GR) (σ : GS) (x0 : Nat) (x1 : Int32) (P : GS → Int32 → Prop) : Prop :=
    pV σ x0 14 2 (.ref r.2.1) ∧ f_X0_ran r σ (20 : Int32) (fun σ2 =>
    (∃ f6 : List Value, gO σ2 x0 = some (.inr (14, f6)) ∧ f_X15_buys_c14 r σ2 x0 x1 (fun σ4 v5 =>
    P σ4 (v5 + (3 : Int32)))))
def f_X15_buys_c18 (r : GR) (σ : GS) (x0 : Nat) (x1 : Int32) (P : GS → Int32 → Prop) : Prop :=
    pV σ x0 18 1 (.ref r.2.1) ∧ f_X0_ran r σ (1 : Int32) (fun σ2 =>
    pI σ2 x0 18 0 (fun v5 => P σ2 (x1 + v5)))
def f_X20_buys_c18 (r : GR) (σ : GS) (x0 : Nat) (x1 : Int32) (P : GS → Int32 → Prop) : Prop :=
    pV σ x0 18 4 (.ref r.2.1) ∧ f_X0_ran r σ (60 : Int32) (fun σ2 =>
    (∃ f6 : List Value, gO σ2 x0 = some (.inr (18, f6)) ∧ f_X15_buys_c18 r σ2 x0 (x1 + (1 : Int32)) (fun σ4 v5 =>
    P σ4 v5)))
def f_X15_buys_c19 (r : GR) (σ : GS) (x0 : Nat) (x1 : Int32) (P : GS → Int32 → Prop) : Prop :=
    pV σ x0 19 1 (.ref r.2.1) ∧ f_X0_ran r σ (1 : Int32) (fun σ2 =>
    pI σ2 x0 19 0 (fun v5 => P σ2 (x1 + v5)))
def f_X21_buys_c19 (r : GR) (σ : GS) (x0 : Nat) (x1 : Int32) (P : GS → Int32 → Prop) : Prop :=
    pV σ x0 19 2 (.ref r.2.1) ∧ f_X0_ran r σ (70 : Int32) (fun σ2 =>
    (∃ f6 : List Value, gO σ2 x0 = some (.inr (19, f6)) ∧ f_X15_buys_c19 r σ2 x0 x1 (fun σ4 v5 =>
    P σ4 (v5 * (2 : Int32)))))
def f_PB_buys (r : GR) (σ : GS) (x0 : Nat) (x1 : Int32) (P : GS → Int32 → Prop) : Prop :=
    (∃ fs : List Value, gO σ x0 = some (.inr (13, fs)) ∧ f_X15_buys_c13 r σ x0 x1 P) ∨
    (∃ fs : List Value, gO σ x0 = some (.inr (14, fs)) ∧ f_X16_buys_c14 r σ x0 x1 P) ∨
    (∃ fs : List Value, gO σ x0 = some (.inr (15, fs)) ∧ f_X15_buys_c15 r σ x0 x1 P) ∨
    (∃ fs : List Value, gO σ x0 = some (.inr (16, fs)) ∧ f_X15_buys_c16 r σ x0 x1 P) ∨
    (∃ fs : List Value, gO σ x0 = some (.inr (17, fs)) ∧ f_X15_buys_c17 r σ x0 x1 P) ∨
    (∃ fs : List Value, gO σ x0 = some (.inr (18, fs)) ∧ f_X20_buys_c18 r σ x0 x1 P) ∨
    (∃ fs : List Value, gO σ x0 = some (.inr (19, fs)) ∧ f_X21_buys_c19 r σ x0 x1 P) ∨
    (∃ fs : List Value, gO σ x0 = some (.inr (20, fs)) ∧ f_X15_buys_c20 r σ x0 x1 P)
def f_X15_keeps_c13 (r : GR) (σ : GS) (x0 : Nat) (x1 : Int32) (P : GS → Int32 → Prop) : Prop :=
    pV σ x0 13 1 (.ref r.2.1) ∧ f_X0_ran r σ (10 : Int32) (fun σ2 =>
    (∃ f6 : List Value, gO σ2 x0 = some (.inr (13, f6)) ∧ f_X15_buys_c13 r σ2 x0 x1 (fun σ4 v5 =>
    P σ4 (v5 * (2 : Int32)))))
def f_X15_keeps_c14 (r : GR) (σ : GS) (x0 : Nat) (x1 : Int32) (P : GS → Int32 → Prop) : Prop :=
    pV σ x0 14 1 (.ref r.2.1) ∧ f_X0_ran r σ (10 : Int32) (fun σ2 =>
    (∃ f6 : List Value, gO σ2 x0 = some (.inr (14, f6)) ∧ f_X16_buys_c14 r σ2 x0 x1 (fun σ4 v5 =>
    P σ4 (v5 * (2 : Int32)))))
def f_X15_keeps_c19 (r : GR) (σ : GS) (x0 : Nat) (x1 : Int32) (P : GS → Int32 → Prop) : Prop :=
    pV σ x0 19 1 (.ref r.2.1) ∧ f_X0_ran r σ (10 : Int32) (fun σ2 =>
    (∃ f6 : List Value, gO σ2 x0 = some (.inr (19, f6)) ∧ f_X21_buys_c19 r σ2 x0 x1 (fun σ4 v5 =>
    P σ4 (v5 * (2 : Int32)))))
def f_X15_keeps_c15 (r : GR) (σ : GS) (x0 : Nat) (x1 : Int32) (P : GS → Int32 → Prop) : Prop :=
    pV σ x0 15 1 (.ref r.2.1) ∧ f_X0_ran r σ (10 : Int32) (fun σ2 =>
    (∃ f6 : List Value, gO σ2 x0 = some (.inr (15, f6)) ∧ f_X15_buys_c15 r σ2 x0 x1 (fun σ4 v5 =>
    P σ4 (v5 * (2 : Int32)))))
def f_X17_keeps_c15 (r : GR) (σ : GS) (x0 : Nat) (x1 : Int32) (P : GS → Int32 → Prop) : Prop :=
    pV σ x0 15 2 (.ref r.2.1) ∧ f_X0_ran r σ (30 : Int32) (fun σ2 =>
    (∃ f6 : List Value, gO σ2 x0 = some (.inr (15, f6)) ∧ f_X15_keeps_c15 r σ2 x0 x1 (fun σ4 v5 =>
    P σ4 (-v5))))
def f_X15_keeps_c16 (r : GR) (σ : GS) (x0 : Nat) (x1 : Int32) (P : GS → Int32 → Prop) : Prop :=
    pV σ x0 16 1 (.ref r.2.1) ∧ f_X0_ran r σ (10 : Int32) (fun σ2 =>
    (∃ f6 : List Value, gO σ2 x0 = some (.inr (16, f6)) ∧ f_X15_buys_c16 r σ2 x0 x1 (fun σ4 v5 =>
    P σ4 (v5 * (2 : Int32)))))
def f_X17_keeps_c16 (r : GR) (σ : GS) (x0 : Nat) (x1 : Int32) (P : GS → Int32 → Prop) : Prop :=
    pV σ x0 16 2 (.ref r.2.1) ∧ f_X0_ran r σ (30 : Int32) (fun σ2 =>
    (∃ f6 : List Value, gO σ2 x0 = some (.inr (16, f6)) ∧ f_X15_keeps_c16 r σ2 x0 x1 (fun σ4 v5 =>
    P σ4 (-v5))))
def f_X15_keeps_c17 (r : GR) (σ : GS) (x0 : Nat) (x1 : Int32) (P : GS → Int32 → Prop) : Prop :=
    pV σ x0 17 1 (.ref r.2.1) ∧ f_X0_ran r σ (10 : Int32) (fun σ2 =>
    (∃ f6 : List Value, gO σ2 x0 = some (.inr (17, f6)) ∧ f_X15_buys_c17 r σ2 x0 x1 (fun σ4 v5 =>
    P σ4 (v5 * (2 : Int32)))))
def f_X17_keeps_c17 (r : GR) (σ : GS) (x0 : Nat) (x1 : Int32) (P : GS → Int32 → Prop) : Prop :=
    pV σ x0 17 2 (.ref r.2.1) ∧ f_X0_ran r σ (30 : Int32) (fun σ2 =>
    (∃ f6 : List Value, gO σ2 x0 = some (.inr (17, f6)) ∧ f_X15_keeps_c17 r σ2 x0 x1 (fun σ4 v5 =>
    P σ4 (-v5))))
def f_X15_keeps_c18 (r : GR) (σ : GS) (x0 : Nat) (x1 : Int32) (P : GS → Int32 → Prop) : Prop :=
    pV σ x0 18 1 (.ref r.2.1) ∧ f_X0_ran r σ (10 : Int32) (fun σ2 =>
    (∃ f6 : List Value, gO σ2 x0 = some (.inr (18, f6)) ∧ f_X20_buys_c18 r σ2 x0 x1 (fun σ4 v5 =>
    P σ4 (v5 * (2 : Int32)))))
def f_X17_keeps_c18 (r : GR) (σ : GS) (x0 : Nat) (x1 : Int32) (P : GS → Int32 → Prop) : Prop :=
    pV σ x0 18 2 (.ref r.2.1) ∧ f_X0_ran r σ (30 : Int32) (fun σ2 =>
    (∃ f6 : List Value, gO σ2 x0 = some (.inr (18, f6)) ∧ f_X15_keeps_c18 r σ2 x0 x1 (fun σ4 v5 =>
    P σ4 (-v5))))
def f_X15_keeps_c20 (r : GR) (σ : GS) (x0 : Nat) (x1 : Int32) (P : GS → Int32 → Prop) : Prop :=
    pV σ x0 20 1 (.ref r.2.1) ∧ f_X0_ran r σ (10 : Int32) (fun σ2 =>
    (∃ f6 : List Value, gO σ2 x0 = some (.inr (20, f6)) ∧ f_X15_buys_c20 r σ2 x0 x1 (fun σ4 v5 =>
    P σ4 (v5 * (2 : Int32)))))
def f_X17_keeps_c20 (r : GR) (σ : GS) (x0 : Nat) (x1 : Int32) (P : GS → Int32 → Prop) : Prop :=
    pV σ x0 20 2 (.ref r.2.1) ∧ f_X0_ran r σ (30 : Int32) (fun σ2 =>
    (∃ f6 : List Value, gO σ2 x0 = some (.inr (20, f6)) ∧ f_X15_keeps_c20 r σ2 x0 x1 (fun σ4 v5 =>
    P σ4 (-v5))))
def f_X15_lends_c20 (r : GR) (σ : GS) (x0 : Nat) (x1 : Int32) (P : GS → Int32 → Prop) : Prop :=
    pV σ x0 20 1 (.ref r.2.1) ∧ f_X0_ran r σ (11 : Int32) (fun σ2 =>
    pI σ2 x0 20 0 (fun v5 => P σ2 (x1 ^^^ v5)))
def f_X19_lends_c20 (r : GR) (σ : GS) (x0 : Nat) (x1 : Int32) (P : GS → Int32 → Prop) : Prop :=
    pV σ x0 20 3 (.ref r.2.1) ∧ f_X0_ran r σ (50 : Int32) (fun σ2 =>
    (∃ f6 : List Value, gO σ2 x0 = some (.inr (20, f6)) ∧ f_X15_lends_c20 r σ2 x0 x1 (fun σ4 v5 =>
    (∃ f10 : List Value, gO σ4 x0 = some (.inr (20, f10)) ∧ f_X15_buys_c20 r σ4 x0 (2 : Int32) (fun σ8 v9 =>
    P σ8 (v5 - v9))))))
def f_X22_keeps_c20 (r : GR) (σ : GS) (x0 : Nat) (x1 : Int32) (P : GS → Int32 → Prop) : Prop :=
    pV σ x0 20 4 (.ref r.2.1) ∧ f_X0_ran r σ (80 : Int32) (fun σ2 =>
    (∃ f6 : List Value, gO σ2 x0 = some (.inr (20, f6)) ∧ f_X17_keeps_c20 r σ2 x0 x1 (fun σ4 v5 =>
    (∃ f10 : List Value, gO σ4 x0 = some (.inr (20, f10)) ∧ f_X19_lends_c20 r σ4 x0 (2 : Int32) (fun σ8 v9 =>
    P σ8 (v5 + v9))))))
def f_PB_keeps (r : GR) (σ : GS) (x0 : Nat) (x1 : Int32) (P : GS → Int32 → Prop) : Prop :=
    (∃ fs : List Value, gO σ x0 = some (.inr (13, fs)) ∧ f_X15_keeps_c13 r σ x0 x1 P) ∨
    (∃ fs : List Value, gO σ x0 = some (.inr (14, fs)) ∧ f_X15_keeps_c14 r σ x0 x1 P) ∨
    (∃ fs : List Value, gO σ x0 = some (.inr (15, fs)) ∧ f_X17_keeps_c15 r σ x0 x1 P) ∨
    (∃ fs : List Value, gO σ x0 = some (.inr (16, fs)) ∧ f_X17_keeps_c16 r σ x0 x1 P) ∨
    (∃ fs : List Value, gO σ x0 = some (.inr (17, fs)) ∧ f_X17_keeps_c17 r σ x0 x1 P) ∨
    (∃ fs : List Value, gO σ x0 = some (.inr (18, fs)) ∧ f_X17_keeps_c18 r σ x0 x1 P) ∨
    (∃ fs : List Value, gO σ x0 = some (.inr (19, fs)) ∧ f_X15_keeps_c19 r σ x0 x1 P) ∨
    (∃ fs : List Value, gO σ x0 = some (.inr (20, fs)) ∧ f_X22_keeps_c20 r σ x0 x1 P)
def f_X15_lends_c13 (r : GR) (σ : GS) (x0 : Nat) (x1 : Int32) (P : GS → Int32 → Prop) : Prop :=
    pV σ x0 13 1 (.ref r.2.1) ∧ f_X0_ran r σ (11 : Int32) (fun σ2 =>
    pI σ2 x0 13 0 (fun v5 => P σ2 (x1 ^^^ v5)))
def f_X15_lends_c14 (r : GR) (σ : GS) (x0 : Nat) (x1 : Int32) (P : GS → Int32 → Prop) : Prop :=
    pV σ x0 14 1 (.ref r.2.1) ∧ f_X0_ran r σ (11 : Int32) (fun σ2 =>
    pI σ2 x0 14 0 (fun v5 => P σ2 (x1 ^^^ v5)))
def f_X15_lends_c15 (r : GR) (σ : GS) (x0 : Nat) (x1 : Int32) (P : GS → Int32 → Prop) : Prop :=
    pV σ x0 15 1 (.ref r.2.1) ∧ f_X0_ran r σ (11 : Int32) (fun σ2 =>
    pI σ2 x0 15 0 (fun v5 => P σ2 (x1 ^^^ v5)))
def f_X15_lends_c19 (r : GR) (σ : GS) (x0 : Nat) (x1 : Int32) (P : GS → Int32 → Prop) : Prop :=
    pV σ x0 19 1 (.ref r.2.1) ∧ f_X0_ran r σ (11 : Int32) (fun σ2 =>
    pI σ2 x0 19 0 (fun v5 => P σ2 (x1 ^^^ v5)))
def f_X15_lends_c16 (r : GR) (σ : GS) (x0 : Nat) (x1 : Int32) (P : GS → Int32 → Prop) : Prop :=
    pV σ x0 16 1 (.ref r.2.1) ∧ f_X0_ran r σ (11 : Int32) (fun σ2 =>
    pI σ2 x0 16 0 (fun v5 => P σ2 (x1 ^^^ v5)))
def f_X18_lends_c16 (r : GR) (σ : GS) (x0 : Nat) (x1 : Int32) (P : GS → Int32 → Prop) : Prop :=
    pV σ x0 16 3 (.ref r.2.1) ∧ f_X0_ran r σ (40 : Int32) (fun σ2 =>
    (∃ f6 : List Value, gO σ2 x0 = some (.inr (16, f6)) ∧ f_X15_lends_c16 r σ2 x0 x1 (fun σ4 v5 =>
    P σ4 (v5 * (3 : Int32)))))
def f_X15_lends_c18 (r : GR) (σ : GS) (x0 : Nat) (x1 : Int32) (P : GS → Int32 → Prop) : Prop :=
    pV σ x0 18 1 (.ref r.2.1) ∧ f_X0_ran r σ (11 : Int32) (fun σ2 =>
    pI σ2 x0 18 0 (fun v5 => P σ2 (x1 ^^^ v5)))
def f_X18_lends_c18 (r : GR) (σ : GS) (x0 : Nat) (x1 : Int32) (P : GS → Int32 → Prop) : Prop :=
    pV σ x0 18 3 (.ref r.2.1) ∧ f_X0_ran r σ (40 : Int32) (fun σ2 =>
    (∃ f6 : List Value, gO σ2 x0 = some (.inr (18, f6)) ∧ f_X15_lends_c18 r σ2 x0 x1 (fun σ4 v5 =>
    P σ4 (v5 * (3 : Int32)))))
def f_X15_lends_c17 (r : GR) (σ : GS) (x0 : Nat) (x1 : Int32) (P : GS → Int32 → Prop) : Prop :=
    pV σ x0 17 1 (.ref r.2.1) ∧ f_X0_ran r σ (11 : Int32) (fun σ2 =>
    pI σ2 x0 17 0 (fun v5 => P σ2 (x1 ^^^ v5)))
def f_X19_lends_c17 (r : GR) (σ : GS) (x0 : Nat) (x1 : Int32) (P : GS → Int32 → Prop) : Prop :=
    pV σ x0 17 3 (.ref r.2.1) ∧ f_X0_ran r σ (50 : Int32) (fun σ2 =>
    (∃ f6 : List Value, gO σ2 x0 = some (.inr (17, f6)) ∧ f_X15_lends_c17 r σ2 x0 x1 (fun σ4 v5 =>
    (∃ f10 : List Value, gO σ4 x0 = some (.inr (17, f10)) ∧ f_X15_buys_c17 r σ4 x0 (2 : Int32) (fun σ8 v9 =>
    P σ8 (v5 - v9))))))
def f_PB_lends (r : GR) (σ : GS) (x0 : Nat) (x1 : Int32) (P : GS → Int32 → Prop) : Prop :=
    (∃ fs : List Value, gO σ x0 = some (.inr (13, fs)) ∧ f_X15_lends_c13 r σ x0 x1 P) ∨
    (∃ fs : List Value, gO σ x0 = some (.inr (14, fs)) ∧ f_X15_lends_c14 r σ x0 x1 P) ∨
    (∃ fs : List Value, gO σ x0 = some (.inr (15, fs)) ∧ f_X15_lends_c15 r σ x0 x1 P) ∨
    (∃ fs : List Value, gO σ x0 = some (.inr (16, fs)) ∧ f_X18_lends_c16 r σ x0 x1 P) ∨
    (∃ fs : List Value, gO σ x0 = some (.inr (17, fs)) ∧ f_X19_lends_c17 r σ x0 x1 P) ∨
    (∃ fs : List Value, gO σ x0 = some (.inr (18, fs)) ∧ f_X18_lends_c18 r σ x0 x1 P) ∨
    (∃ fs : List Value, gO σ x0 = some (.inr (19, fs)) ∧ f_X15_lends_c19 r σ x0 x1 P) ∨
    (∃ fs : List Value, gO σ x0 = some (.inr (20, fs)) ∧ f_X19_lends_c20 r σ x0 x1 P)
def f_X15_tells_c13 (r : GR) (σ : GS) (x0 : Nat) (x1 : Int32) (P : GS → Int32 → Prop) : Prop :=
    pV σ x0 13 1 (.ref r.2.1) ∧ f_X0_ran r σ (2 : Int32) (fun σ2 =>
    (∃ f6 : List Value, gO σ2 x0 = some (.inr (13, f6)) ∧ f_X15_keeps_c13 r σ2 x0 x1 (fun σ4 v5 =>
    (∃ f10 : List Value, gO σ4 x0 = some (.inr (13, f10)) ∧ f_X15_lends_c13 r σ4 x0 (1 : Int32) (fun σ8 v9 =>
    P σ8 (v5 - v9))))))
def f_X15_tells_c14 (r : GR) (σ : GS) (x0 : Nat) (x1 : Int32) (P : GS → Int32 → Prop) : Prop :=
    pV σ x0 14 1 (.ref r.2.1) ∧ f_X0_ran r σ (2 : Int32) (fun σ2 =>
    (∃ f6 : List Value, gO σ2 x0 = some (.inr (14, f6)) ∧ f_X15_keeps_c14 r σ2 x0 x1 (fun σ4 v5 =>
    (∃ f10 : List Value, gO σ4 x0 = some (.inr (14, f10)) ∧ f_X15_lends_c14 r σ4 x0 (1 : Int32) (fun σ8 v9 =>
    P σ8 (v5 - v9))))))
def f_X15_tells_c15 (r : GR) (σ : GS) (x0 : Nat) (x1 : Int32) (P : GS → Int32 → Prop) : Prop :=
    pV σ x0 15 1 (.ref r.2.1) ∧ f_X0_ran r σ (2 : Int32) (fun σ2 =>
    (∃ f6 : List Value, gO σ2 x0 = some (.inr (15, f6)) ∧ f_X17_keeps_c15 r σ2 x0 x1 (fun σ4 v5 =>
    (∃ f10 : List Value, gO σ4 x0 = some (.inr (15, f10)) ∧ f_X15_lends_c15 r σ4 x0 (1 : Int32) (fun σ8 v9 =>
    P σ8 (v5 - v9))))))
def f_X15_tells_c16 (r : GR) (σ : GS) (x0 : Nat) (x1 : Int32) (P : GS → Int32 → Prop) : Prop :=
    pV σ x0 16 1 (.ref r.2.1) ∧ f_X0_ran r σ (2 : Int32) (fun σ2 =>
    (∃ f6 : List Value, gO σ2 x0 = some (.inr (16, f6)) ∧ f_X17_keeps_c16 r σ2 x0 x1 (fun σ4 v5 =>
    (∃ f10 : List Value, gO σ4 x0 = some (.inr (16, f10)) ∧ f_X18_lends_c16 r σ4 x0 (1 : Int32) (fun σ8 v9 =>
    P σ8 (v5 - v9))))))
def f_X15_tells_c17 (r : GR) (σ : GS) (x0 : Nat) (x1 : Int32) (P : GS → Int32 → Prop) : Prop :=
    pV σ x0 17 1 (.ref r.2.1) ∧ f_X0_ran r σ (2 : Int32) (fun σ2 =>
    (∃ f6 : List Value, gO σ2 x0 = some (.inr (17, f6)) ∧ f_X17_keeps_c17 r σ2 x0 x1 (fun σ4 v5 =>
    (∃ f10 : List Value, gO σ4 x0 = some (.inr (17, f10)) ∧ f_X19_lends_c17 r σ4 x0 (1 : Int32) (fun σ8 v9 =>
    P σ8 (v5 - v9))))))
def f_X15_tells_c19 (r : GR) (σ : GS) (x0 : Nat) (x1 : Int32) (P : GS → Int32 → Prop) : Prop :=
    pV σ x0 19 1 (.ref r.2.1) ∧ f_X0_ran r σ (2 : Int32) (fun σ2 =>
    (∃ f6 : List Value, gO σ2 x0 = some (.inr (19, f6)) ∧ f_X15_keeps_c19 r σ2 x0 x1 (fun σ4 v5 =>
    (∃ f10 : List Value, gO σ4 x0 = some (.inr (19, f10)) ∧ f_X15_lends_c19 r σ4 x0 (1 : Int32) (fun σ8 v9 =>
    P σ8 (v5 - v9))))))
def f_X15_tells_c18 (r : GR) (σ : GS) (x0 : Nat) (x1 : Int32) (P : GS → Int32 → Prop) : Prop :=
    pV σ x0 18 1 (.ref r.2.1) ∧ f_X0_ran r σ (2 : Int32) (fun σ2 =>
    (∃ f6 : List Value, gO σ2 x0 = some (.inr (18, f6)) ∧ f_X17_keeps_c18 r σ2 x0 x1 (fun σ4 v5 =>
    (∃ f10 : List Value, gO σ4 x0 = some (.inr (18, f10)) ∧ f_X18_lends_c18 r σ4 x0 (1 : Int32) (fun σ8 v9 =>
    P σ8 (v5 - v9))))))
def f_X20_tells_c18 (r : GR) (σ : GS) (x0 : Nat) (x1 : Int32) (P : GS → Int32 → Prop) : Prop :=
    pV σ x0 18 4 (.ref r.2.1) ∧ f_X0_ran r σ (61 : Int32) (fun σ2 =>
    (∃ f6 : List Value, gO σ2 x0 = some (.inr (18, f6)) ∧ f_X15_tells_c18 r σ2 x0 x1 (fun σ4 v5 =>
    P σ4 (v5 ^^^ (5 : Int32)))))
def f_X15_tells_c20 (r : GR) (σ : GS) (x0 : Nat) (x1 : Int32) (P : GS → Int32 → Prop) : Prop :=
    pV σ x0 20 1 (.ref r.2.1) ∧ f_X0_ran r σ (2 : Int32) (fun σ2 =>
    (∃ f6 : List Value, gO σ2 x0 = some (.inr (20, f6)) ∧ f_X22_keeps_c20 r σ2 x0 x1 (fun σ4 v5 =>
    (∃ f10 : List Value, gO σ4 x0 = some (.inr (20, f10)) ∧ f_X19_lends_c20 r σ4 x0 (1 : Int32) (fun σ8 v9 =>
    P σ8 (v5 - v9))))))
def f_X22_tells_c20 (r : GR) (σ : GS) (x0 : Nat) (x1 : Int32) (P : GS → Int32 → Prop) : Prop :=
    pV σ x0 20 4 (.ref r.2.1) ∧ f_X0_ran r σ (81 : Int32) (fun σ2 =>
    (∃ f6 : List Value, gO σ2 x0 = some (.inr (20, f6)) ∧ f_X15_tells_c20 r σ2 x0 x1 (fun σ4 v5 =>
    P σ4 (v5 - (1 : Int32)))))
def f_PB_tells (r : GR) (σ : GS) (x0 : Nat) (x1 : Int32) (P : GS → Int32 → Prop) : Prop :=
    (∃ fs : List Value, gO σ x0 = some (.inr (13, fs)) ∧ f_X15_tells_c13 r σ x0 x1 P) ∨
    (∃ fs : List Value, gO σ x0 = some (.inr (14, fs)) ∧ f_X15_tells_c14 r σ x0 x1 P) ∨
    (∃ fs : List Value, gO σ x0 = some (.inr (15, fs)) ∧ f_X15_tells_c15 r σ x0 x1 P) ∨
    (∃ fs : List Value, gO σ x0 = some (.inr (16, fs)) ∧ f_X15_tells_c16 r σ x0 x1 P) ∨
    (∃ fs : List Value, gO σ x0 = some (.inr (17, fs)) ∧ f_X15_tells_c17 r σ x0 x1 P) ∨
    (∃ fs : List Value, gO σ x0 = some (.inr (18, fs)) ∧ f_X20_tells_c18 r σ x0 x1 P) ∨
    (∃ fs : List Value, gO σ x0 = some (.inr (19, fs)) ∧ f_X15_tells_c19 r σ x0 x1 P) ∨
    (∃ fs : List Value, gO σ x0 = some (.inr (20, fs)) ∧ f_X22_tells_c20 r σ x0 x1 P)
def f_X0_isBody (r : GR) (σ : GS) (x1 : Int32) (P : GS → Int32 → Prop) : Prop :=
    f_X0_in r σ x1 (0 : Int32) ((gI σ 28) - (1 : Int32)) (fun σ1 v2 =>
    gZ v2 ∧ P σ1 v2)
def f_X0_act (r : GR) (σ : GS) (x1 : Int32) (x2 : Int32) (x3 : Int32) (P : GS → Int32 → Prop) : Prop :=
    (∀ σ1 : GS, σ1 = sI σ 25 (0 : Int32) → f_X0_isBody r σ1 x1 (fun σ2 v3 =>
    ((v3 = 0 → P σ2 (0 : Int32)) ∧
    (¬ v3 = 0 → f_X0_in r σ2 x2 (0 : Int32) (3 : Int32) (fun σ5 v6 =>
     ((v6 = 0 → P σ5 (0 : Int32)) ∧
     (¬ v6 = 0 → vp_in x1 50 ∧ (∃ a9 : Nat, gQ σ5 27 x1.toNatClampNeg = some a9 ∧ ((x2 = 0 → f_PB_buys r σ5 a9 x3 (fun σ20 v21 =>
       P σ20 v21)) ∧
      (¬ x2 = 0 → ((x2 = (3 : Int32) → f_PB_tells r σ5 a9 x3 (fun σ18 v19 =>
        P σ18 v19)) ∧
       (¬ x2 = (3 : Int32) → ((x2 = (1 : Int32) → f_PB_keeps r σ5 a9 x3 (fun σ16 v17 =>
         P σ16 v17)) ∧
        (¬ x2 = (1 : Int32) → f_PB_lends r σ5 a9 x3 (fun σ14 v15 =>
         P σ14 v15)))))))))))))))
def f_X0_trace (r : GR) (σ : GS) (x1 : Int32) (P : GS → Int32 → Prop) : Prop :=
    ((x1 < 0 → P σ (-1 : Int32)) ∧
    (¬ x1 < 0 → (((gI σ 25) ≤ x1 → P σ (-1 : Int32)) ∧
     (¬ (gI σ 25) ≤ x1 → (((24 : Int32) ≤ x1 → P σ (-1 : Int32)) ∧
      (¬ (24 : Int32) ≤ x1 → vp_in x1 24 ∧ P σ (gA σ 26 x1.toNatClampNeg)))))))
def f_X0_keep_41 (r : GR) (P : GS → Int32 → Prop) (σ : GS) (t2 : Option Nat) (t1 : Int32) : Prop :=
    ((t2 = none → vp_in t1 6 ∧ (∀ σ5 : GS, σ5 = sQ σ 29 t1.toNatClampNeg none → P σ5 (1 : Int32))) ∧
    (¬ t2 = none → (∃ a2 : Nat, t2 = some a2 ∧ vp_in t1 6 ∧ isK kLH σ a2 ∧ (∀ σ8 : GS, σ8 = sQ σ 29 t1.toNatClampNeg (some a2) → P σ8 (1 : Int32)))))
def f_X0_keep_22 (r : GR) (P : GS → Int32 → Prop) (σ : GS) (x1 : Int32) (x2 : Int32) : Prop :=
    ((0 ≤ x2 → vp_in x2 50 ∧ (∃ a3 : Nat, gQ σ 27 x2.toNatClampNeg = some a3 ∧ f_X0_keep_41 r P σ (some a3) x1)) ∧
    (¬ 0 ≤ x2 → f_X0_keep_41 r P σ none x1))
def f_X0_keep (r : GR) (σ : GS) (x1 : Int32) (x2 : Int32) (P : GS → Int32 → Prop) : Prop :=
    f_X0_isShelf r σ x1 (fun σ1 v2 =>
    ((v2 = 0 → P σ1 (-1 : Int32)) ∧
    (¬ v2 = 0 → ((x2 = (-1 : Int32) → f_X0_keep_22 r P σ1 x1 x2) ∧
     (¬ x2 = (-1 : Int32) → f_X0_isBody r σ1 x2 (fun σ5 v6 =>
      ((v6 = 0 → P σ5 (-1 : Int32)) ∧
      (¬ v6 = 0 → f_X0_keep_22 r P σ5 x1 x2))))))))
def f_X0_count (r : GR) (σ : GS) (x1 : Int32) (P : GS → Int32 → Prop) : Prop :=
    ((x1 = (0 : Int32) → P σ (gI σ 2)) ∧
    (¬ x1 = (0 : Int32) → ((x1 = (1 : Int32) → P σ (gI σ 3)) ∧
    (¬ x1 = (1 : Int32) → ((x1 = (2 : Int32) → P σ (gI σ 10)) ∧
    (¬ x1 = (2 : Int32) → ((x1 = (3 : Int32) → P σ (gI σ 8)) ∧
    (¬ x1 = (3 : Int32) → ((x1 = (4 : Int32) → P σ (gI σ 5)) ∧
    (¬ x1 = (4 : Int32) → ((x1 = (5 : Int32) → P σ (gI σ 28)) ∧
    (¬ x1 = (5 : Int32) → ((x1 = (6 : Int32) → P σ (gI σ 25)) ∧
    (¬ x1 = (6 : Int32) → P σ (-1 : Int32)))))))))))))))
def f_X23_init (r : GR) (σ : GS) (x0 : Nat) (P : GS → Prop) : Prop :=
    f_X14_init r σ x0 (fun σ1 =>
    P σ1)
def f_X1_init_e (r : GR) (bc bs : Nat) (σ : GS) (x0 : Nat) (P : GS → Prop) : Prop :=
    (∃ (b3 s4 : Nat), b3 + 1 ≤ bc ∧ s4 + 128 ≤ bs ∧ (∀ a1 : Nat, gO σ a1 = none → ∀ σ2 : GS, σ2 = sO σ a1 (some (.inl (r.2.2.2 0, 128, .inl (fun _ => 0)))) → pS σ2 x0 1 0 (.ref a1) (fun σ7 =>
    P σ7)))
def f_X0_init_e (r : GR) (bc bs : Nat) (σ : GS) (x0 : Nat) (P : GS → Prop) : Prop :=
    (∃ (b3 s4 : Nat), b3 + 1 ≤ bc ∧ s4 + 6 ≤ bs ∧ (∀ a1 : Nat, gO σ a1 = none → ∀ σ2 : GS, σ2 = sO σ a1 (some (.inl (r.2.2.2 5, 6, .inr (.inr (.inr (.inr (fun _ => none))))))) → pS σ2 x0 0 0 (.ref a1) (fun σ7 =>
    (∃ (b10 s11 : Nat), b10 + 1 ≤ b3 ∧ s11 + 5 ≤ s4 ∧ (∀ a8 : Nat, gO σ7 a8 = none → ∀ σ9 : GS, σ9 = sO σ7 a8 (some (.inl (r.2.2.2 6, 5, .inr (.inr (.inr (.inr (fun _ => none))))))) → pS σ9 x0 0 1 (.ref a8) (fun σ14 =>
    (∃ (b17 s18 : Nat), b17 + 1 ≤ b10 ∧ s18 + 40 ≤ s11 ∧ (∀ a15 : Nat, gO σ14 a15 = none → ∀ σ16 : GS, σ16 = sO σ14 a15 (some (.inl (r.2.2.2 7, 40, .inr (.inr (.inr (.inr (fun _ => none))))))) → pS σ16 x0 0 4 (.ref a15) (fun σ21 =>
    (∃ (b24 s25 : Nat), b24 + 1 ≤ b17 ∧ s25 + 120 ≤ s18 ∧ (∀ a22 : Nat, gO σ21 a22 = none → ∀ σ23 : GS, σ23 = sO σ21 a22 (some (.inl (r.2.2.2 2, 120, .inl (fun _ => 0)))) → pS σ23 x0 0 7 (.ref a22) (fun σ28 =>
    (∃ (b31 s32 : Nat), b31 + 1 ≤ b24 ∧ s32 + 4 ≤ s25 ∧ (∀ a29 : Nat, gO σ28 a29 = none → ∀ σ30 : GS, σ30 = sO σ28 a29 (some (.inl (r.2.2.2 8, 4, .inr (.inr (.inr (.inr (fun _ => none))))))) → pS σ30 x0 0 9 (.ref a29) (fun σ35 =>
    (∃ (b38 s39 : Nat), b38 + 1 ≤ b31 ∧ s39 + 1 ≤ s32 ∧ (∀ a36 : Nat, gO σ35 a36 = none → ∀ σ37 : GS, σ37 = sO σ35 a36 (some (.inr (1, [.null]))) → (∃ (c44 s45 : Nat), (∃ (b46 s47 : Nat), b46 + c44 ≤ b38 ∧ s47 + s45 ≤ s39 ∧ f_X1_init_e r c44 s45 σ37 a36 (fun σ42 =>
    pS σ42 x0 0 11 (.ref a36) (fun σ50 =>
    (∃ (b53 s54 : Nat), b53 + 1 ≤ b46 ∧ s54 + 4096 ≤ s47 ∧ (∀ a51 : Nat, gO σ50 a51 = none → ∀ σ52 : GS, σ52 = sO σ50 a51 (some (.inl (r.2.2.2 0, 4096, .inl (fun _ => 0)))) → pS σ52 x0 0 12 (.ref a51) (fun σ57 =>
    (∃ (b60 s61 : Nat), b60 + 1 ≤ b53 ∧ s61 + 4096 ≤ s54 ∧ (∀ a58 : Nat, gO σ57 a58 = none → ∀ σ59 : GS, σ59 = sO σ57 a58 (some (.inl (r.2.2.2 0, 4096, .inl (fun _ => 0)))) → pS σ59 x0 0 13 (.ref a58) (fun σ64 =>
    (∃ (b67 s68 : Nat), b67 + 1 ≤ b60 ∧ s68 + 4096 ≤ s61 ∧ (∀ a65 : Nat, gO σ64 a65 = none → ∀ σ66 : GS, σ66 = sO σ64 a65 (some (.inl (r.2.2.2 0, 4096, .inl (fun _ => 0)))) → pS σ66 x0 0 14 (.ref a65) (fun σ71 =>
    (∃ (b74 s75 : Nat), b74 + 1 ≤ b67 ∧ s75 + 24 ≤ s68 ∧ (∀ a72 : Nat, gO σ71 a72 = none → ∀ σ73 : GS, σ73 = sO σ71 a72 (some (.inl (r.2.2.2 0, 24, .inl (fun _ => 0)))) → pS σ73 x0 0 15 (.ref a72) (fun σ78 =>
    (∃ (b81 s82 : Nat), b81 + 1 ≤ b74 ∧ s82 + 6 ≤ s75 ∧ (∀ a79 : Nat, gO σ78 a79 = none → ∀ σ80 : GS, σ80 = sO σ78 a79 (some (.inl (r.2.2.2 0, 6, .inl (fun _ => 0)))) → pS σ80 x0 0 16 (.ref a79) (fun σ85 =>
    (∃ (b88 s89 : Nat), b88 + 1 ≤ b81 ∧ s89 + 6 ≤ s82 ∧ (∀ a86 : Nat, gO σ85 a86 = none → ∀ σ87 : GS, σ87 = sO σ85 a86 (some (.inl (r.2.2.2 0, 6, .inl (fun _ => 0)))) → pS σ87 x0 0 17 (.ref a86) (fun σ92 =>
    (∃ (b95 s96 : Nat), b95 + 1 ≤ b88 ∧ s96 + 6 ≤ s89 ∧ (∀ a93 : Nat, gO σ92 a93 = none → ∀ σ94 : GS, σ94 = sO σ92 a93 (some (.inl (r.2.2.2 0, 6, .inl (fun _ => 0)))) → pS σ94 x0 0 18 (.ref a93) (fun σ99 =>
    (∃ (b102 s103 : Nat), b102 + 1 ≤ b95 ∧ s103 + 6 ≤ s96 ∧ (∀ a100 : Nat, gO σ99 a100 = none → ∀ σ101 : GS, σ101 = sO σ99 a100 (some (.inl (r.2.2.2 0, 6, .inl (fun _ => 0)))) → pS σ101 x0 0 19 (.ref a100) (fun σ106 =>
    (∃ (b109 s110 : Nat), b109 + 1 ≤ b102 ∧ s110 + 259 ≤ s103 ∧ (∀ a107 : Nat, gO σ106 a107 = none → ∀ σ108 : GS, σ108 = sO σ106 a107 (some (.inl (r.2.2.2 0, 259, .inl (fun _ => 0)))) → pS σ108 x0 0 24 (.ref a107) (fun σ113 =>
    (∃ (b116 s117 : Nat), b116 + 1 ≤ b109 ∧ s117 + 24 ≤ s110 ∧ (∀ a114 : Nat, gO σ113 a114 = none → ∀ σ115 : GS, σ115 = sO σ113 a114 (some (.inl (r.2.2.2 2, 24, .inl (fun _ => 0)))) → pS σ115 x0 0 26 (.ref a114) (fun σ120 =>
    (∃ (b123 s124 : Nat), b123 + 1 ≤ b116 ∧ s124 + 50 ≤ s117 ∧ (∀ a121 : Nat, gO σ120 a121 = none → ∀ σ122 : GS, σ122 = sO σ120 a121 (some (.inl (r.2.2.2 9, 50, .inr (.inr (.inr (.inr (fun _ => none))))))) → pS σ122 x0 0 27 (.ref a121) (fun σ127 =>
    (∃ (b130 s131 : Nat), b130 + 1 ≤ b123 ∧ s131 + 6 ≤ s124 ∧ (∀ a128 : Nat, gO σ127 a128 = none → ∀ σ129 : GS, σ129 = sO σ127 a128 (some (.inl (r.2.2.2 10, 6, .inr (.inr (.inr (.inr (fun _ => none))))))) → pS σ129 x0 0 29 (.ref a128) (fun σ134 =>
    P σ134)))))))))))))))))))))))))))))))))))))))))))))))))))))))))
def f_X2_init_e_226 (r : GR) (P : GS → Prop) : Nat → Nat → Nat → GS → Nat → Int32 → Prop
  | 0 => fun _ _ _ _ _ => False
  | n + 1 => fun bc bs σ x0 x1 => (((6 : Int32) ≤ x1 → P σ) ∧
    (¬ (6 : Int32) ≤ x1 → pP σ x0 2 51 (fun v3 => (∃ (n4 : Nat) (f5 : Nat → Int32), pA σ r.2.2.2 v3 0 n4 f5 ∧ vp_in x1 n4 ∧ (∀ σ8 : GS, σ8 = sO σ v3 (some (.inl (r.2.2.2 0, n4, .inl (upd f5 x1.toNatClampNeg (-1 : Int32))))) → f_X2_init_e_226 r P n bc bs σ8 x0 (x1 + 1))))))
def f_X2_init_e (r : GR) (bc bs : Nat) (σ : GS) (x0 : Nat) (P : GS → Prop) : Prop :=
    (∃ (b3 s4 : Nat), b3 + 1 ≤ bc ∧ s4 + 28 ≤ bs ∧ (∀ a1 : Nat, gO σ a1 = none → ∀ σ2 : GS, σ2 = sO σ a1 (some (.inl (r.2.2.2 0, 28, .inl (fun _ => 0)))) → pS σ2 x0 2 0 (.ref a1) (fun σ7 =>
    (∃ (b10 s11 : Nat), b10 + 1 ≤ b3 ∧ s11 + 40 ≤ s4 ∧ (∀ a8 : Nat, gO σ7 a8 = none → ∀ σ9 : GS, σ9 = sO σ7 a8 (some (.inl (r.2.2.2 0, 40, .inl (fun _ => 0)))) → pS σ9 x0 2 1 (.ref a8) (fun σ14 =>
    (∃ (b17 s18 : Nat), b17 + 1 ≤ b10 ∧ s18 + 40 ≤ s11 ∧ (∀ a15 : Nat, gO σ14 a15 = none → ∀ σ16 : GS, σ16 = sO σ14 a15 (some (.inl (r.2.2.2 0, 40, .inl (fun _ => 0)))) → pS σ16 x0 2 2 (.ref a15) (fun σ21 =>
    (∃ (b24 s25 : Nat), b24 + 1 ≤ b17 ∧ s25 + 40 ≤ s18 ∧ (∀ a22 : Nat, gO σ21 a22 = none → ∀ σ23 : GS, σ23 = sO σ21 a22 (some (.inl (r.2.2.2 0, 40, .inl (fun _ => 0)))) → pS σ23 x0 2 3 (.ref a22) (fun σ28 =>
    (∃ (b31 s32 : Nat), b31 + 1 ≤ b24 ∧ s32 + 6 ≤ s25 ∧ (∀ a29 : Nat, gO σ28 a29 = none → ∀ σ30 : GS, σ30 = sO σ28 a29 (some (.inl (r.2.2.2 0, 6, .inl (fun _ => 0)))) → pS σ30 x0 2 7 (.ref a29) (fun σ35 =>
    (∃ (b38 s39 : Nat), b38 + 1 ≤ b31 ∧ s39 + 5 ≤ s32 ∧ (∀ a36 : Nat, gO σ35 a36 = none → ∀ σ37 : GS, σ37 = sO σ35 a36 (some (.inl (r.2.2.2 0, 5, .inl (fun _ => 0)))) → pS σ37 x0 2 9 (.ref a36) (fun σ42 =>
    (∃ (b45 s46 : Nat), b45 + 1 ≤ b38 ∧ s46 + 5 ≤ s39 ∧ (∀ a43 : Nat, gO σ42 a43 = none → ∀ σ44 : GS, σ44 = sO σ42 a43 (some (.inl (r.2.2.2 0, 5, .inl (fun _ => 0)))) → pS σ44 x0 2 10 (.ref a43) (fun σ49 =>
    (∃ (b52 s53 : Nat), b52 + 1 ≤ b45 ∧ s53 + 5 ≤ s46 ∧ (∀ a50 : Nat, gO σ49 a50 = none → ∀ σ51 : GS, σ51 = sO σ49 a50 (some (.inl (r.2.2.2 0, 5, .inl (fun _ => 0)))) → pS σ51 x0 2 11 (.ref a50) (fun σ56 =>
    (∃ (b59 s60 : Nat), b59 + 1 ≤ b52 ∧ s60 + 5 ≤ s53 ∧ (∀ a57 : Nat, gO σ56 a57 = none → ∀ σ58 : GS, σ58 = sO σ56 a57 (some (.inl (r.2.2.2 0, 5, .inl (fun _ => 0)))) → pS σ58 x0 2 12 (.ref a57) (fun σ63 =>
    (∃ (b66 s67 : Nat), b66 + 1 ≤ b59 ∧ s67 + 120 ≤ s60 ∧ (∀ a64 : Nat, gO σ63 a64 = none → ∀ σ65 : GS, σ65 = sO σ63 a64 (some (.inl (r.2.2.2 0, 120, .inl (fun _ => 0)))) → pS σ65 x0 2 13 (.ref a64) (fun σ70 =>
    (∃ (b73 s74 : Nat), b73 + 1 ≤ b66 ∧ s74 + 480 ≤ s67 ∧ (∀ a71 : Nat, gO σ70 a71 = none → ∀ σ72 : GS, σ72 = sO σ70 a71 (some (.inl (r.2.2.2 0, 480, .inl (fun _ => 0)))) → pS σ72 x0 2 16 (.ref a71) (fun σ77 =>
    (∃ (b80 s81 : Nat), b80 + 1 ≤ b73 ∧ s81 + 4 ≤ s74 ∧ (∀ a78 : Nat, gO σ77 a78 = none → ∀ σ79 : GS, σ79 = sO σ77 a78 (some (.inl (r.2.2.2 0, 4, .inl (fun _ => 0)))) → pS σ79 x0 2 17 (.ref a78) (fun σ84 =>
    (∃ (b87 s88 : Nat), b87 + 1 ≤ b80 ∧ s88 + 7 ≤ s81 ∧ (∀ a85 : Nat, gO σ84 a85 = none → ∀ σ86 : GS, σ86 = sO σ84 a85 (some (.inl (r.2.2.2 0, 7, .inl (fun _ => 0)))) → pS σ86 x0 2 23 (.ref a85) (fun σ91 =>
    (∃ (b94 s95 : Nat), b94 + 1 ≤ b87 ∧ s95 + 24 ≤ s88 ∧ (∀ a92 : Nat, gO σ91 a92 = none → ∀ σ93 : GS, σ93 = sO σ91 a92 (some (.inl (r.2.2.2 0, 24, .inl (fun _ => 0)))) → pS σ93 x0 2 24 (.ref a92) (fun σ98 =>
    (∃ (b101 s102 : Nat), b101 + 1 ≤ b94 ∧ s102 + 6 ≤ s95 ∧ (∀ a99 : Nat, gO σ98 a99 = none → ∀ σ100 : GS, σ100 = sO σ98 a99 (some (.inl (r.2.2.2 0, 6, .inl (fun _ => 0)))) → pS σ100 x0 2 25 (.ref a99) (fun σ105 =>
    pS σ105 x0 2 29 (.int (100 : Int32)) (fun σ106 =>
    (∃ (b109 s110 : Nat), b109 + 1 ≤ b101 ∧ s110 + 6 ≤ s102 ∧ (∀ a107 : Nat, gO σ106 a107 = none → ∀ σ108 : GS, σ108 = sO σ106 a107 (some (.inl (r.2.2.2 0, 6, .inl (fun _ => 0)))) → pS σ108 x0 2 33 (.ref a107) (fun σ113 =>
    (∃ (b116 s117 : Nat), b116 + 1 ≤ b109 ∧ s117 + 30 ≤ s110 ∧ (∀ a114 : Nat, gO σ113 a114 = none → ∀ σ115 : GS, σ115 = sO σ113 a114 (some (.inl (r.2.2.2 0, 30, .inl (fun _ => 0)))) → pS σ115 x0 2 34 (.ref a114) (fun σ120 =>
    (∃ (b123 s124 : Nat), b123 + 1 ≤ b116 ∧ s124 + 6 ≤ s117 ∧ (∀ a121 : Nat, gO σ120 a121 = none → ∀ σ122 : GS, σ122 = sO σ120 a121 (some (.inl (r.2.2.2 0, 6, .inl (fun _ => 0)))) → pS σ122 x0 2 39 (.ref a121) (fun σ127 =>
    (∃ (b130 s131 : Nat), b130 + 1 ≤ b123 ∧ s131 + 6 ≤ s124 ∧ (∀ a128 : Nat, gO σ127 a128 = none → ∀ σ129 : GS, σ129 = sO σ127 a128 (some (.inl (r.2.2.2 0, 6, .inl (fun _ => 0)))) → pS σ129 x0 2 40 (.ref a128) (fun σ134 =>
    (∃ (b137 s138 : Nat), b137 + 1 ≤ b130 ∧ s138 + 6 ≤ s131 ∧ (∀ a135 : Nat, gO σ134 a135 = none → ∀ σ136 : GS, σ136 = sO σ134 a135 (some (.inl (r.2.2.2 0, 6, .inl (fun _ => 0)))) → pS σ136 x0 2 41 (.ref a135) (fun σ141 =>
    (∃ (b144 s145 : Nat), b144 + 1 ≤ b137 ∧ s145 + 1783 ≤ s138 ∧ (∀ a142 : Nat, gO σ141 a142 = none → ∀ σ143 : GS, σ143 = sO σ141 a142 (some (.inl (r.2.2.2 0, 1783, .inl (fun _ => 0)))) → pS σ143 x0 2 44 (.ref a142) (fun σ148 =>
    (∃ (b151 s152 : Nat), b151 + 1 ≤ b144 ∧ s152 + 50 ≤ s145 ∧ (∀ a149 : Nat, gO σ148 a149 = none → ∀ σ150 : GS, σ150 = sO σ148 a149 (some (.inl (r.2.2.2 0, 50, .inl (fun _ => 0)))) → pS σ150 x0 2 46 (.ref a149) (fun σ155 =>
    (∃ (b158 s159 : Nat), b158 + 1 ≤ b151 ∧ s159 + 24 ≤ s152 ∧ (∀ a156 : Nat, gO σ155 a156 = none → ∀ σ157 : GS, σ157 = sO σ155 a156 (some (.inl (r.2.2.2 0, 24, .inl (fun _ => 0)))) → pS σ157 x0 2 47 (.ref a156) (fun σ162 =>
    (∃ (b165 s166 : Nat), b165 + 1 ≤ b158 ∧ s166 + 6 ≤ s159 ∧ (∀ a163 : Nat, gO σ162 a163 = none → ∀ σ164 : GS, σ164 = sO σ162 a163 (some (.inl (r.2.2.2 0, 6, .inl (fun _ => 0)))) → pS σ164 x0 2 51 (.ref a163) (fun σ169 =>
    (∃ (b172 s173 : Nat), b172 + 1 ≤ b165 ∧ s173 + 6 ≤ s166 ∧ (∀ a170 : Nat, gO σ169 a170 = none → ∀ σ171 : GS, σ171 = sO σ169 a170 (some (.inl (r.2.2.2 0, 6, .inl (fun _ => 0)))) → pS σ171 x0 2 52 (.ref a170) (fun σ176 =>
    (∃ (b179 s180 : Nat), b179 + 1 ≤ b172 ∧ s180 + 360 ≤ s173 ∧ (∀ a177 : Nat, gO σ176 a177 = none → ∀ σ178 : GS, σ178 = sO σ176 a177 (some (.inl (r.2.2.2 1, 360, .inr (.inl (fun _ => 0))))) → pS σ178 x0 2 53 (.ref a177) (fun σ183 =>
    (∃ (b186 s187 : Nat), b186 + 1 ≤ b179 ∧ s187 + 60 ≤ s180 ∧ (∀ a184 : Nat, gO σ183 a184 = none → ∀ σ185 : GS, σ185 = sO σ183 a184 (some (.inl (r.2.2.2 1, 60, .inr (.inl (fun _ => 0))))) → pS σ185 x0 2 54 (.ref a184) (fun σ190 =>
    (∃ q_ : Nat, f_X2_init_e_226 r P q_ b186 s187 σ190 x0 (0 : Int32))))))))))))))))))))))))))))))))))))))))))))))))))))))))))))))))))))))))))))))))))))
def f_X15_kind_c13 (r : GR) (σ : GS) (x0 : Nat) (P : GS → Int32 → Prop) : Prop :=
    P σ (0 : Int32)
def f_X15_isUnder_c13_12 (r : GR) (P : GS → Int32 → Prop) (σ : GS) : Prop :=
    P σ (1 : Int32)
def f_X15_isUnder_c13 (r : GR) (σ : GS) (x0 : Nat) (x1 : Int32) (P : GS → Int32 → Prop) : Prop :=
    ((x1 = 0 → f_X15_isUnder_c13_12 r P σ ) ∧
    (¬ x1 = 0 → (∃ f4 : List Value, gO σ x0 = some (.inr (13, f4)) ∧ f_X15_kind_c13 r σ x0 (fun σ2 v3 =>
     ((x1 = v3 → f_X15_isUnder_c13_12 r P σ2 ) ∧
     (¬ x1 = v3 → P σ2 (0 : Int32)))))))
def f_X16_kind_c14 (r : GR) (σ : GS) (x0 : Nat) (P : GS → Int32 → Prop) : Prop :=
    P σ (1 : Int32)
def f_X15_isUnder_c14_12 (r : GR) (P : GS → Int32 → Prop) (σ : GS) : Prop :=
    P σ (1 : Int32)
def f_X15_isUnder_c14 (r : GR) (σ : GS) (x0 : Nat) (x1 : Int32) (P : GS → Int32 → Prop) : Prop :=
    ((x1 = 0 → f_X15_isUnder_c14_12 r P σ ) ∧
    (¬ x1 = 0 → (∃ f4 : List Value, gO σ x0 = some (.inr (14, f4)) ∧ f_X16_kind_c14 r σ x0 (fun σ2 v3 =>
     ((x1 = v3 → f_X15_isUnder_c14_12 r P σ2 ) ∧
     (¬ x1 = v3 → P σ2 (0 : Int32)))))))
def f_X17_kind_c15 (r : GR) (σ : GS) (x0 : Nat) (P : GS → Int32 → Prop) : Prop :=
    P σ (2 : Int32)
def f_X15_isUnder_c15_12 (r : GR) (P : GS → Int32 → Prop) (σ : GS) : Prop :=
    P σ (1 : Int32)
def f_X15_isUnder_c15 (r : GR) (σ : GS) (x0 : Nat) (x1 : Int32) (P : GS → Int32 → Prop) : Prop :=
    ((x1 = 0 → f_X15_isUnder_c15_12 r P σ ) ∧
    (¬ x1 = 0 → (∃ f4 : List Value, gO σ x0 = some (.inr (15, f4)) ∧ f_X17_kind_c15 r σ x0 (fun σ2 v3 =>
     ((x1 = v3 → f_X15_isUnder_c15_12 r P σ2 ) ∧
     (¬ x1 = v3 → P σ2 (0 : Int32)))))))
def f_X18_kind_c16 (r : GR) (σ : GS) (x0 : Nat) (P : GS → Int32 → Prop) : Prop :=
    P σ (3 : Int32)
def f_X15_isUnder_c16_12 (r : GR) (P : GS → Int32 → Prop) (σ : GS) : Prop :=
    P σ (1 : Int32)
def f_X15_isUnder_c16 (r : GR) (σ : GS) (x0 : Nat) (x1 : Int32) (P : GS → Int32 → Prop) : Prop :=
    ((x1 = 0 → f_X15_isUnder_c16_12 r P σ ) ∧
    (¬ x1 = 0 → (∃ f4 : List Value, gO σ x0 = some (.inr (16, f4)) ∧ f_X18_kind_c16 r σ x0 (fun σ2 v3 =>
     ((x1 = v3 → f_X15_isUnder_c16_12 r P σ2 ) ∧
     (¬ x1 = v3 → P σ2 (0 : Int32)))))))
def f_X19_kind_c17 (r : GR) (σ : GS) (x0 : Nat) (P : GS → Int32 → Prop) : Prop :=
    P σ (4 : Int32)
def f_X15_isUnder_c17_12 (r : GR) (P : GS → Int32 → Prop) (σ : GS) : Prop :=
    P σ (1 : Int32)
def f_X15_isUnder_c17 (r : GR) (σ : GS) (x0 : Nat) (x1 : Int32) (P : GS → Int32 → Prop) : Prop :=
    ((x1 = 0 → f_X15_isUnder_c17_12 r P σ ) ∧
    (¬ x1 = 0 → (∃ f4 : List Value, gO σ x0 = some (.inr (17, f4)) ∧ f_X19_kind_c17 r σ x0 (fun σ2 v3 =>
     ((x1 = v3 → f_X15_isUnder_c17_12 r P σ2 ) ∧
     (¬ x1 = v3 → P σ2 (0 : Int32)))))))
def f_X20_kind_c18 (r : GR) (σ : GS) (x0 : Nat) (P : GS → Int32 → Prop) : Prop :=
    P σ (5 : Int32)
def f_X15_isUnder_c18_12 (r : GR) (P : GS → Int32 → Prop) (σ : GS) : Prop :=
    P σ (1 : Int32)
def f_X15_isUnder_c18 (r : GR) (σ : GS) (x0 : Nat) (x1 : Int32) (P : GS → Int32 → Prop) : Prop :=
    ((x1 = 0 → f_X15_isUnder_c18_12 r P σ ) ∧
    (¬ x1 = 0 → (∃ f4 : List Value, gO σ x0 = some (.inr (18, f4)) ∧ f_X20_kind_c18 r σ x0 (fun σ2 v3 =>
     ((x1 = v3 → f_X15_isUnder_c18_12 r P σ2 ) ∧
     (¬ x1 = v3 → P σ2 (0 : Int32)))))))
def f_X21_kind_c19 (r : GR) (σ : GS) (x0 : Nat) (P : GS → Int32 → Prop) : Prop :=
    P σ (6 : Int32)
def f_X15_isUnder_c19_12 (r : GR) (P : GS → Int32 → Prop) (σ : GS) : Prop :=
    P σ (1 : Int32)
def f_X15_isUnder_c19 (r : GR) (σ : GS) (x0 : Nat) (x1 : Int32) (P : GS → Int32 → Prop) : Prop :=
    ((x1 = 0 → f_X15_isUnder_c19_12 r P σ ) ∧
    (¬ x1 = 0 → (∃ f4 : List Value, gO σ x0 = some (.inr (19, f4)) ∧ f_X21_kind_c19 r σ x0 (fun σ2 v3 =>
     ((x1 = v3 → f_X15_isUnder_c19_12 r P σ2 ) ∧
     (¬ x1 = v3 → P σ2 (0 : Int32)))))))
def f_X22_kind_c20 (r : GR) (σ : GS) (x0 : Nat) (P : GS → Int32 → Prop) : Prop :=
    P σ (7 : Int32)
def f_X15_isUnder_c20_12 (r : GR) (P : GS → Int32 → Prop) (σ : GS) : Prop :=
    P σ (1 : Int32)
def f_X15_isUnder_c20 (r : GR) (σ : GS) (x0 : Nat) (x1 : Int32) (P : GS → Int32 → Prop) : Prop :=
    ((x1 = 0 → f_X15_isUnder_c20_12 r P σ ) ∧
    (¬ x1 = 0 → (∃ f4 : List Value, gO σ x0 = some (.inr (20, f4)) ∧ f_X22_kind_c20 r σ x0 (fun σ2 v3 =>
     ((x1 = v3 → f_X15_isUnder_c20_12 r P σ2 ) ∧
     (¬ x1 = v3 → P σ2 (0 : Int32)))))))
def f_X17_isUnder_c15_13 (r : GR) (P : GS → Int32 → Prop) (σ : GS) : Prop :=
    P σ (1 : Int32)
def f_X17_isUnder_c15 (r : GR) (σ : GS) (x0 : Nat) (x1 : Int32) (P : GS → Int32 → Prop) : Prop :=
    ((x1 = (2 : Int32) → f_X17_isUnder_c15_13 r P σ ) ∧
    (¬ x1 = (2 : Int32) → (∃ f4 : List Value, gO σ x0 = some (.inr (15, f4)) ∧ f_X15_isUnder_c15 r σ x0 x1 (fun σ2 v3 =>
     ((v3 = 0 → P σ2 (0 : Int32)) ∧
     (¬ v3 = 0 → f_X17_isUnder_c15_13 r P σ2 ))))))
def f_X17_isUnder_c16_13 (r : GR) (P : GS → Int32 → Prop) (σ : GS) : Prop :=
    P σ (1 : Int32)
def f_X17_isUnder_c16 (r : GR) (σ : GS) (x0 : Nat) (x1 : Int32) (P : GS → Int32 → Prop) : Prop :=
    ((x1 = (2 : Int32) → f_X17_isUnder_c16_13 r P σ ) ∧
    (¬ x1 = (2 : Int32) → (∃ f4 : List Value, gO σ x0 = some (.inr (16, f4)) ∧ f_X15_isUnder_c16 r σ x0 x1 (fun σ2 v3 =>
     ((v3 = 0 → P σ2 (0 : Int32)) ∧
     (¬ v3 = 0 → f_X17_isUnder_c16_13 r P σ2 ))))))
def f_X17_isUnder_c17_13 (r : GR) (P : GS → Int32 → Prop) (σ : GS) : Prop :=
    P σ (1 : Int32)
def f_X17_isUnder_c17 (r : GR) (σ : GS) (x0 : Nat) (x1 : Int32) (P : GS → Int32 → Prop) : Prop :=
    ((x1 = (2 : Int32) → f_X17_isUnder_c17_13 r P σ ) ∧
    (¬ x1 = (2 : Int32) → (∃ f4 : List Value, gO σ x0 = some (.inr (17, f4)) ∧ f_X15_isUnder_c17 r σ x0 x1 (fun σ2 v3 =>
     ((v3 = 0 → P σ2 (0 : Int32)) ∧
     (¬ v3 = 0 → f_X17_isUnder_c17_13 r P σ2 ))))))
def f_X17_isUnder_c18_13 (r : GR) (P : GS → Int32 → Prop) (σ : GS) : Prop :=
    P σ (1 : Int32)
def f_X17_isUnder_c18 (r : GR) (σ : GS) (x0 : Nat) (x1 : Int32) (P : GS → Int32 → Prop) : Prop :=
    ((x1 = (2 : Int32) → f_X17_isUnder_c18_13 r P σ ) ∧
    (¬ x1 = (2 : Int32) → (∃ f4 : List Value, gO σ x0 = some (.inr (18, f4)) ∧ f_X15_isUnder_c18 r σ x0 x1 (fun σ2 v3 =>
     ((v3 = 0 → P σ2 (0 : Int32)) ∧
     (¬ v3 = 0 → f_X17_isUnder_c18_13 r P σ2 ))))))
def f_X17_isUnder_c20_13 (r : GR) (P : GS → Int32 → Prop) (σ : GS) : Prop :=
    P σ (1 : Int32)
def f_X17_isUnder_c20 (r : GR) (σ : GS) (x0 : Nat) (x1 : Int32) (P : GS → Int32 → Prop) : Prop :=
    ((x1 = (2 : Int32) → f_X17_isUnder_c20_13 r P σ ) ∧
    (¬ x1 = (2 : Int32) → (∃ f4 : List Value, gO σ x0 = some (.inr (20, f4)) ∧ f_X15_isUnder_c20 r σ x0 x1 (fun σ2 v3 =>
     ((v3 = 0 → P σ2 (0 : Int32)) ∧
     (¬ v3 = 0 → f_X17_isUnder_c20_13 r P σ2 ))))))
def f_X18_isUnder_c16_13 (r : GR) (P : GS → Int32 → Prop) (σ : GS) : Prop :=
    P σ (1 : Int32)
def f_X18_isUnder_c16 (r : GR) (σ : GS) (x0 : Nat) (x1 : Int32) (P : GS → Int32 → Prop) : Prop :=
    ((x1 = (3 : Int32) → f_X18_isUnder_c16_13 r P σ ) ∧
    (¬ x1 = (3 : Int32) → (∃ f4 : List Value, gO σ x0 = some (.inr (16, f4)) ∧ f_X17_isUnder_c16 r σ x0 x1 (fun σ2 v3 =>
     ((v3 = 0 → P σ2 (0 : Int32)) ∧
     (¬ v3 = 0 → f_X18_isUnder_c16_13 r P σ2 ))))))
def f_X18_isUnder_c18_13 (r : GR) (P : GS → Int32 → Prop) (σ : GS) : Prop :=
    P σ (1 : Int32)
def f_X18_isUnder_c18 (r : GR) (σ : GS) (x0 : Nat) (x1 : Int32) (P : GS → Int32 → Prop) : Prop :=
    ((x1 = (3 : Int32) → f_X18_isUnder_c18_13 r P σ ) ∧
    (¬ x1 = (3 : Int32) → (∃ f4 : List Value, gO σ x0 = some (.inr (18, f4)) ∧ f_X17_isUnder_c18 r σ x0 x1 (fun σ2 v3 =>
     ((v3 = 0 → P σ2 (0 : Int32)) ∧
     (¬ v3 = 0 → f_X18_isUnder_c18_13 r P σ2 ))))))
def f_X19_isUnder_c17_13 (r : GR) (P : GS → Int32 → Prop) (σ : GS) : Prop :=
    P σ (1 : Int32)
def f_X19_isUnder_c17 (r : GR) (σ : GS) (x0 : Nat) (x1 : Int32) (P : GS → Int32 → Prop) : Prop :=
    ((x1 = (4 : Int32) → f_X19_isUnder_c17_13 r P σ ) ∧
    (¬ x1 = (4 : Int32) → (∃ f4 : List Value, gO σ x0 = some (.inr (17, f4)) ∧ f_X17_isUnder_c17 r σ x0 x1 (fun σ2 v3 =>
     ((v3 = 0 → P σ2 (0 : Int32)) ∧
     (¬ v3 = 0 → f_X19_isUnder_c17_13 r P σ2 ))))))
def f_X19_isUnder_c20_13 (r : GR) (P : GS → Int32 → Prop) (σ : GS) : Prop :=
    P σ (1 : Int32)
def f_X19_isUnder_c20 (r : GR) (σ : GS) (x0 : Nat) (x1 : Int32) (P : GS → Int32 → Prop) : Prop :=
    ((x1 = (4 : Int32) → f_X19_isUnder_c20_13 r P σ ) ∧
    (¬ x1 = (4 : Int32) → (∃ f4 : List Value, gO σ x0 = some (.inr (20, f4)) ∧ f_X17_isUnder_c20 r σ x0 x1 (fun σ2 v3 =>
     ((v3 = 0 → P σ2 (0 : Int32)) ∧
     (¬ v3 = 0 → f_X19_isUnder_c20_13 r P σ2 ))))))
def f_PB_isUnder (r : GR) (σ : GS) (x0 : Nat) (x1 : Int32) (P : GS → Int32 → Prop) : Prop :=
    (∃ fs : List Value, gO σ x0 = some (.inr (13, fs)) ∧ f_X15_isUnder_c13 r σ x0 x1 P) ∨
    (∃ fs : List Value, gO σ x0 = some (.inr (14, fs)) ∧ f_X15_isUnder_c14 r σ x0 x1 P) ∨
    (∃ fs : List Value, gO σ x0 = some (.inr (15, fs)) ∧ f_X17_isUnder_c15 r σ x0 x1 P) ∨
    (∃ fs : List Value, gO σ x0 = some (.inr (16, fs)) ∧ f_X18_isUnder_c16 r σ x0 x1 P) ∨
    (∃ fs : List Value, gO σ x0 = some (.inr (17, fs)) ∧ f_X19_isUnder_c17 r σ x0 x1 P) ∨
    (∃ fs : List Value, gO σ x0 = some (.inr (18, fs)) ∧ f_X18_isUnder_c18 r σ x0 x1 P) ∨
    (∃ fs : List Value, gO σ x0 = some (.inr (19, fs)) ∧ f_X15_isUnder_c19 r σ x0 x1 P) ∨
    (∃ fs : List Value, gO σ x0 = some (.inr (20, fs)) ∧ f_X19_isUnder_c20 r σ x0 x1 P)
def f_PB_kind (r : GR) (σ : GS) (x0 : Nat) (P : GS → Int32 → Prop) : Prop :=
    (∃ fs : List Value, gO σ x0 = some (.inr (13, fs)) ∧ f_X15_kind_c13 r σ x0 P) ∨
    (∃ fs : List Value, gO σ x0 = some (.inr (14, fs)) ∧ f_X16_kind_c14 r σ x0 P) ∨
    (∃ fs : List Value, gO σ x0 = some (.inr (15, fs)) ∧ f_X17_kind_c15 r σ x0 P) ∨
    (∃ fs : List Value, gO σ x0 = some (.inr (16, fs)) ∧ f_X18_kind_c16 r σ x0 P) ∨
    (∃ fs : List Value, gO σ x0 = some (.inr (17, fs)) ∧ f_X19_kind_c17 r σ x0 P) ∨
    (∃ fs : List Value, gO σ x0 = some (.inr (18, fs)) ∧ f_X20_kind_c18 r σ x0 P) ∨
    (∃ fs : List Value, gO σ x0 = some (.inr (19, fs)) ∧ f_X21_kind_c19 r σ x0 P) ∨
    (∃ fs : List Value, gO σ x0 = some (.inr (20, fs)) ∧ f_X22_kind_c20 r σ x0 P)

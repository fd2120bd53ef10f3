/-! M: its make -/
def fkM : Nat → Nat := fun k => match k with
  | 0 => 1
  | 1 => 1
  | 2 => 1
  | 3 => 1
  | 4 => 0
  | 5 => 0
  | 6 => 0
  | 7 => 1
  | 8 => 0
  | 9 => 1
  | 10 => 1
  | 11 => 1
  | 12 => 1
  | 13 => 1
  | 14 => 0
  | 15 => 0
  | 16 => 1
  | 17 => 1
  | 18 => 0
  | 19 => 0
  | 20 => 0
  | 21 => 0
  | 22 => 0
  | 23 => 1
  | 24 => 1
  | 25 => 1
  | 26 => 0
  | 27 => 0
  | 28 => 0
  | 29 => 0
  | 30 => 0
  | 31 => 0
  | 32 => 0
  | 33 => 1
  | 34 => 1
  | 35 => 0
  | 36 => 0
  | 37 => 0
  | 38 => 0
  | 39 => 1
  | 40 => 1
  | 41 => 1
  | 42 => 0
  | 43 => 0
  | 44 => 1
  | 45 => 0
  | 46 => 1
  | 47 => 1
  | 48 => 0
  | 49 => 0
  | 50 => 0
  | 51 => 1
  | 52 => 1
  | 53 => 2
  | 54 => 2
  | _ => 0
def lnM : Nat → Nat := fun k => match k with
  | 0 => 28
  | 1 => 40
  | 2 => 40
  | 3 => 40
  | 4 => 0
  | 5 => 0
  | 6 => 0
  | 7 => 6
  | 8 => 0
  | 9 => 5
  | 10 => 5
  | 11 => 5
  | 12 => 5
  | 13 => 120
  | 14 => 0
  | 15 => 0
  | 16 => 480
  | 17 => 4
  | 18 => 0
  | 19 => 0
  | 20 => 0
  | 21 => 0
  | 22 => 0
  | 23 => 7
  | 24 => 24
  | 25 => 6
  | 26 => 0
  | 27 => 0
  | 28 => 0
  | 29 => 0
  | 30 => 0
  | 31 => 0
  | 32 => 0
  | 33 => 6
  | 34 => 30
  | 35 => 0
  | 36 => 0
  | 37 => 0
  | 38 => 0
  | 39 => 6
  | 40 => 6
  | 41 => 6
  | 42 => 0
  | 43 => 0
  | 44 => 1783
  | 45 => 0
  | 46 => 50
  | 47 => 24
  | 48 => 0
  | 49 => 0
  | 50 => 0
  | 51 => 6
  | 52 => 6
  | 53 => 360
  | 54 => 60
  | _ => 0
def txM : Nat → Nat := fun k => match k with
  | 0 => 0
  | 1 => 0
  | 2 => 0
  | 3 => 0
  | 4 => 0
  | 5 => 0
  | 6 => 0
  | 7 => 0
  | 8 => 0
  | 9 => 0
  | 10 => 0
  | 11 => 0
  | 12 => 0
  | 13 => 0
  | 14 => 0
  | 15 => 0
  | 16 => 0
  | 17 => 0
  | 18 => 0
  | 19 => 0
  | 20 => 0
  | 21 => 0
  | 22 => 0
  | 23 => 0
  | 24 => 0
  | 25 => 0
  | 26 => 0
  | 27 => 0
  | 28 => 0
  | 29 => 0
  | 30 => 0
  | 31 => 0
  | 32 => 0
  | 33 => 0
  | 34 => 0
  | 35 => 0
  | 36 => 0
  | 37 => 0
  | 38 => 0
  | 39 => 0
  | 40 => 0
  | 41 => 0
  | 42 => 0
  | 43 => 0
  | 44 => 0
  | 45 => 0
  | 46 => 0
  | 47 => 0
  | 48 => 0
  | 49 => 0
  | 50 => 0
  | 51 => 0
  | 52 => 0
  | 53 => 1
  | 54 => 1
  | _ => 0
def dM : GD := (2, 55, fkM, lnM, txM)
theorem kM : gX dM RX2 TX2 55 tyX2 := ⟨rfl, rfl, in_X2, tyX2_ok, nmX2⟩
theorem hdX2_undo : yX2_undo.cls = RX2 ∧ yX2_undo.cls ≠ "java/lang/invoke/MethodHandle" ∧ yX2_undo.cls ≠ "java/lang/invoke/VarHandle" ∧ (parseMethodDescriptor yX2_undo.desc).map (fun d => d.parameters.length) = some 0 := by decide +kernel
theorem hdX2_redo : yX2_redo.cls = RX2 ∧ yX2_redo.cls ≠ "java/lang/invoke/MethodHandle" ∧ yX2_redo.cls ≠ "java/lang/invoke/VarHandle" ∧ (parseMethodDescriptor yX2_redo.desc).map (fun d => d.parameters.length) = some 0 := by decide +kernel
theorem hdX2_adds : yX2_adds.cls = RX2 ∧ yX2_adds.cls ≠ "java/lang/invoke/MethodHandle" ∧ yX2_adds.cls ≠ "java/lang/invoke/VarHandle" ∧ (parseMethodDescriptor yX2_adds.desc).map (fun d => d.parameters.length) = some 4 := by decide +kernel
theorem hdX2_within : yX2_within.cls ≠ "java/lang/invoke/MethodHandle" ∧ yX2_within.cls ≠ "java/lang/invoke/VarHandle" ∧ (parseMethodDescriptor yX2_within.desc).map (fun d => d.parameters.length) = some 3 := by decide +kernel
theorem hdX2_isTwo : yX2_isTwo.cls ≠ "java/lang/invoke/MethodHandle" ∧ yX2_isTwo.cls ≠ "java/lang/invoke/VarHandle" ∧ (parseMethodDescriptor yX2_isTwo.desc).map (fun d => d.parameters.length) = some 1 := by decide +kernel
theorem hdX2_thing : yX2_thing.cls = RX2 ∧ yX2_thing.cls ≠ "java/lang/invoke/MethodHandle" ∧ yX2_thing.cls ≠ "java/lang/invoke/VarHandle" ∧ (parseMethodDescriptor yX2_thing.desc).map (fun d => d.parameters.length) = some 3 := by decide +kernel
theorem hdX2_isShelf : yX2_isShelf.cls ≠ "java/lang/invoke/MethodHandle" ∧ yX2_isShelf.cls ≠ "java/lang/invoke/VarHandle" ∧ (parseMethodDescriptor yX2_isShelf.desc).map (fun d => d.parameters.length) = some 1 := by decide +kernel
theorem hdX2_things : yX2_things.cls = RX2 ∧ yX2_things.cls ≠ "java/lang/invoke/MethodHandle" ∧ yX2_things.cls ≠ "java/lang/invoke/VarHandle" ∧ (parseMethodDescriptor yX2_things.desc).map (fun d => d.parameters.length) = some 3 := by decide +kernel
theorem hdX2_becomes : yX2_becomes.cls = RX2 ∧ yX2_becomes.cls ≠ "java/lang/invoke/MethodHandle" ∧ yX2_becomes.cls ≠ "java/lang/invoke/VarHandle" ∧ (parseMethodDescriptor yX2_becomes.desc).map (fun d => d.parameters.length) = some 2 := by decide +kernel
theorem hdX2_isThing : yX2_isThing.cls = RX2 ∧ yX2_isThing.cls ≠ "java/lang/invoke/MethodHandle" ∧ yX2_isThing.cls ≠ "java/lang/invoke/VarHandle" ∧ (parseMethodDescriptor yX2_isThing.desc).map (fun d => d.parameters.length) = some 1 := by decide +kernel
theorem hdX2_mend : yX2_mend.cls = RX2 ∧ yX2_mend.cls ≠ "java/lang/invoke/MethodHandle" ∧ yX2_mend.cls ≠ "java/lang/invoke/VarHandle" ∧ (parseMethodDescriptor yX2_mend.desc).map (fun d => d.parameters.length) = some 3 := by decide +kernel
theorem hdX2_sort : yX2_sort.cls = RX2 ∧ yX2_sort.cls ≠ "java/lang/invoke/MethodHandle" ∧ yX2_sort.cls ≠ "java/lang/invoke/VarHandle" ∧ (parseMethodDescriptor yX2_sort.desc).map (fun d => d.parameters.length) = some 3 := by decide +kernel
theorem hdX2_isSort : yX2_isSort.cls = RX2 ∧ yX2_isSort.cls ≠ "java/lang/invoke/MethodHandle" ∧ yX2_isSort.cls ≠ "java/lang/invoke/VarHandle" ∧ (parseMethodDescriptor yX2_isSort.desc).map (fun d => d.parameters.length) = some 1 := by decide +kernel
theorem hdX2_purse : yX2_purse.cls = RX2 ∧ yX2_purse.cls ≠ "java/lang/invoke/MethodHandle" ∧ yX2_purse.cls ≠ "java/lang/invoke/VarHandle" ∧ (parseMethodDescriptor yX2_purse.desc).map (fun d => d.parameters.length) = some 3 := by decide +kernel
theorem hdX2_pointsInAll : yX2_pointsInAll.cls = RX2 ∧ yX2_pointsInAll.cls ≠ "java/lang/invoke/MethodHandle" ∧ yX2_pointsInAll.cls ≠ "java/lang/invoke/VarHandle" ∧ (parseMethodDescriptor yX2_pointsInAll.desc).map (fun d => d.parameters.length) = some 1 := by decide +kernel
theorem hdX2_purseOf : yX2_purseOf.cls = RX2 ∧ yX2_purseOf.cls ≠ "java/lang/invoke/MethodHandle" ∧ yX2_purseOf.cls ≠ "java/lang/invoke/VarHandle" ∧ (parseMethodDescriptor yX2_purseOf.desc).map (fun d => d.parameters.length) = some 1 := by decide +kernel
theorem hdX2_of : yX2_of.cls = RX2 ∧ yX2_of.cls ≠ "java/lang/invoke/MethodHandle" ∧ yX2_of.cls ≠ "java/lang/invoke/VarHandle" ∧ (parseMethodDescriptor yX2_of.desc).map (fun d => d.parameters.length) = some 2 := by decide +kernel
theorem hdX2_feed : yX2_feed.cls = RX2 ∧ yX2_feed.cls ≠ "java/lang/invoke/MethodHandle" ∧ yX2_feed.cls ≠ "java/lang/invoke/VarHandle" ∧ (parseMethodDescriptor yX2_feed.desc).map (fun d => d.parameters.length) = some 2 := by decide +kernel
theorem hdX2_byteAt : yX2_byteAt.cls = RX2 ∧ yX2_byteAt.cls ≠ "java/lang/invoke/MethodHandle" ∧ yX2_byteAt.cls ≠ "java/lang/invoke/VarHandle" ∧ (parseMethodDescriptor yX2_byteAt.desc).map (fun d => d.parameters.length) = some 0 := by decide +kernel
theorem hdX2_fails : yX2_fails.cls = RX2 ∧ yX2_fails.cls ≠ "java/lang/invoke/MethodHandle" ∧ yX2_fails.cls ≠ "java/lang/invoke/VarHandle" ∧ (parseMethodDescriptor yX2_fails.desc).map (fun d => d.parameters.length) = some 0 := by decide +kernel
theorem hdX2_nameOf : yX2_nameOf.cls ≠ "java/lang/invoke/MethodHandle" ∧ yX2_nameOf.cls ≠ "java/lang/invoke/VarHandle" ∧ (parseMethodDescriptor yX2_nameOf.desc).map (fun d => d.parameters.length) = some 1 := by decide +kernel
theorem hdX2_takes : yX2_takes.cls = RX2 ∧ yX2_takes.cls ≠ "java/lang/invoke/MethodHandle" ∧ yX2_takes.cls ≠ "java/lang/invoke/VarHandle" ∧ (parseMethodDescriptor yX2_takes.desc).map (fun d => d.parameters.length) = some 1 := by decide +kernel
theorem hdX2_one : yX2_one.cls = RX2 ∧ yX2_one.cls ≠ "java/lang/invoke/MethodHandle" ∧ yX2_one.cls ≠ "java/lang/invoke/VarHandle" ∧ (parseMethodDescriptor yX2_one.desc).map (fun d => d.parameters.length) = some 0 := by decide +kernel
theorem hdX2_product : yX2_product.cls = RX2 ∧ yX2_product.cls ≠ "java/lang/invoke/MethodHandle" ∧ yX2_product.cls ≠ "java/lang/invoke/VarHandle" ∧ (parseMethodDescriptor yX2_product.desc).map (fun d => d.parameters.length) = some 0 := by decide +kernel
theorem hdX2_sums : yX2_sums.cls = RX2 ∧ yX2_sums.cls ≠ "java/lang/invoke/MethodHandle" ∧ yX2_sums.cls ≠ "java/lang/invoke/VarHandle" ∧ (parseMethodDescriptor yX2_sums.desc).map (fun d => d.parameters.length) = some 0 := by decide +kernel
theorem hdX2_compared : yX2_compared.cls = RX2 ∧ yX2_compared.cls ≠ "java/lang/invoke/MethodHandle" ∧ yX2_compared.cls ≠ "java/lang/invoke/VarHandle" ∧ (parseMethodDescriptor yX2_compared.desc).map (fun d => d.parameters.length) = some 0 := by decide +kernel
theorem hdX2_both : yX2_both.cls = RX2 ∧ yX2_both.cls ≠ "java/lang/invoke/MethodHandle" ∧ yX2_both.cls ≠ "java/lang/invoke/VarHandle" ∧ (parseMethodDescriptor yX2_both.desc).map (fun d => d.parameters.length) = some 0 := by decide +kernel
theorem hdX2_either : yX2_either.cls = RX2 ∧ yX2_either.cls ≠ "java/lang/invoke/MethodHandle" ∧ yX2_either.cls ≠ "java/lang/invoke/VarHandle" ∧ (parseMethodDescriptor yX2_either.desc).map (fun d => d.parameters.length) = some 0 := by decide +kernel
theorem hdX2_workOut : yX2_workOut.cls = RX2 ∧ yX2_workOut.cls ≠ "java/lang/invoke/MethodHandle" ∧ yX2_workOut.cls ≠ "java/lang/invoke/VarHandle" ∧ (parseMethodDescriptor yX2_workOut.desc).map (fun d => d.parameters.length) = some 2 := by decide +kernel
theorem hdX2_want : yX2_want.cls = RX2 ∧ yX2_want.cls ≠ "java/lang/invoke/MethodHandle" ∧ yX2_want.cls ≠ "java/lang/invoke/VarHandle" ∧ (parseMethodDescriptor yX2_want.desc).map (fun d => d.parameters.length) = some 0 := by decide +kernel
theorem hdX2_worthOf : yX2_worthOf.cls = RX2 ∧ yX2_worthOf.cls ≠ "java/lang/invoke/MethodHandle" ∧ yX2_worthOf.cls ≠ "java/lang/invoke/VarHandle" ∧ (parseMethodDescriptor yX2_worthOf.desc).map (fun d => d.parameters.length) = some 3 := by decide +kernel
theorem hdX2_worth : yX2_worth.cls = RX2 ∧ yX2_worth.cls ≠ "java/lang/invoke/MethodHandle" ∧ yX2_worth.cls ≠ "java/lang/invoke/VarHandle" ∧ (parseMethodDescriptor yX2_worth.desc).map (fun d => d.parameters.length) = some 2 := by decide +kernel
theorem hdX2_baskets : yX2_baskets.cls = RX2 ∧ yX2_baskets.cls ≠ "java/lang/invoke/MethodHandle" ∧ yX2_baskets.cls ≠ "java/lang/invoke/VarHandle" ∧ (parseMethodDescriptor yX2_baskets.desc).map (fun d => d.parameters.length) = some 0 := by decide +kernel
theorem hdX2_layWorths : yX2_layWorths.cls = RX2 ∧ yX2_layWorths.cls ≠ "java/lang/invoke/MethodHandle" ∧ yX2_layWorths.cls ≠ "java/lang/invoke/VarHandle" ∧ (parseMethodDescriptor yX2_layWorths.desc).map (fun d => d.parameters.length) = some 1 := by decide +kernel
theorem hdX2_unpack : yX2_unpack.cls = RX2 ∧ yX2_unpack.cls ≠ "java/lang/invoke/MethodHandle" ∧ yX2_unpack.cls ≠ "java/lang/invoke/VarHandle" ∧ (parseMethodDescriptor yX2_unpack.desc).map (fun d => d.parameters.length) = some 1 := by decide +kernel
theorem hdX2_findBest : yX2_findBest.cls = RX2 ∧ yX2_findBest.cls ≠ "java/lang/invoke/MethodHandle" ∧ yX2_findBest.cls ≠ "java/lang/invoke/VarHandle" ∧ (parseMethodDescriptor yX2_findBest.desc).map (fun d => d.parameters.length) = some 3 := by decide +kernel
theorem hdX2_bestOf : yX2_bestOf.cls = RX2 ∧ yX2_bestOf.cls ≠ "java/lang/invoke/MethodHandle" ∧ yX2_bestOf.cls ≠ "java/lang/invoke/VarHandle" ∧ (parseMethodDescriptor yX2_bestOf.desc).map (fun d => d.parameters.length) = some 1 := by decide +kernel
theorem hdX2_digitsNow : yX2_digitsNow.cls = RX2 ∧ yX2_digitsNow.cls ≠ "java/lang/invoke/MethodHandle" ∧ yX2_digitsNow.cls ≠ "java/lang/invoke/VarHandle" ∧ (parseMethodDescriptor yX2_digitsNow.desc).map (fun d => d.parameters.length) = some 0 := by decide +kernel
theorem hdX2_basket : yX2_basket.cls = RX2 ∧ yX2_basket.cls ≠ "java/lang/invoke/MethodHandle" ∧ yX2_basket.cls ≠ "java/lang/invoke/VarHandle" ∧ (parseMethodDescriptor yX2_basket.desc).map (fun d => d.parameters.length) = some 2 := by decide +kernel
theorem hdX2_over : yX2_over.cls = RX2 ∧ yX2_over.cls ≠ "java/lang/invoke/MethodHandle" ∧ yX2_over.cls ≠ "java/lang/invoke/VarHandle" ∧ (parseMethodDescriptor yX2_over.desc).map (fun d => d.parameters.length) = some 1 := by decide +kernel
theorem hdX2_size : yX2_size.cls ≠ "java/lang/invoke/MethodHandle" ∧ yX2_size.cls ≠ "java/lang/invoke/VarHandle" ∧ (parseMethodDescriptor yX2_size.desc).map (fun d => d.parameters.length) = some 1 := by decide +kernel
theorem hdX2_bothOver : yX2_bothOver.cls = RX2 ∧ yX2_bothOver.cls ≠ "java/lang/invoke/MethodHandle" ∧ yX2_bothOver.cls ≠ "java/lang/invoke/VarHandle" ∧ (parseMethodDescriptor yX2_bothOver.desc).map (fun d => d.parameters.length) = some 0 := by decide +kernel
theorem hdX2_findWanted : yX2_findWanted.cls = RX2 ∧ yX2_findWanted.cls ≠ "java/lang/invoke/MethodHandle" ∧ yX2_findWanted.cls ≠ "java/lang/invoke/VarHandle" ∧ (parseMethodDescriptor yX2_findWanted.desc).map (fun d => d.parameters.length) = some 0 := by decide +kernel
theorem hdX2_wanted : yX2_wanted.cls = RX2 ∧ yX2_wanted.cls ≠ "java/lang/invoke/MethodHandle" ∧ yX2_wanted.cls ≠ "java/lang/invoke/VarHandle" ∧ (parseMethodDescriptor yX2_wanted.desc).map (fun d => d.parameters.length) = some 2 := by decide +kernel
theorem hdX2_led : yX2_led.cls = RX2 ∧ yX2_led.cls ≠ "java/lang/invoke/MethodHandle" ∧ yX2_led.cls ≠ "java/lang/invoke/VarHandle" ∧ (parseMethodDescriptor yX2_led.desc).map (fun d => d.parameters.length) = some 2 := by decide +kernel
theorem hdX2_areRounds : yX2_areRounds.cls ≠ "java/lang/invoke/MethodHandle" ∧ yX2_areRounds.cls ≠ "java/lang/invoke/VarHandle" ∧ (parseMethodDescriptor yX2_areRounds.desc).map (fun d => d.parameters.length) = some 1 := by decide +kernel
theorem hdX2_keepsLeast : yX2_keepsLeast.cls = RX2 ∧ yX2_keepsLeast.cls ≠ "java/lang/invoke/MethodHandle" ∧ yX2_keepsLeast.cls ≠ "java/lang/invoke/VarHandle" ∧ (parseMethodDescriptor yX2_keepsLeast.desc).map (fun d => d.parameters.length) = some 1 := by decide +kernel
theorem hdX2_goRounds : yX2_goRounds.cls = RX2 ∧ yX2_goRounds.cls ≠ "java/lang/invoke/MethodHandle" ∧ yX2_goRounds.cls ≠ "java/lang/invoke/VarHandle" ∧ (parseMethodDescriptor yX2_goRounds.desc).map (fun d => d.parameters.length) = some 1 := by decide +kernel
theorem hdX2_found : yX2_found.cls = RX2 ∧ yX2_found.cls ≠ "java/lang/invoke/MethodHandle" ∧ yX2_found.cls ≠ "java/lang/invoke/VarHandle" ∧ (parseMethodDescriptor yX2_found.desc).map (fun d => d.parameters.length) = some 2 := by decide +kernel
theorem hdX2_set : yX2_set.cls = RX2 ∧ yX2_set.cls ≠ "java/lang/invoke/MethodHandle" ∧ yX2_set.cls ≠ "java/lang/invoke/VarHandle" ∧ (parseMethodDescriptor yX2_set.desc).map (fun d => d.parameters.length) = some 1 := by decide +kernel
theorem hdX2_areDigits : yX2_areDigits.cls = RX2 ∧ yX2_areDigits.cls ≠ "java/lang/invoke/MethodHandle" ∧ yX2_areDigits.cls ≠ "java/lang/invoke/VarHandle" ∧ (parseMethodDescriptor yX2_areDigits.desc).map (fun d => d.parameters.length) = some 1 := by decide +kernel
theorem hdX2_tell : yX2_tell.cls = RX2 ∧ yX2_tell.cls ≠ "java/lang/invoke/MethodHandle" ∧ yX2_tell.cls ≠ "java/lang/invoke/VarHandle" ∧ (parseMethodDescriptor yX2_tell.desc).map (fun d => d.parameters.length) = some 2 := by decide +kernel
theorem hdX2_packed : yX2_packed.cls = RX2 ∧ yX2_packed.cls ≠ "java/lang/invoke/MethodHandle" ∧ yX2_packed.cls ≠ "java/lang/invoke/VarHandle" ∧ (parseMethodDescriptor yX2_packed.desc).map (fun d => d.parameters.length) = some 1 := by decide +kernel
theorem hdX2_judge : yX2_judge.cls = RX2 ∧ yX2_judge.cls ≠ "java/lang/invoke/MethodHandle" ∧ yX2_judge.cls ≠ "java/lang/invoke/VarHandle" ∧ (parseMethodDescriptor yX2_judge.desc).map (fun d => d.parameters.length) = some 0 := by decide +kernel
theorem hdX2_findChanged : yX2_findChanged.cls = RX2 ∧ yX2_findChanged.cls ≠ "java/lang/invoke/MethodHandle" ∧ yX2_findChanged.cls ≠ "java/lang/invoke/VarHandle" ∧ (parseMethodDescriptor yX2_findChanged.desc).map (fun d => d.parameters.length) = some 2 := by decide +kernel
theorem hdX2_isRate : yX2_isRate.cls ≠ "java/lang/invoke/MethodHandle" ∧ yX2_isRate.cls ≠ "java/lang/invoke/VarHandle" ∧ (parseMethodDescriptor yX2_isRate.desc).map (fun d => d.parameters.length) = some 1 := by decide +kernel
theorem hdX2_changed : yX2_changed.cls = RX2 ∧ yX2_changed.cls ≠ "java/lang/invoke/MethodHandle" ∧ yX2_changed.cls ≠ "java/lang/invoke/VarHandle" ∧ (parseMethodDescriptor yX2_changed.desc).map (fun d => d.parameters.length) = some 3 := by decide +kernel
theorem hdX2_free : yX2_free.cls = RX2 ∧ yX2_free.cls ≠ "java/lang/invoke/MethodHandle" ∧ yX2_free.cls ≠ "java/lang/invoke/VarHandle" ∧ (parseMethodDescriptor yX2_free.desc).map (fun d => d.parameters.length) = some 0 := by decide +kernel
theorem hdX2_black : yX2_black.cls = RX2 ∧ yX2_black.cls ≠ "java/lang/invoke/MethodHandle" ∧ yX2_black.cls ≠ "java/lang/invoke/VarHandle" ∧ (parseMethodDescriptor yX2_black.desc).map (fun d => d.parameters.length) = some 3 := by decide +kernel
theorem hdX2_besideOf : yX2_besideOf.cls = RX2 ∧ yX2_besideOf.cls ≠ "java/lang/invoke/MethodHandle" ∧ yX2_besideOf.cls ≠ "java/lang/invoke/VarHandle" ∧ (parseMethodDescriptor yX2_besideOf.desc).map (fun d => d.parameters.length) = some 2 := by decide +kernel
theorem hdX2_isHow : yX2_isHow.cls ≠ "java/lang/invoke/MethodHandle" ∧ yX2_isHow.cls ≠ "java/lang/invoke/VarHandle" ∧ (parseMethodDescriptor yX2_isHow.desc).map (fun d => d.parameters.length) = some 1 := by decide +kernel
theorem hdX2_beside : yX2_beside.cls = RX2 ∧ yX2_beside.cls ≠ "java/lang/invoke/MethodHandle" ∧ yX2_beside.cls ≠ "java/lang/invoke/VarHandle" ∧ (parseMethodDescriptor yX2_beside.desc).map (fun d => d.parameters.length) = some 2 := by decide +kernel
theorem hdX2_loses : yX2_loses.cls = RX2 ∧ yX2_loses.cls ≠ "java/lang/invoke/MethodHandle" ∧ yX2_loses.cls ≠ "java/lang/invoke/VarHandle" ∧ (parseMethodDescriptor yX2_loses.desc).map (fun d => d.parameters.length) = some 1 := by decide +kernel
theorem hdX2_bitsOf : yX2_bitsOf.cls ≠ "java/lang/invoke/MethodHandle" ∧ yX2_bitsOf.cls ≠ "java/lang/invoke/VarHandle" ∧ (parseMethodDescriptor yX2_bitsOf.desc).map (fun d => d.parameters.length) = some 1 := by decide +kernel
theorem hdX2_isGone : yX2_isGone.cls = RX2 ∧ yX2_isGone.cls ≠ "java/lang/invoke/MethodHandle" ∧ yX2_isGone.cls ≠ "java/lang/invoke/VarHandle" ∧ (parseMethodDescriptor yX2_isGone.desc).map (fun d => d.parameters.length) = some 0 := by decide +kernel
theorem hdX2_fewest : yX2_fewest.cls = RX2 ∧ yX2_fewest.cls ≠ "java/lang/invoke/MethodHandle" ∧ yX2_fewest.cls ≠ "java/lang/invoke/VarHandle" ∧ (parseMethodDescriptor yX2_fewest.desc).map (fun d => d.parameters.length) = some 0 := by decide +kernel
theorem hdX2_least : yX2_least.cls = RX2 ∧ yX2_least.cls ≠ "java/lang/invoke/MethodHandle" ∧ yX2_least.cls ≠ "java/lang/invoke/VarHandle" ∧ (parseMethodDescriptor yX2_least.desc).map (fun d => d.parameters.length) = some 1 := by decide +kernel
theorem hdX2_months : yX2_months.cls = RX2 ∧ yX2_months.cls ≠ "java/lang/invoke/MethodHandle" ∧ yX2_months.cls ≠ "java/lang/invoke/VarHandle" ∧ (parseMethodDescriptor yX2_months.desc).map (fun d => d.parameters.length) = some 4 := by decide +kernel
theorem hdX2_foresight : yX2_foresight.cls = RX2 ∧ yX2_foresight.cls ≠ "java/lang/invoke/MethodHandle" ∧ yX2_foresight.cls ≠ "java/lang/invoke/VarHandle" ∧ (parseMethodDescriptor yX2_foresight.desc).map (fun d => d.parameters.length) = some 1 := by decide +kernel
theorem hdX2_cheap : yX2_cheap.cls = RX2 ∧ yX2_cheap.cls ≠ "java/lang/invoke/MethodHandle" ∧ yX2_cheap.cls ≠ "java/lang/invoke/VarHandle" ∧ (parseMethodDescriptor yX2_cheap.desc).map (fun d => d.parameters.length) = some 1 := by decide +kernel
theorem hdX2_wrong : yX2_wrong.cls = RX2 ∧ yX2_wrong.cls ≠ "java/lang/invoke/MethodHandle" ∧ yX2_wrong.cls ≠ "java/lang/invoke/VarHandle" ∧ (parseMethodDescriptor yX2_wrong.desc).map (fun d => d.parameters.length) = some 1 := by decide +kernel
theorem hdX2_body : yX2_body.cls = RX2 ∧ yX2_body.cls ≠ "java/lang/invoke/MethodHandle" ∧ yX2_body.cls ≠ "java/lang/invoke/VarHandle" ∧ (parseMethodDescriptor yX2_body.desc).map (fun d => d.parameters.length) = some 1 := by decide +kernel
theorem hdX2_begins : yX2_begins.cls = RX2 ∧ yX2_begins.cls ≠ "java/lang/invoke/MethodHandle" ∧ yX2_begins.cls ≠ "java/lang/invoke/VarHandle" ∧ (parseMethodDescriptor yX2_begins.desc).map (fun d => d.parameters.length) = some 1 := by decide +kernel
theorem hdX2_buysAs : yX2_buysAs.cls = RX2 ∧ yX2_buysAs.cls ≠ "java/lang/invoke/MethodHandle" ∧ yX2_buysAs.cls ≠ "java/lang/invoke/VarHandle" ∧ (parseMethodDescriptor yX2_buysAs.desc).map (fun d => d.parameters.length) = some 2 := by decide +kernel
theorem hdX2_isBody : yX2_isBody.cls = RX2 ∧ yX2_isBody.cls ≠ "java/lang/invoke/MethodHandle" ∧ yX2_isBody.cls ≠ "java/lang/invoke/VarHandle" ∧ (parseMethodDescriptor yX2_isBody.desc).map (fun d => d.parameters.length) = some 1 := by decide +kernel
theorem hdX2_lendsAs : yX2_lendsAs.cls = RX2 ∧ yX2_lendsAs.cls ≠ "java/lang/invoke/MethodHandle" ∧ yX2_lendsAs.cls ≠ "java/lang/invoke/VarHandle" ∧ (parseMethodDescriptor yX2_lendsAs.desc).map (fun d => d.parameters.length) = some 2 := by decide +kernel
theorem hdX2_keepsAs : yX2_keepsAs.cls = RX2 ∧ yX2_keepsAs.cls ≠ "java/lang/invoke/MethodHandle" ∧ yX2_keepsAs.cls ≠ "java/lang/invoke/VarHandle" ∧ (parseMethodDescriptor yX2_keepsAs.desc).map (fun d => d.parameters.length) = some 2 := by decide +kernel
theorem hdX2_tellsAs : yX2_tellsAs.cls = RX2 ∧ yX2_tellsAs.cls ≠ "java/lang/invoke/MethodHandle" ∧ yX2_tellsAs.cls ≠ "java/lang/invoke/VarHandle" ∧ (parseMethodDescriptor yX2_tellsAs.desc).map (fun d => d.parameters.length) = some 2 := by decide +kernel
theorem hdX2_act : yX2_act.cls = RX2 ∧ yX2_act.cls ≠ "java/lang/invoke/MethodHandle" ∧ yX2_act.cls ≠ "java/lang/invoke/VarHandle" ∧ (parseMethodDescriptor yX2_act.desc).map (fun d => d.parameters.length) = some 3 := by decide +kernel
theorem hdX2_trace : yX2_trace.cls = RX2 ∧ yX2_trace.cls ≠ "java/lang/invoke/MethodHandle" ∧ yX2_trace.cls ≠ "java/lang/invoke/VarHandle" ∧ (parseMethodDescriptor yX2_trace.desc).map (fun d => d.parameters.length) = some 1 := by decide +kernel
theorem hdX2_keep : yX2_keep.cls = RX2 ∧ yX2_keep.cls ≠ "java/lang/invoke/MethodHandle" ∧ yX2_keep.cls ≠ "java/lang/invoke/VarHandle" ∧ (parseMethodDescriptor yX2_keep.desc).map (fun d => d.parameters.length) = some 2 := by decide +kernel
theorem hdX2_row : yX2_row.cls = RX2 ∧ yX2_row.cls ≠ "java/lang/invoke/MethodHandle" ∧ yX2_row.cls ≠ "java/lang/invoke/VarHandle" ∧ (parseMethodDescriptor yX2_row.desc).map (fun d => d.parameters.length) = some 3 := by decide +kernel
theorem hdX2_asSort : yX2_asSort.cls ≠ "java/lang/invoke/MethodHandle" ∧ yX2_asSort.cls ≠ "java/lang/invoke/VarHandle" ∧ (parseMethodDescriptor yX2_asSort.desc).map (fun d => d.parameters.length) = some 2 := by decide +kernel
theorem hdX2_refusal : yX2_refusal.cls = RX2 ∧ yX2_refusal.cls ≠ "java/lang/invoke/MethodHandle" ∧ yX2_refusal.cls ≠ "java/lang/invoke/VarHandle" ∧ (parseMethodDescriptor yX2_refusal.desc).map (fun d => d.parameters.length) = some 2 := by decide +kernel
theorem hdX2_put : yX2_put.cls = RX2 ∧ yX2_put.cls ≠ "java/lang/invoke/MethodHandle" ∧ yX2_put.cls ≠ "java/lang/invoke/VarHandle" ∧ (parseMethodDescriptor yX2_put.desc).map (fun d => d.parameters.length) = some 3 := by decide +kernel
theorem hdX2_element : yX2_element.cls = RX2 ∧ yX2_element.cls ≠ "java/lang/invoke/MethodHandle" ∧ yX2_element.cls ≠ "java/lang/invoke/VarHandle" ∧ (parseMethodDescriptor yX2_element.desc).map (fun d => d.parameters.length) = some 2 := by decide +kernel
theorem hdX2_shift : yX2_shift.cls = RX2 ∧ yX2_shift.cls ≠ "java/lang/invoke/MethodHandle" ∧ yX2_shift.cls ≠ "java/lang/invoke/VarHandle" ∧ (parseMethodDescriptor yX2_shift.desc).map (fun d => d.parameters.length) = some 5 := by decide +kernel
theorem hdX2_above : yX2_above.cls ≠ "java/lang/invoke/MethodHandle" ∧ yX2_above.cls ≠ "java/lang/invoke/VarHandle" ∧ (parseMethodDescriptor yX2_above.desc).map (fun d => d.parameters.length) = some 1 := by decide +kernel
theorem hdX2_kindOf : yX2_kindOf.cls = RX2 ∧ yX2_kindOf.cls ≠ "java/lang/invoke/MethodHandle" ∧ yX2_kindOf.cls ≠ "java/lang/invoke/VarHandle" ∧ (parseMethodDescriptor yX2_kindOf.desc).map (fun d => d.parameters.length) = some 1 := by decide +kernel
theorem hdX2_taken : yX2_taken.cls = RX2 ∧ yX2_taken.cls ≠ "java/lang/invoke/MethodHandle" ∧ yX2_taken.cls ≠ "java/lang/invoke/VarHandle" ∧ (parseMethodDescriptor yX2_taken.desc).map (fun d => d.parameters.length) = some 2 := by decide +kernel
theorem hdX2_count : yX2_count.cls = RX2 ∧ yX2_count.cls ≠ "java/lang/invoke/MethodHandle" ∧ yX2_count.cls ≠ "java/lang/invoke/VarHandle" ∧ (parseMethodDescriptor yX2_count.desc).map (fun d => d.parameters.length) = some 1 := by decide +kernel
set_option maxRecDepth 100000
def f_X2_undo (σ : GS) (P : GS → Int32 → Prop) : Prop :=
    (((gI σ 5) = 0 → P σ (-5 : Int32)) ∧
    (¬ (gI σ 5) = 0 → (∀ σ2 : GS, σ2 = sI σ 5 ((gI σ 5) - (1 : Int32)) → vp_in (gI σ2 5) 40 ∧ vp_in (gI σ2 5) 40 ∧ vp_in (gA σ2 1 (gI σ2 5).toNatClampNeg) 28 ∧ (∀ σ6 : GS, σ6 = sA σ2 0 (gA σ2 1 (gI σ2 5).toNatClampNeg).toNatClampNeg (gA σ2 2 (gI σ2 5).toNatClampNeg) → P σ6 (gI σ6 5)))))
def f_X2_redo (σ : GS) (P : GS → Int32 → Prop) : Prop :=
    (((gI σ 5) = (gI σ 4) → P σ (-5 : Int32)) ∧
    (¬ (gI σ 5) = (gI σ 4) → vp_in (gI σ 5) 40 ∧ vp_in (gI σ 5) 40 ∧ vp_in (gA σ 1 (gI σ 5).toNatClampNeg) 28 ∧ (∀ σ5 : GS, σ5 = sA σ 0 (gA σ 1 (gI σ 5).toNatClampNeg).toNatClampNeg (gA σ 3 (gI σ 5).toNatClampNeg) → (∀ σ6 : GS, σ6 = sI σ5 5 ((gI σ5 5) + (1 : Int32)) → P σ6 ((gI σ6 4) - (gI σ6 5))))))
def f_X2_adds (σ : GS) (x1 : Int32) (x2 : Int32) (x3 : Int32) (x4 : Int32) (P : GS → Prop) : Prop :=
    vp_in (gI σ 6) 28 ∧ (∀ σ2 : GS, σ2 = sA σ 0 (gI σ 6).toNatClampNeg x1 → vp_in ((6 : Int32) + (gI σ2 6)) 28 ∧ (∀ σ4 : GS, σ4 = sA σ2 0 ((6 : Int32) + (gI σ2 6)).toNatClampNeg x2 → vp_in ((12 : Int32) + (gI σ4 6)) 28 ∧ (∀ σ6 : GS, σ6 = sA σ4 0 ((12 : Int32) + (gI σ4 6)).toNatClampNeg x3 → vp_in (gI σ6 6) 6 ∧ (∀ σ8 : GS, σ8 = sA σ6 7 (gI σ6 6).toNatClampNeg x4 → (∀ σ9 : GS, σ9 = sI σ8 6 ((gI σ8 6) + (1 : Int32)) → P σ9)))))
def f_X2_within (σ : GS) (x0 : Int64) (x2 : Int64) (x4 : Int64) (P : GS → Int32 → Prop) : Prop :=
    (((lg_cmp x0 x2) < 0 → P σ (0 : Int32)) ∧
    (¬ (lg_cmp x0 x2) < 0 → ((0 < (lg_cmp x0 x4) → P σ (0 : Int32)) ∧
     (¬ 0 < (lg_cmp x0 x4) → P σ (1 : Int32)))))
def f_X2_isTwo (σ : GS) (x0 : Int64) (P : GS → Int32 → Prop) : Prop :=
    f_X2_within σ x0 (0 : Int64) (99 : Int64) (fun σ1 v2 =>
    gZ v2 ∧ P σ1 v2)
def f_X2_thing (σ : GS) (x1 : Int32) (x2 : Int32) (x3 : Int32) (P : GS → Int32 → Prop) : Prop :=
    f_X2_within σ x1.toInt64 (0 : Int64) (999 : Int64) (fun σ1 v2 =>
    ((v2 = 0 → P σ1 (-1 : Int32)) ∧
    (¬ v2 = 0 → f_X2_within σ1 x2.toInt64 (0 : Int64) (9999 : Int64) (fun σ4 v5 =>
     ((v5 = 0 → P σ4 (-1 : Int32)) ∧
     (¬ v5 = 0 → f_X2_isTwo σ4 x3.toInt64 (fun σ7 v8 =>
      ((v8 = 0 → P σ7 (-1 : Int32)) ∧
      (¬ v8 = 0 → (((gI σ7 6) = (6 : Int32) → P σ7 (-3 : Int32)) ∧
       (¬ (gI σ7 6) = (6 : Int32) → f_X2_adds σ7 x1 (x2 / (100 : Int32)) (x2 - x2 / (100 : Int32) * (100 : Int32)) x3 (fun σ11 =>
        P σ11 ((gI σ11 6) - (1 : Int32))))))))))))))
def f_X2_isShelf (σ : GS) (x0 : Int32) (P : GS → Int32 → Prop) : Prop :=
    f_X2_within σ x0.toInt64 (0 : Int64) (5 : Int64) (fun σ1 v2 =>
    gZ v2 ∧ P σ1 v2)
def f_X2_things_250 (k69 : GS → Int32 → Int32 → Int32 → Int32 → Int32 → Prop) (P : GS → Int32 → Prop) (σ : GS) (x1 : Int32) (x2 : Int32) (x3 : Int32) (x4 : Int32) (x5 : Int32) : Prop :=
    k69 σ x1 x2 x3 x4 x5
def f_X2_things_198 (k69 : GS → Int32 → Int32 → Int32 → Int32 → Int32 → Prop) (P : GS → Int32 → Prop) (σ : GS) (x1 : Int32) (x2 : Int32) (x3 : Int32) (x4 : Int32) (x6 : Int32) (t0 : Int32) : Prop :=
    ((t0 = 0 → f_X2_things_250 k69 P σ x1 x2 x3 x4 t0) ∧
    (¬ t0 = 0 → vp_in x6 360 ∧ vp_in (x6 + (1 : Int32)) 360 ∧ vp_in (x6 + (2 : Int32)) 360 ∧ vp_in (x6 + (3 : Int32)) 360 ∧ f_X2_adds σ ((gL σ 53 x6.toNatClampNeg).toInt32) ((gL σ 53 (x6 + (1 : Int32)).toNatClampNeg).toInt32) ((gL σ 53 (x6 + (2 : Int32)).toNatClampNeg).toInt32) ((gL σ 53 (x6 + (3 : Int32)).toNatClampNeg).toInt32) (fun σ6 =>
     f_X2_things_250 k69 P σ6 x1 x2 x3 (x4 + 1) t0)))
def f_X2_things_197 (k69 : GS → Int32 → Int32 → Int32 → Int32 → Int32 → Prop) (P : GS → Int32 → Prop) (σ : GS) (x1 : Int32) (x2 : Int32) (x3 : Int32) (x4 : Int32) (x6 : Int32) : Prop :=
    f_X2_things_198 k69 P σ x1 x2 x3 x4 x6 (0 : Int32)
def f_X2_things_111 (k69 : GS → Int32 → Int32 → Int32 → Int32 → Int32 → Prop) (P : GS → Int32 → Prop) (σ : GS) (x1 : Int32) (x2 : Int32) (x3 : Int32) (x4 : Int32) (t0 : Int32) : Prop :=
    (∀ z1 : Int32, z1 = (((60 : Int32) * x1) + x2) + ((4 : Int32) * x4) → ((t0 = 0 → f_X2_things_197 k69 P σ x1 x2 x3 x4 z1) ∧
    (¬ t0 = 0 → vp_in z1 360 ∧ f_X2_within σ (gL σ 53 z1.toNatClampNeg) (0 : Int64) (999 : Int64) (fun σ4 v5 =>
     ((v5 = 0 → f_X2_things_197 k69 P σ4 x1 x2 x3 x4 z1) ∧
     (¬ v5 = 0 → vp_in (z1 + (1 : Int32)) 360 ∧ f_X2_isTwo σ4 (gL σ4 53 (z1 + (1 : Int32)).toNatClampNeg) (fun σ8 v9 =>
      ((v9 = 0 → f_X2_things_197 k69 P σ8 x1 x2 x3 x4 z1) ∧
      (¬ v9 = 0 → vp_in (z1 + (2 : Int32)) 360 ∧ f_X2_isTwo σ8 (gL σ8 53 (z1 + (2 : Int32)).toNatClampNeg) (fun σ12 v13 =>
       ((v13 = 0 → f_X2_things_197 k69 P σ12 x1 x2 x3 x4 z1) ∧
       (¬ v13 = 0 → vp_in (z1 + (3 : Int32)) 360 ∧ f_X2_isTwo σ12 (gL σ12 53 (z1 + (3 : Int32)).toNatClampNeg) (fun σ16 v17 =>
        ((v17 = 0 → f_X2_things_197 k69 P σ16 x1 x2 x3 x4 z1) ∧
        (¬ v17 = 0 → f_X2_things_198 k69 P σ16 x1 x2 x3 x4 z1 (1 : Int32))))))))))))))))
def f_X2_things_110 (k69 : GS → Int32 → Int32 → Int32 → Int32 → Int32 → Prop) (P : GS → Int32 → Prop) (σ : GS) (x1 : Int32) (x2 : Int32) (x3 : Int32) (x4 : Int32) : Prop :=
    f_X2_things_111 k69 P σ x1 x2 x3 x4 (0 : Int32)
def f_X2_things_69 (P : GS → Int32 → Prop) : Nat → GS → Int32 → Int32 → Int32 → Int32 → Int32 → Prop
  | 0 => fun _ _ _ _ _ _ => False
  | n + 1 => fun σ x1 x2 x3 x4 x5 => ((x5 = 0 → P σ x4) ∧
    (¬ x5 = 0 → ((x3 ≤ x4 → P σ x4) ∧
     (¬ x3 ≤ x4 → vp_in x1 6 ∧ (((((gA σ 52 x1.toNatClampNeg) - (4 : Int32)) - ((4 : Int32) * x4)) < x2 → f_X2_things_110 (f_X2_things_69 P n) P σ x1 x2 x3 x4) ∧
      (¬ (((gA σ 52 x1.toNatClampNeg) - (4 : Int32)) - ((4 : Int32) * x4)) < x2 → (((6 : Int32) ≤ (gI σ 6) → f_X2_things_110 (f_X2_things_69 P n) P σ x1 x2 x3 x4) ∧
       (¬ (6 : Int32) ≤ (gI σ 6) → f_X2_things_111 (f_X2_things_69 P n) P σ x1 x2 x3 x4 (1 : Int32)))))))))
def f_X2_things_67 (P : GS → Int32 → Prop) (σ : GS) (x1 : Int32) (x2 : Int32) (x3 : Int32) (x4 : Int32) (t0 : Int32) : Prop :=
    (∃ q_ : Nat, f_X2_things_69 P q_ σ x1 x2 x3 x4 t0)
def f_X2_things_66 (P : GS → Int32 → Prop) (σ : GS) (x1 : Int32) (x2 : Int32) (x3 : Int32) (x4 : Int32) : Prop :=
    f_X2_things_67 P σ x1 x2 x3 x4 (0 : Int32)
def f_X2_things_44 (P : GS → Int32 → Prop) (σ : GS) (x1 : Int32) (x2 : Int32) (x3 : Int32) : Prop :=
    vp_in x1 6 ∧ (((gA σ 51 x1.toNatClampNeg) = (51 : Int32) → ((x2 < 0 → f_X2_things_66 P σ x1 x2 x3 (0 : Int32)) ∧
     (¬ x2 < 0 → f_X2_things_67 P σ x1 x2 x3 (0 : Int32) (1 : Int32)))) ∧
    (¬ (gA σ 51 x1.toNatClampNeg) = (51 : Int32) → f_X2_things_66 P σ x1 x2 x3 (0 : Int32)))
def f_X2_things (σ : GS) (x1 : Int32) (x2 : Int32) (x3 : Int32) (P : GS → Int32 → Prop) : Prop :=
    f_X2_isShelf σ x1 (fun σ1 v2 =>
    ((v2 = 0 → P σ1 (-1 : Int32)) ∧
    (¬ v2 = 0 → f_X2_within σ1 x3.toInt64 (1 : Int64) (6 : Int64) (fun σ4 v5 =>
     ((v5 = 0 → P σ4 (-1 : Int32)) ∧
     (¬ v5 = 0 → vp_in x1 6 ∧ (((gA σ4 51 x1.toNatClampNeg) < 0 → f_X2_things_44 P σ4 x1 x2 x3) ∧
      (¬ (gA σ4 51 x1.toNatClampNeg) < 0 → vp_in x1 6 ∧ (((gA σ4 51 x1.toNatClampNeg) = (51 : Int32) → f_X2_things_44 P σ4 x1 x2 x3) ∧
       (¬ (gA σ4 51 x1.toNatClampNeg) = (51 : Int32) → P σ4 (-12 : Int32)))))))))))
def f_X2_becomes_97 (P : GS → Int32 → Prop) (σ : GS) (x1 : Int32) (x2 : Int32) (x3 : Int32) : Prop :=
    vp_in (gI σ 5) 40 ∧ (∀ σ2 : GS, σ2 = sA σ 1 (gI σ 5).toNatClampNeg x1 → vp_in (gI σ2 5) 40 ∧ (∀ σ4 : GS, σ4 = sA σ2 2 (gI σ2 5).toNatClampNeg x3 → vp_in (gI σ4 5) 40 ∧ (∀ σ6 : GS, σ6 = sA σ4 3 (gI σ4 5).toNatClampNeg x2 → (∀ σ7 : GS, σ7 = sI σ6 5 ((gI σ6 5) + (1 : Int32)) → (∀ σ8 : GS, σ8 = sI σ7 4 (gI σ7 5) → vp_in x1 28 ∧ (∀ σ10 : GS, σ10 = sA σ8 0 x1.toNatClampNeg x2 → P σ10 x3))))))
def f_X2_becomes_26 (P : GS → Int32 → Prop) : Nat → GS → Int32 → Int32 → Int32 → Int32 → Prop
  | 0 => fun _ _ _ _ _ => False
  | n + 1 => fun σ x1 x2 x3 x4 => (((40 : Int32) ≤ x4 → (∀ σ2 : GS, σ2 = sI σ 5 ((gI σ 5) - (1 : Int32)) → f_X2_becomes_97 P σ2 x1 x2 x3)) ∧
    (¬ (40 : Int32) ≤ x4 → vp_in x4 40 ∧ vp_in (x4 - (1 : Int32)) 40 ∧ (∀ σ5 : GS, σ5 = sA σ 1 (x4 - (1 : Int32)).toNatClampNeg (gA σ 1 x4.toNatClampNeg) → vp_in x4 40 ∧ vp_in (x4 - (1 : Int32)) 40 ∧ (∀ σ8 : GS, σ8 = sA σ5 2 (x4 - (1 : Int32)).toNatClampNeg (gA σ5 2 x4.toNatClampNeg) → vp_in x4 40 ∧ vp_in (x4 - (1 : Int32)) 40 ∧ (∀ σ11 : GS, σ11 = sA σ8 3 (x4 - (1 : Int32)).toNatClampNeg (gA σ8 3 x4.toNatClampNeg) → f_X2_becomes_26 P n σ11 x1 x2 x3 (x4 + 1))))))
def f_X2_becomes (σ : GS) (x1 : Int32) (x2 : Int32) (P : GS → Int32 → Prop) : Prop :=
    vp_in x1 28 ∧ (((gA σ 0 x1.toNatClampNeg) = x2 → P σ (gA σ 0 x1.toNatClampNeg)) ∧
    (¬ (gA σ 0 x1.toNatClampNeg) = x2 → (((gI σ 5) = (40 : Int32) → (∃ q_ : Nat, f_X2_becomes_26 P q_ σ x1 x2 (gA σ 0 x1.toNatClampNeg) (1 : Int32))) ∧
     (¬ (gI σ 5) = (40 : Int32) → f_X2_becomes_97 P σ x1 x2 (gA σ 0 x1.toNatClampNeg)))))
def f_X2_isThing (σ : GS) (x1 : Int32) (P : GS → Int32 → Prop) : Prop :=
    f_X2_within σ x1.toInt64 (0 : Int64) (((gI σ 6) - (1 : Int32)).toInt64) (fun σ1 v2 =>
    gZ v2 ∧ P σ1 v2)
def f_X2_mend_36 (P : GS → Int32 → Prop) (σ : GS) (x1 : Int32) (x2 : Int32) (x3 : Int32) (t2 : Int64) (t1 : Int64) (t0 : Int64) : Prop :=
    f_X2_within σ t0 t1 t2 (fun σ1 v2 =>
    ((v2 = 0 → P σ1 (-1 : Int32)) ∧
    (¬ v2 = 0 → f_X2_becomes σ1 (((6 : Int32) * x2) + x1) x3 (fun σ4 v5 =>
     P σ4 v5))))
def f_X2_mend (σ : GS) (x1 : Int32) (x2 : Int32) (x3 : Int32) (P : GS → Int32 → Prop) : Prop :=
    f_X2_isThing σ x1 (fun σ1 v2 =>
    ((v2 = 0 → P σ1 (-1 : Int32)) ∧
    (¬ v2 = 0 → f_X2_within σ1 x2.toInt64 (0 : Int64) (2 : Int64) (fun σ4 v5 =>
     ((v5 = 0 → P σ4 (-1 : Int32)) ∧
     (¬ v5 = 0 → ((x2 = 0 → f_X2_mend_36 P σ4 x1 x2 x3 (999 : Int64) (0 : Int64) x3.toInt64) ∧
      (¬ x2 = 0 → f_X2_mend_36 P σ4 x1 x2 x3 (99 : Int64) (0 : Int64) x3.toInt64))))))))
def f_X2_sort (σ : GS) (x1 : Int32) (x2 : Int32) (x3 : Int32) (P : GS → Int32 → Prop) : Prop :=
    f_X2_within σ x1.toInt64 (1 : Int64) (99 : Int64) (fun σ1 v2 =>
    ((v2 = 0 → P σ1 (-1 : Int32)) ∧
    (¬ v2 = 0 → f_X2_within σ1 x2.toInt64 (0 : Int64) (9999 : Int64) (fun σ4 v5 =>
     ((v5 = 0 → P σ4 (-1 : Int32)) ∧
     (¬ v5 = 0 → ((x3 < 0 → P σ4 (-1 : Int32)) ∧
      (¬ x3 < 0 → (((3 : Int32) < (x3 / (10 : Int32)) → P σ4 (-1 : Int32)) ∧
       (¬ (3 : Int32) < (x3 / (10 : Int32)) → (((x3 - x3 / (10 : Int32) * (10 : Int32)) < (gI σ4 15) → (((gI σ4 8) = (5 : Int32) → P σ4 (-3 : Int32)) ∧
         (¬ (gI σ4 8) = (5 : Int32) → vp_in (gI σ4 8) 5 ∧ (∀ σ12 : GS, σ12 = sA σ4 9 (gI σ4 8).toNatClampNeg x1 → vp_in ((18 : Int32) + (gI σ12 8)) 28 ∧ (∀ σ14 : GS, σ14 = sA σ12 0 ((18 : Int32) + (gI σ12 8)).toNatClampNeg (x2 / (100 : Int32)) → vp_in ((23 : Int32) + (gI σ14 8)) 28 ∧ (∀ σ16 : GS, σ16 = sA σ14 0 ((23 : Int32) + (gI σ14 8)).toNatClampNeg (x2 - x2 / (100 : Int32) * (100 : Int32)) → vp_in (gI σ16 8) 5 ∧ (∀ σ18 : GS, σ18 = sA σ16 10 (gI σ16 8).toNatClampNeg (x3 / (10 : Int32)) → vp_in (gI σ18 8) 5 ∧ (∀ σ20 : GS, σ20 = sA σ18 11 (gI σ18 8).toNatClampNeg (x3 - x3 / (10 : Int32) * (10 : Int32)) → vp_in (gI σ20 8) 5 ∧ (∀ σ22 : GS, σ22 = sA σ20 12 (gI σ20 8).toNatClampNeg (0 : Int32) → (∀ σ23 : GS, σ23 = sI σ22 8 ((gI σ22 8) + (1 : Int32)) → P σ23 ((gI σ23 8) - (1 : Int32)))))))))))) ∧
        (¬ (x3 - x3 / (10 : Int32) * (10 : Int32)) < (gI σ4 15) → P σ4 (-1 : Int32)))))))))))))
def f_X2_isSort (σ : GS) (x1 : Int32) (P : GS → Int32 → Prop) : Prop :=
    f_X2_within σ x1.toInt64 (0 : Int64) (((gI σ 8) - (1 : Int32)).toInt64) (fun σ1 v2 =>
    gZ v2 ∧ P σ1 v2)
def f_X2_purse_38 (P : GS → Int32 → Prop) (σ : GS) (x1 : Int32) (x3 : Int32) (t1 : Int32) : Prop :=
    f_X2_becomes σ (t1 + x1) x3 (fun σ1 v2 =>
    P σ1 v2)
def f_X2_purse (σ : GS) (x1 : Int32) (x2 : Int32) (x3 : Int32) (P : GS → Int32 → Prop) : Prop :=
    f_X2_isSort σ x1 (fun σ1 v2 =>
    ((v2 = 0 → P σ1 (-1 : Int32)) ∧
    (¬ v2 = 0 → f_X2_within σ1 x2.toInt64 (0 : Int64) (1 : Int64) (fun σ4 v5 =>
     ((v5 = 0 → P σ4 (-1 : Int32)) ∧
     (¬ v5 = 0 → f_X2_isTwo σ4 x3.toInt64 (fun σ7 v8 =>
      ((v8 = 0 → P σ7 (-1 : Int32)) ∧
      (¬ v8 = 0 → ((x2 = 0 → f_X2_purse_38 P σ7 x1 x3 (18 : Int32)) ∧
       (¬ x2 = 0 → f_X2_purse_38 P σ7 x1 x3 (23 : Int32))))))))))))
def f_X2_pointsInAll (σ : GS) (x1 : Int32) (P : GS → Int32 → Prop) : Prop :=
    vp_in ((23 : Int32) + x1) 28 ∧ vp_in x1 5 ∧ P σ ((gA σ 0 ((23 : Int32) + x1).toNatClampNeg) + ((10 : Int32) * (gA σ 10 x1.toNatClampNeg)))
def f_X2_purseOf (σ : GS) (x1 : Int32) (P : GS → Int32 → Prop) : Prop :=
    vp_in ((18 : Int32) + x1) 28 ∧ P σ (gA σ 0 ((18 : Int32) + x1).toNatClampNeg)
def f_X2_of (σ : GS) (x1 : Int32) (x2 : Int32) (P : GS → Int32 → Prop) : Prop :=
    f_X2_within σ x2.toInt64 (0 : Int64) (3 : Int64) (fun σ1 v2 =>
    ((v2 = 0 → f_X2_isSort σ1 x1 (fun σ4 v5 =>
     ((v5 = 0 → P σ4 (-1 : Int32)) ∧
     (¬ v5 = 0 → ((x2 = (10 : Int32) → vp_in x1 5 ∧ P σ4 (gA σ4 9 x1.toNatClampNeg)) ∧
      (¬ x2 = (10 : Int32) → ((x2 = (11 : Int32) → f_X2_purseOf σ4 x1 (fun σ8 v9 =>
       P σ8 v9)) ∧
      (¬ x2 = (11 : Int32) → ((x2 = (12 : Int32) → f_X2_pointsInAll σ4 x1 (fun σ10 v11 =>
       P σ10 v11)) ∧
      (¬ x2 = (12 : Int32) → ((x2 = (13 : Int32) → vp_in x1 5 ∧ P σ4 (gA σ4 10 x1.toNatClampNeg)) ∧
      (¬ x2 = (13 : Int32) → ((x2 = (14 : Int32) → vp_in x1 5 ∧ P σ4 (gA σ4 11 x1.toNatClampNeg)) ∧
      (¬ x2 = (14 : Int32) → P σ4 (-1 : Int32))))))))))))))) ∧
    (¬ v2 = 0 → f_X2_isThing σ1 x1 (fun σ15 v16 =>
     ((v16 = 0 → P σ15 (-1 : Int32)) ∧
     (¬ v16 = 0 → ((x2 = (3 : Int32) → vp_in x1 6 ∧ P σ15 (gA σ15 7 x1.toNatClampNeg)) ∧
      (¬ x2 = (3 : Int32) → vp_in (((6 : Int32) * x2) + x1) 28 ∧ P σ15 (gA σ15 0 (((6 : Int32) * x2) + x1).toNatClampNeg)))))))))
def f_X2_feed_30 (P : GS → Int32 → Prop) : Nat → GS → Int32 → Int32 → Int32 → Prop
  | 0 => fun _ _ _ _ => False
  | n + 1 => fun σ x1 x2 x3 => ((x1 ≤ x3 → P σ (gI σ 14)) ∧
    (¬ x1 ≤ x3 → vp_in (gI σ 14) 120 ∧ (∀ σ3 : GS, σ3 = sA σ 13 (gI σ 14).toNatClampNeg ((x2 >>> (((8 : Int32) * x3) &&& 31)) &&& (255 : Int32)) → (∀ σ4 : GS, σ4 = sI σ3 14 ((gI σ3 14) + (1 : Int32)) → f_X2_feed_30 P n σ4 x1 x2 (x3 + 1)))))
def f_X2_feed (σ : GS) (x1 : Int32) (x2 : Int32) (P : GS → Int32 → Prop) : Prop :=
    f_X2_within σ x1.toInt64 (1 : Int64) (4 : Int64) (fun σ1 v2 =>
    ((v2 = 0 → P σ1 (-1 : Int32)) ∧
    (¬ v2 = 0 → ((((gI σ1 14) + x1) ≤ (120 : Int32) → (∃ q_ : Nat, f_X2_feed_30 P q_ σ1 x1 x2 (0 : Int32))) ∧
     (¬ ((gI σ1 14) + x1) ≤ (120 : Int32) → P σ1 (-3 : Int32))))))
def f_X2_byteAt (σ : GS) (P : GS → Int32 → Prop) : Prop :=
    (((gI σ 20) ≤ (gI σ 19) → P σ (0 : Int32)) ∧
    (¬ (gI σ 20) ≤ (gI σ 19) → ((0 ≤ (gI σ 18) → vp_in ((gI σ 18) + (gI σ 19)) 480 ∧ P σ (gA σ 16 ((gI σ 18) + (gI σ 19)).toNatClampNeg)) ∧
     (¬ 0 ≤ (gI σ 18) → vp_in (gI σ 19) 120 ∧ P σ (gA σ 13 (gI σ 19).toNatClampNeg)))))
def f_X2_fails_19 (P : GS → Int32 → Prop) (σ : GS) (t1 : Int32) : Prop :=
    (∀ σ1 : GS, σ1 = sI σ 21 t1 → P σ1 (0 : Int32))
def f_X2_fails (σ : GS) (P : GS → Int32 → Prop) : Prop :=
    ((0 ≤ (gI σ 21) → f_X2_fails_19 P σ (gI σ 21)) ∧
    (¬ 0 ≤ (gI σ 21) → f_X2_fails_19 P σ (gI σ 19)))
def f_X2_nameOf (σ : GS) (x0 : Int32) (P : GS → Int32 → Prop) : Prop :=
    ((x0 = (98 : Int32) → P σ (5 : Int32)) ∧
    (¬ x0 = (98 : Int32) → ((x0 = (99 : Int32) → P σ (2 : Int32)) ∧
    (¬ x0 = (99 : Int32) → ((x0 = (107 : Int32) → P σ (1 : Int32)) ∧
    (¬ x0 = (107 : Int32) → ((x0 = (110 : Int32) → P σ (6 : Int32)) ∧
    (¬ x0 = (110 : Int32) → ((x0 = (112 : Int32) → P σ (3 : Int32)) ∧
    (¬ x0 = (112 : Int32) → ((x0 = (115 : Int32) → P σ (4 : Int32)) ∧
    (¬ x0 = (115 : Int32) → ((x0 = (116 : Int32) → P σ (0 : Int32)) ∧
    (¬ x0 = (116 : Int32) → P σ (-1 : Int32)))))))))))))))
def f_X2_takes (σ : GS) (x1 : Int32) (P : GS → Int32 → Prop) : Prop :=
    ((0 ≤ (gI σ 21) → P σ (0 : Int32)) ∧
    (¬ 0 ≤ (gI σ 21) → f_X2_byteAt σ  (fun σ2 v3 =>
     ((v3 = x1 → (∀ σ5 : GS, σ5 = sI σ2 19 ((gI σ2 19) + (1 : Int32)) → P σ5 (1 : Int32))) ∧
     (¬ v3 = x1 → P σ2 (0 : Int32))))))
def o_X2_either_32 (c_both : GS → (GS → Int32 → Prop) → Prop) (k5 : GS → Int32 → Prop) (P : GS → Int32 → Prop) (σ : GS) (t0 : Int32) : Prop :=
    k5 σ t0
def o_X2_either_27 (c_both : GS → (GS → Int32 → Prop) → Prop) (k5 : GS → Int32 → Prop) (P : GS → Int32 → Prop) (σ : GS) : Prop :=
    o_X2_either_32 c_both k5 P σ (1 : Int32)
def o_X2_either_5 (c_both : GS → (GS → Int32 → Prop) → Prop) (P : GS → Int32 → Prop) : Nat → GS → Int32 → Prop
  | 0 => fun _ _ => False
  | n + 1 => fun σ x1 => f_X2_takes σ (124 : Int32) (fun σ1 v2 =>
    ((v2 = 0 → P σ1 x1) ∧
    (¬ v2 = 0 → c_both σ1  (fun σ4 v5 =>
     ((x1 = 0 → ((v5 = 0 → o_X2_either_32 c_both (o_X2_either_5 c_both P n) P σ4 (0 : Int32)) ∧
      (¬ v5 = 0 → o_X2_either_27 c_both (o_X2_either_5 c_both P n) P σ4 ))) ∧
     (¬ x1 = 0 → o_X2_either_27 c_both (o_X2_either_5 c_both P n) P σ4 ))))))
def o_X2_either (c_both : GS → (GS → Int32 → Prop) → Prop) (σ : GS) (P : GS → Int32 → Prop) : Prop :=
    c_both σ  (fun σ1 v2 =>
    (∃ q_ : Nat, o_X2_either_5 c_both P q_ σ1 v2))
def o_X2_both_32 (c_compared : GS → (GS → Int32 → Prop) → Prop) (k5 : GS → Int32 → Prop) (P : GS → Int32 → Prop) (σ : GS) (t0 : Int32) : Prop :=
    k5 σ t0
def o_X2_both_31 (c_compared : GS → (GS → Int32 → Prop) → Prop) (k5 : GS → Int32 → Prop) (P : GS → Int32 → Prop) (σ : GS) : Prop :=
    o_X2_both_32 c_compared k5 P σ (0 : Int32)
def o_X2_both_5 (c_compared : GS → (GS → Int32 → Prop) → Prop) (P : GS → Int32 → Prop) : Nat → GS → Int32 → Prop
  | 0 => fun _ _ => False
  | n + 1 => fun σ x1 => f_X2_takes σ (38 : Int32) (fun σ1 v2 =>
    ((v2 = 0 → P σ1 x1) ∧
    (¬ v2 = 0 → c_compared σ1  (fun σ4 v5 =>
     ((x1 = 0 → o_X2_both_31 c_compared (o_X2_both_5 c_compared P n) P σ4 ) ∧
     (¬ x1 = 0 → ((v5 = 0 → o_X2_both_31 c_compared (o_X2_both_5 c_compared P n) P σ4 ) ∧
      (¬ v5 = 0 → o_X2_both_32 c_compared (o_X2_both_5 c_compared P n) P σ4 (1 : Int32)))))))))
def o_X2_both (c_compared : GS → (GS → Int32 → Prop) → Prop) (σ : GS) (P : GS → Int32 → Prop) : Prop :=
    c_compared σ  (fun σ1 v2 =>
    (∃ q_ : Nat, o_X2_both_5 c_compared P q_ σ1 v2))
def o_X2_compared_85 (c_sums : GS → (GS → Int32 → Prop) → Prop) (P : GS → Int32 → Prop) (σ : GS) : Prop :=
    P σ (1 : Int32)
def o_X2_compared_37 (c_sums : GS → (GS → Int32 → Prop) → Prop) (P : GS → Int32 → Prop) (σ : GS) (x1 : Int32) (x2 : Int32) : Prop :=
    (∀ σ1 : GS, σ1 = sI σ 19 ((gI σ 19) + (1 : Int32)) → c_sums σ1  (fun σ2 v3 =>
    ((x2 = (60 : Int32) → ((v3 ≤ x1 → P σ2 (0 : Int32)) ∧
     (¬ v3 ≤ x1 → o_X2_compared_85 c_sums P σ2 ))) ∧
    (¬ x2 = (60 : Int32) → ((x2 = (61 : Int32) → ((x1 = v3 → o_X2_compared_85 c_sums P σ2 ) ∧
      (¬ x1 = v3 → P σ2 (0 : Int32)))) ∧
     (¬ x2 = (61 : Int32) → ((x1 ≤ v3 → P σ2 (0 : Int32)) ∧
      (¬ x1 ≤ v3 → o_X2_compared_85 c_sums P σ2 ))))))))
def o_X2_compared (c_sums : GS → (GS → Int32 → Prop) → Prop) (σ : GS) (P : GS → Int32 → Prop) : Prop :=
    c_sums σ  (fun σ1 v2 =>
    f_X2_byteAt σ1  (fun σ3 v4 =>
    ((0 ≤ (gI σ3 21) → P σ3 v2) ∧
    (¬ 0 ≤ (gI σ3 21) → ((v4 = (60 : Int32) → o_X2_compared_37 c_sums P σ3 v2 v4) ∧
     (¬ v4 = (60 : Int32) → ((v4 = (61 : Int32) → o_X2_compared_37 c_sums P σ3 v2 v4) ∧
      (¬ v4 = (61 : Int32) → ((v4 = (62 : Int32) → o_X2_compared_37 c_sums P σ3 v2 v4) ∧
       (¬ v4 = (62 : Int32) → P σ3 v2))))))))))
def o_X2_sums_73 (c_product : GS → (GS → Int32 → Prop) → Prop) (k5 : GS → Int32 → Prop) (P : GS → Int32 → Prop) (σ : GS) (t0 : Int32) : Prop :=
    k5 σ t0
def o_X2_sums_44 (c_product : GS → (GS → Int32 → Prop) → Prop) (k5 : GS → Int32 → Prop) (P : GS → Int32 → Prop) (σ : GS) (x1 : Int32) (t0 : Int32) : Prop :=
    (∀ σ1 : GS, σ1 = sI σ 19 ((gI σ 19) + (1 : Int32)) → c_product σ1  (fun σ2 v3 =>
    ((t0 = 0 → o_X2_sums_73 c_product k5 P σ2 (x1 - v3)) ∧
    (¬ t0 = 0 → o_X2_sums_73 c_product k5 P σ2 (x1 + v3)))))
def o_X2_sums_30 (c_product : GS → (GS → Int32 → Prop) → Prop) (k5 : GS → Int32 → Prop) (P : GS → Int32 → Prop) (σ : GS) (x1 : Int32) : Prop :=
    f_X2_byteAt σ  (fun σ1 v2 =>
    ((v2 = (43 : Int32) → o_X2_sums_44 c_product k5 P σ1 x1 (1 : Int32)) ∧
    (¬ v2 = (43 : Int32) → o_X2_sums_44 c_product k5 P σ1 x1 (0 : Int32))))
def o_X2_sums_5 (c_product : GS → (GS → Int32 → Prop) → Prop) (P : GS → Int32 → Prop) : Nat → GS → Int32 → Prop
  | 0 => fun _ _ => False
  | n + 1 => fun σ x1 => ((0 ≤ (gI σ 21) → P σ x1) ∧
    (¬ 0 ≤ (gI σ 21) → f_X2_byteAt σ  (fun σ2 v3 =>
     ((v3 = (43 : Int32) → o_X2_sums_30 c_product (o_X2_sums_5 c_product P n) P σ2 x1) ∧
     (¬ v3 = (43 : Int32) → f_X2_byteAt σ2  (fun σ5 v6 =>
      ((v6 = (45 : Int32) → o_X2_sums_30 c_product (o_X2_sums_5 c_product P n) P σ5 x1) ∧
      (¬ v6 = (45 : Int32) → P σ5 x1))))))))
def o_X2_sums (c_product : GS → (GS → Int32 → Prop) → Prop) (σ : GS) (P : GS → Int32 → Prop) : Prop :=
    c_product σ  (fun σ1 v2 =>
    (∃ q_ : Nat, o_X2_sums_5 c_product P q_ σ1 v2))
def o_X2_product_85 (c_one : GS → (GS → Int32 → Prop) → Prop) (k10 : GS → Int32 → Int32 → Prop) (P : GS → Int32 → Prop) (σ : GS) (t0 : Int32) : Prop :=
    f_X2_byteAt σ  (fun σ1 v2 =>
    k10 σ1 t0 v2)
def o_X2_product_35 (c_one : GS → (GS → Int32 → Prop) → Prop) (k10 : GS → Int32 → Int32 → Prop) (P : GS → Int32 → Prop) (σ : GS) (x1 : Int32) (x2 : Int32) : Prop :=
    (∀ σ1 : GS, σ1 = sI σ 19 ((gI σ 19) + (1 : Int32)) → c_one σ1  (fun σ2 v3 =>
    ((x2 = (42 : Int32) → o_X2_product_85 c_one k10 P σ2 (x1 * v3)) ∧
    (¬ x2 = (42 : Int32) → ((v3 = 0 → o_X2_product_85 c_one k10 P σ2 (0 : Int32)) ∧
     (¬ v3 = 0 → ((x2 = (47 : Int32) → ¬ v3 = 0 ∧ o_X2_product_85 c_one k10 P σ2 (x1 / v3)) ∧
      (¬ x2 = (47 : Int32) → ¬ v3 = 0 ∧ o_X2_product_85 c_one k10 P σ2 (x1 - x1 / v3 * v3)))))))))
def o_X2_product_10 (c_one : GS → (GS → Int32 → Prop) → Prop) (P : GS → Int32 → Prop) : Nat → GS → Int32 → Int32 → Prop
  | 0 => fun _ _ _ => False
  | n + 1 => fun σ x1 x2 => ((0 ≤ (gI σ 21) → P σ x1) ∧
    (¬ 0 ≤ (gI σ 21) → ((x2 = (42 : Int32) → o_X2_product_35 c_one (o_X2_product_10 c_one P n) P σ x1 x2) ∧
     (¬ x2 = (42 : Int32) → ((x2 = (47 : Int32) → o_X2_product_35 c_one (o_X2_product_10 c_one P n) P σ x1 x2) ∧
      (¬ x2 = (47 : Int32) → ((x2 = (37 : Int32) → o_X2_product_35 c_one (o_X2_product_10 c_one P n) P σ x1 x2) ∧
       (¬ x2 = (37 : Int32) → P σ x1))))))))
def o_X2_product (c_one : GS → (GS → Int32 → Prop) → Prop) (σ : GS) (P : GS → Int32 → Prop) : Prop :=
    c_one σ  (fun σ1 v2 =>
    f_X2_byteAt σ1  (fun σ3 v4 =>
    (∃ q_ : Nat, o_X2_product_10 c_one P q_ σ3 v2 v4)))
def o_X2_one_229 (c_either : GS → (GS → Int32 → Prop) → Prop) (c_one : GS → (GS → Int32 → Prop) → Prop) (P : GS → Int32 → Prop) (σ : GS) (x3 : Int32) (x4 : Int32) : Prop :=
    ((x4 = 0 → f_X2_fails σ  (fun σ2 v3 =>
     P σ2 v3)) ∧
    (¬ x4 = 0 → P σ x3))
def o_X2_one_176 (c_either : GS → (GS → Int32 → Prop) → Prop) (c_one : GS → (GS → Int32 → Prop) → Prop) (P : GS → Int32 → Prop) : Nat → GS → Int32 → Int32 → Prop
  | 0 => fun _ _ _ => False
  | n + 1 => fun σ x3 x4 => (((4 : Int32) ≤ x4 → o_X2_one_229 c_either c_one P σ x3 x4) ∧
    (¬ (4 : Int32) ≤ x4 → f_X2_byteAt σ  (fun σ2 v3 =>
     ((v3 < (48 : Int32) → o_X2_one_229 c_either c_one P σ2 x3 x4) ∧
     (¬ v3 < (48 : Int32) → f_X2_byteAt σ2  (fun σ5 v6 =>
      (((57 : Int32) < v6 → o_X2_one_229 c_either c_one P σ5 x3 x4) ∧
      (¬ (57 : Int32) < v6 → f_X2_byteAt σ5  (fun σ8 v9 =>
       (∀ z10 : Int32, z10 = (((10 : Int32) * x3) + v9) - (48 : Int32) → (∀ σ11 : GS, σ11 = sI σ8 19 ((gI σ8 19) + (1 : Int32)) → o_X2_one_176 c_either c_one P n σ11 z10 (x4 + 1))))))))))))
def o_X2_one_104 (c_either : GS → (GS → Int32 → Prop) → Prop) (c_one : GS → (GS → Int32 → Prop) → Prop) (P : GS → Int32 → Prop) (σ : GS) (x1 : Int32) (x2 : Int32) : Prop :=
    (∀ σ1 : GS, σ1 = sI σ 22 ((gI σ 22) - (1 : Int32)) → ((x1 = (40 : Int32) → P σ1 x2) ∧
    (¬ x1 = (40 : Int32) → ((x1 = (45 : Int32) → P σ1 (-x2)) ∧
     (¬ x1 = (45 : Int32) → ((x2 = 0 → P σ1 (1 : Int32)) ∧
      (¬ x2 = 0 → P σ1 (0 : Int32))))))))
def o_X2_one_83 (c_either : GS → (GS → Int32 → Prop) → Prop) (c_one : GS → (GS → Int32 → Prop) → Prop) (P : GS → Int32 → Prop) (σ : GS) (x1 : Int32) (t0 : Int32) : Prop :=
    ((x1 = (40 : Int32) → f_X2_takes σ (41 : Int32) (fun σ2 v3 =>
     ((v3 = 0 → f_X2_fails σ2  (fun σ5 v6 =>
      P σ5 v6)) ∧
     (¬ v3 = 0 → o_X2_one_104 c_either c_one P σ2 x1 t0)))) ∧
    (¬ x1 = (40 : Int32) → o_X2_one_104 c_either c_one P σ x1 t0))
def o_X2_one_32 (c_either : GS → (GS → Int32 → Prop) → Prop) (c_one : GS → (GS → Int32 → Prop) → Prop) (P : GS → Int32 → Prop) (σ : GS) (x1 : Int32) : Prop :=
    (((gI σ 22) = (6 : Int32) → f_X2_fails σ  (fun σ9 v10 =>
     P σ9 v10)) ∧
    (¬ (gI σ 22) = (6 : Int32) → (∀ σ2 : GS, σ2 = sI σ 22 ((gI σ 22) + (1 : Int32)) → (∀ σ3 : GS, σ3 = sI σ2 19 ((gI σ2 19) + (1 : Int32)) → ((x1 = (40 : Int32) → c_either σ3  (fun σ7 v8 =>
      o_X2_one_83 c_either c_one P σ7 x1 v8)) ∧
     (¬ x1 = (40 : Int32) → c_one σ3  (fun σ5 v6 =>
      o_X2_one_83 c_either c_one P σ5 x1 v6)))))))
def o_X2_one (c_either : GS → (GS → Int32 → Prop) → Prop) (c_one : GS → (GS → Int32 → Prop) → Prop) (σ : GS) (P : GS → Int32 → Prop) : Prop :=
    (((gI σ 21) < 0 → f_X2_byteAt σ  (fun σ2 v3 =>
     ((v3 = (33 : Int32) → o_X2_one_32 c_either c_one P σ2 v3) ∧
     (¬ v3 = (33 : Int32) → ((v3 = (45 : Int32) → o_X2_one_32 c_either c_one P σ2 v3) ∧
      (¬ v3 = (45 : Int32) → ((v3 = (40 : Int32) → o_X2_one_32 c_either c_one P σ2 v3) ∧
       (¬ v3 = (40 : Int32) → f_X2_nameOf σ2 v3 (fun σ7 v8 =>
        ((v8 < 0 → (∃ q_ : Nat, o_X2_one_176 c_either c_one P q_ σ7 (0 : Int32) (0 : Int32))) ∧
        (¬ v8 < 0 → (∀ σ10 : GS, σ10 = sI σ7 19 ((gI σ7 19) + (1 : Int32)) → vp_in v8 7 ∧ P σ10 (gA σ10 23 v8.toNatClampNeg))))))))))))) ∧
    (¬ (gI σ 21) < 0 → P σ (0 : Int32)))
def e_X2_product (c : GS → (GS → Int32 → Prop) → Prop) : GS → (GS → Int32 → Prop) → Prop := fun σ P => o_X2_product c σ P
def e_X2_sums (c : GS → (GS → Int32 → Prop) → Prop) : GS → (GS → Int32 → Prop) → Prop := fun σ P => o_X2_sums (e_X2_product c) σ P
def e_X2_compared (c : GS → (GS → Int32 → Prop) → Prop) : GS → (GS → Int32 → Prop) → Prop := fun σ P => o_X2_compared (e_X2_sums c) σ P
def e_X2_both (c : GS → (GS → Int32 → Prop) → Prop) : GS → (GS → Int32 → Prop) → Prop := fun σ P => o_X2_both (e_X2_compared c) σ P
def e_X2_either (c : GS → (GS → Int32 → Prop) → Prop) : GS → (GS → Int32 → Prop) → Prop := fun σ P => o_X2_either (e_X2_both c) σ P
def d_X2_one : Nat → GS → (GS → Int32 → Prop) → Prop
  | 0, _, _ => False
  | d + 1, σ, P => o_X2_one (e_X2_either (d_X2_one d)) (d_X2_one d) σ P
def f_X2_either (σ : GS) (P : GS → Int32 → Prop) : Prop := e_X2_either (d_X2_one 8) σ P
def f_X2_workOut_96 (k33 : GS → Int32 → Int32 → Int32 → Prop) (P : GS → Int32 → Prop) (σ : GS) (x3 : Int32) (x4 : Int32) : Prop :=
    f_X2_takes σ (59 : Int32) (fun σ1 v2 =>
    k33 σ1 x3 x4 v2)
def f_X2_workOut_74 (k33 : GS → Int32 → Int32 → Int32 → Prop) (P : GS → Int32 → Prop) (σ : GS) (x3 : Int32) (x4 : Int32) (x6 : Int32) (x7 : Int32) : Prop :=
    ((0 ≤ (gI σ 21) → f_X2_workOut_96 k33 P σ x3 x4) ∧
    (¬ 0 ≤ (gI σ 21) → ((x7 = 0 → f_X2_workOut_96 k33 P σ x3 x4) ∧
     (¬ x7 = 0 → ((x3 = 0 → f_X2_workOut_96 k33 P σ (1 : Int32) x6) ∧
      (¬ x3 = 0 → f_X2_workOut_96 k33 P σ x3 x4))))))
def f_X2_workOut_66 (k33 : GS → Int32 → Int32 → Int32 → Prop) (P : GS → Int32 → Prop) (σ : GS) (x3 : Int32) (x4 : Int32) (t0 : Int32) : Prop :=
    f_X2_either σ  (fun σ1 v2 =>
    f_X2_workOut_74 k33 P σ1 x3 x4 v2 t0)
def f_X2_workOut_33 (P : GS → Int32 → Prop) : Nat → GS → Int32 → Int32 → Int32 → Prop
  | 0 => fun _ _ _ _ => False
  | n + 1 => fun σ x3 x4 x5 => ((x5 = 0 → ((0 ≤ (gI σ 21) → P σ x4) ∧
     (¬ 0 ≤ (gI σ 21) → (((gI σ 20) ≤ (gI σ 19) → P σ x4) ∧
      (¬ (gI σ 20) ≤ (gI σ 19) → f_X2_fails σ  (fun σ4 v5 =>
       P σ4 v5)))))) ∧
    (¬ x5 = 0 → f_X2_either σ  (fun σ6 v7 =>
     f_X2_takes σ6 (63 : Int32) (fun σ8 v9 =>
     ((v9 = 0 → f_X2_workOut_74 (f_X2_workOut_33 P n) P σ8 x3 x4 v7 (1 : Int32)) ∧
     (¬ v9 = 0 → ((v7 = 0 → f_X2_workOut_66 (f_X2_workOut_33 P n) P σ8 x3 x4 (0 : Int32)) ∧
      (¬ v7 = 0 → f_X2_workOut_66 (f_X2_workOut_33 P n) P σ8 x3 x4 (1 : Int32)))))))))
def f_X2_workOut (σ : GS) (x1 : Int32) (x2 : Int32) (P : GS → Int32 → Prop) : Prop :=
    (∀ σ1 : GS, σ1 = sI σ 18 x1 → (∀ σ2 : GS, σ2 = sI σ1 19 (0 : Int32) → (∀ σ3 : GS, σ3 = sI σ2 20 x2 → (∀ σ4 : GS, σ4 = sI σ3 21 (-1 : Int32) → (∀ σ5 : GS, σ5 = sI σ4 22 (0 : Int32) → (∃ q_ : Nat, f_X2_workOut_33 P q_ σ5 (0 : Int32) (0 : Int32) (1 : Int32)))))))
def f_X2_want_48 (P : GS → Int32 → Prop) : Nat → GS → Int32 → Int32 → Prop
  | 0 => fun _ _ _ => False
  | n + 1 => fun σ x2 x3 => ((x2 ≤ x3 → vp_in (gI σ 15) 4 ∧ (∀ σ3 : GS, σ3 = sA σ 17 (gI σ 15).toNatClampNeg x2 → (∀ σ4 : GS, σ4 = sI σ3 15 ((gI σ3 15) + (1 : Int32)) → P σ4 ((gI σ4 15) - (1 : Int32))))) ∧
    (¬ x2 ≤ x3 → vp_in x3 120 ∧ vp_in (((120 : Int32) * (gI σ 15)) + x3) 480 ∧ (∀ σ7 : GS, σ7 = sA σ 16 (((120 : Int32) * (gI σ 15)) + x3).toNatClampNeg (gA σ 13 x3.toNatClampNeg) → f_X2_want_48 P n σ7 x2 (x3 + 1))))
def f_X2_want (σ : GS) (P : GS → Int32 → Prop) : Prop :=
    (((gI σ 15) = (4 : Int32) → P σ (-3 : Int32)) ∧
    (¬ (gI σ 15) = (4 : Int32) → f_X2_workOut σ (-1 : Int32) (gI σ 14) (fun σ2 v3 =>
     (∀ σ4 : GS, σ4 = sI σ2 14 (0 : Int32) → (((gI σ4 21) < 0 → (∃ q_ : Nat, f_X2_want_48 P q_ σ4 (gI σ2 14) (0 : Int32))) ∧
     (¬ (gI σ4 21) < 0 → P σ4 ((-100 : Int32) - (gI σ4 21))))))))
def f_X2_worthOf (σ : GS) (x1 : Int32) (x2 : Int32) (x3 : Int32) (P : GS → Int32 → Prop) : Prop :=
    vp_in (0 : Int32) 7 ∧ (∀ σ2 : GS, σ2 = sA σ 23 (0 : Int32).toNatClampNeg x2 → vp_in (1 : Int32) 7 ∧ (∀ σ4 : GS, σ4 = sA σ2 23 (1 : Int32).toNatClampNeg x3 → vp_in ((6 : Int32) + x2) 28 ∧ vp_in (2 : Int32) 7 ∧ (∀ σ7 : GS, σ7 = sA σ4 23 (2 : Int32).toNatClampNeg (gA σ4 0 ((6 : Int32) + x2).toNatClampNeg) → vp_in ((12 : Int32) + x2) 28 ∧ vp_in (3 : Int32) 7 ∧ (∀ σ10 : GS, σ10 = sA σ7 23 (3 : Int32).toNatClampNeg (gA σ7 0 ((12 : Int32) + x2).toNatClampNeg) → vp_in (4 : Int32) 7 ∧ (∀ σ12 : GS, σ12 = sA σ10 23 (4 : Int32).toNatClampNeg x1 → vp_in x1 5 ∧ vp_in (5 : Int32) 7 ∧ (∀ σ15 : GS, σ15 = sA σ12 23 (5 : Int32).toNatClampNeg (gA σ12 10 x1.toNatClampNeg) → vp_in (6 : Int32) 7 ∧ (∀ σ17 : GS, σ17 = sA σ15 23 (6 : Int32).toNatClampNeg (gI σ15 6) → vp_in x1 5 ∧ vp_in x1 5 ∧ vp_in (gA σ17 11 x1.toNatClampNeg) 4 ∧ f_X2_workOut σ17 ((120 : Int32) * (gA σ17 11 x1.toNatClampNeg)) (gA σ17 17 (gA σ17 11 x1.toNatClampNeg).toNatClampNeg) (fun σ21 v22 =>
    ((0 ≤ v22 → ((v22 ≤ (999 : Int32) → P σ21 v22) ∧
     (¬ v22 ≤ (999 : Int32) → P σ21 (999 : Int32)))) ∧
    (¬ 0 ≤ v22 → P σ21 (0 : Int32)))))))))))
def f_X2_worth (σ : GS) (x1 : Int32) (x2 : Int32) (P : GS → Int32 → Prop) : Prop :=
    f_X2_isSort σ x1 (fun σ1 v2 =>
    ((v2 = 0 → P σ1 (-1 : Int32)) ∧
    (¬ v2 = 0 → ((x2 < 0 → P σ1 (-1 : Int32)) ∧
     (¬ x2 < 0 → f_X2_isThing σ1 (x2 / (10 : Int32)) (fun σ5 v6 =>
      ((v6 = 0 → P σ5 (-1 : Int32)) ∧
      (¬ v6 = 0 → f_X2_within σ5 ((x2 - x2 / (10 : Int32) * (10 : Int32)).toInt64) (1 : Int64) (3 : Int64) (fun σ8 v9 =>
       ((v9 = 0 → P σ8 (-1 : Int32)) ∧
       (¬ v9 = 0 → f_X2_worthOf σ8 x1 (x2 / (10 : Int32)) (x2 - x2 / (10 : Int32) * (10 : Int32)) (fun σ11 v12 =>
        P σ11 v12))))))))))))
def f_X2_baskets (σ : GS) (P : GS → Int32 → Prop) : Prop :=
    P σ ((1 : Int32) <<< (((2 : Int32) * (gI σ 6)) &&& 31))
def f_X2_layWorths_21 (k2 : GS → Int32 → Int32 → Prop) (P : GS → Prop) : Nat → GS → Int32 → Int32 → Int32 → Prop
  | 0 => fun _ _ _ _ => False
  | n + 1 => fun σ x1 x2 x3 => (((3 : Int32) < x3 → k2 σ x1 (x2 + 1)) ∧
    (¬ (3 : Int32) < x3 → vp_in ((((4 : Int32) * x2) + x3) - (1 : Int32)) 24 ∧ f_X2_worthOf σ x1 x2 x3 (fun σ3 v4 =>
     vp_in (((4 : Int32) * x2) + x3) 24 ∧ (∀ σ6 : GS, σ6 = sA σ3 24 (((4 : Int32) * x2) + x3).toNatClampNeg ((gA σ 24 ((((4 : Int32) * x2) + x3) - (1 : Int32)).toNatClampNeg) + v4) → f_X2_layWorths_21 k2 P n σ6 x1 x2 (x3 + 1)))))
def f_X2_layWorths_2 (P : GS → Prop) : Nat → GS → Int32 → Int32 → Prop
  | 0 => fun _ _ _ => False
  | n + 1 => fun σ x1 x2 => (((gI σ 6) ≤ x2 → P σ) ∧
    (¬ (gI σ 6) ≤ x2 → vp_in ((4 : Int32) * x2) 24 ∧ (∀ σ3 : GS, σ3 = sA σ 24 ((4 : Int32) * x2).toNatClampNeg (0 : Int32) → (∃ q_ : Nat, f_X2_layWorths_21 (f_X2_layWorths_2 P n) P q_ σ3 x1 x2 (1 : Int32)))))
def f_X2_layWorths (σ : GS) (x1 : Int32) (P : GS → Prop) : Prop :=
    (∃ q_ : Nat, f_X2_layWorths_2 P q_ σ x1 (0 : Int32))
def f_X2_unpack_17 (P : GS → Prop) : Nat → GS → Int32 → Int32 → Prop
  | 0 => fun _ _ _ => False
  | n + 1 => fun σ x1 x2 => (((gI σ 6) ≤ x2 → P σ) ∧
    (¬ (gI σ 6) ≤ x2 → (∀ z2 : Int32, z2 = (x1 >>> (((2 : Int32) * (((gI σ 6) - (1 : Int32)) - x2)) &&& 31)) &&& (3 : Int32) → vp_in x2 6 ∧ (∀ σ4 : GS, σ4 = sA σ 25 x2.toNatClampNeg z2 → vp_in (((4 : Int32) * x2) + z2) 24 ∧ (∀ σ6 : GS, σ6 = sI σ4 26 ((gI σ4 26) + (gA σ4 24 (((4 : Int32) * x2) + z2).toNatClampNeg)) → vp_in ((6 : Int32) + x2) 28 ∧ (∀ σ8 : GS, σ8 = sI σ6 27 ((gI σ6 27) + (z2 * (((gA σ6 0 ((6 : Int32) + x2).toNatClampNeg) * (gI σ6 29)) / (100 : Int32)))) → vp_in ((12 : Int32) + x2) 28 ∧ (∀ σ10 : GS, σ10 = sI σ8 28 ((gI σ8 28) + (z2 * (gA σ8 0 ((12 : Int32) + x2).toNatClampNeg))) → f_X2_unpack_17 P n σ10 x1 (x2 + 1))))))))
def f_X2_unpack (σ : GS) (x1 : Int32) (P : GS → Prop) : Prop :=
    (∀ σ1 : GS, σ1 = sI σ 26 (0 : Int32) → (∀ σ2 : GS, σ2 = sI σ1 27 (0 : Int32) → (∀ σ3 : GS, σ3 = sI σ2 28 (0 : Int32) → (∃ q_ : Nat, f_X2_unpack_17 P q_ σ3 x1 (0 : Int32)))))
def f_X2_findBest_145 (k11 : GS → Int32 → Int32 → Int32 → Int32 → Prop) (P : GS → Int32 → Prop) (σ : GS) (x2 : Int32) (x3 : Int32) (x4 : Int32) (x5 : Int32) : Prop :=
    k11 σ x2 x3 x4 (x5 + 1)
def f_X2_findBest_110 (k11 : GS → Int32 → Int32 → Int32 → Int32 → Prop) (P : GS → Int32 → Prop) (σ : GS) (x2 : Int32) (x3 : Int32) (x4 : Int32) (x5 : Int32) (t0 : Int32) : Prop :=
    ((t0 = 0 → f_X2_findBest_145 k11 P σ x2 x3 x4 x5) ∧
    (¬ t0 = 0 → (∀ σ2 : GS, σ2 = sI σ 30 (gI σ 26) → (∀ σ3 : GS, σ3 = sI σ2 31 (gI σ2 27) → (∀ σ4 : GS, σ4 = sI σ3 32 (gI σ3 28) → f_X2_findBest_145 k11 P σ4 x2 x3 x5 x5)))))
def f_X2_findBest_109 (k11 : GS → Int32 → Int32 → Int32 → Int32 → Prop) (P : GS → Int32 → Prop) (σ : GS) (x2 : Int32) (x3 : Int32) (x4 : Int32) (x5 : Int32) : Prop :=
    f_X2_findBest_110 k11 P σ x2 x3 x4 x5 (0 : Int32)
def f_X2_findBest_105 (k11 : GS → Int32 → Int32 → Int32 → Int32 → Prop) (P : GS → Int32 → Prop) (σ : GS) (x2 : Int32) (x3 : Int32) (x4 : Int32) (x5 : Int32) : Prop :=
    f_X2_findBest_110 k11 P σ x2 x3 x4 x5 (1 : Int32)
def f_X2_findBest_11 (P : GS → Int32 → Prop) : Nat → GS → Int32 → Int32 → Int32 → Int32 → Prop
  | 0 => fun _ _ _ _ _ => False
  | n + 1 => fun σ x2 x3 x4 x5 => f_X2_baskets σ  (fun σ1 v2 =>
    ((v2 ≤ x5 → f_X2_unpack σ1 x4 (fun σ4 =>
     P σ4 x4)) ∧
    (¬ v2 ≤ x5 → f_X2_unpack σ1 x5 (fun σ6 =>
     ((x2 < (gI σ6 27) → f_X2_findBest_145 (f_X2_findBest_11 P n) P σ6 x2 x3 x4 x5) ∧
     (¬ x2 < (gI σ6 27) → (((gI σ6 28) ≤ x3 → ((x4 < 0 → f_X2_findBest_105 (f_X2_findBest_11 P n) P σ6 x2 x3 x4 x5) ∧
       (¬ x4 < 0 → (((gI σ6 30) < (gI σ6 26) → f_X2_findBest_105 (f_X2_findBest_11 P n) P σ6 x2 x3 x4 x5) ∧
        (¬ (gI σ6 30) < (gI σ6 26) → (((gI σ6 26) = (gI σ6 30) → (((gI σ6 27) < (gI σ6 31) → f_X2_findBest_105 (f_X2_findBest_11 P n) P σ6 x2 x3 x4 x5) ∧
          (¬ (gI σ6 27) < (gI σ6 31) → (((gI σ6 27) = (gI σ6 31) → (((gI σ6 32) ≤ (gI σ6 28) → f_X2_findBest_109 (f_X2_findBest_11 P n) P σ6 x2 x3 x4 x5) ∧
            (¬ (gI σ6 32) ≤ (gI σ6 28) → f_X2_findBest_105 (f_X2_findBest_11 P n) P σ6 x2 x3 x4 x5))) ∧
           (¬ (gI σ6 27) = (gI σ6 31) → f_X2_findBest_109 (f_X2_findBest_11 P n) P σ6 x2 x3 x4 x5))))) ∧
         (¬ (gI σ6 26) = (gI σ6 30) → f_X2_findBest_109 (f_X2_findBest_11 P n) P σ6 x2 x3 x4 x5))))))) ∧
      (¬ (gI σ6 28) ≤ x3 → f_X2_findBest_145 (f_X2_findBest_11 P n) P σ6 x2 x3 x4 x5))))))))
def f_X2_findBest (σ : GS) (x1 : Int32) (x2 : Int32) (x3 : Int32) (P : GS → Int32 → Prop) : Prop :=
    f_X2_layWorths σ x1 (fun σ1 =>
    (∃ q_ : Nat, f_X2_findBest_11 P q_ σ1 x2 x3 (-1 : Int32) (0 : Int32)))
def f_X2_bestOf (σ : GS) (x1 : Int32) (P : GS → Int32 → Prop) : Prop :=
    f_X2_purseOf σ x1 (fun σ1 v2 =>
    f_X2_pointsInAll σ1 x1 (fun σ3 v4 =>
    f_X2_findBest σ3 x1 v2 v4 (fun σ5 v6 =>
    P σ5 v6)))
def f_X2_digitsNow_4 (P : GS → Int32 → Prop) : Nat → GS → Int32 → Int32 → Prop
  | 0 => fun _ _ _ => False
  | n + 1 => fun σ x1 x2 => (((gI σ 6) ≤ x2 → P σ x1) ∧
    (¬ (gI σ 6) ≤ x2 → vp_in x2 6 ∧ (∀ z3 : Int32, z3 = ((10 : Int32) * x1) + (gA σ 25 x2.toNatClampNeg) → f_X2_digitsNow_4 P n σ z3 (x2 + 1))))
def f_X2_digitsNow (σ : GS) (P : GS → Int32 → Prop) : Prop :=
    (∃ q_ : Nat, f_X2_digitsNow_4 P q_ σ (0 : Int32) (0 : Int32))
def f_X2_basket (σ : GS) (x1 : Int32) (x2 : Int32) (P : GS → Int32 → Prop) : Prop :=
    f_X2_isSort σ x1 (fun σ1 v2 =>
    ((v2 = 0 → P σ1 (-1 : Int32)) ∧
    (¬ v2 = 0 → f_X2_within σ1 x2.toInt64 (0 : Int64) (3 : Int64) (fun σ4 v5 =>
     ((v5 = 0 → P σ4 (-1 : Int32)) ∧
     (¬ v5 = 0 → f_X2_bestOf σ4 x1 (fun σ7 v8 =>
      ((x2 = 0 → f_X2_digitsNow σ7  (fun σ12 v13 =>
       P σ12 v13)) ∧
      (¬ x2 = 0 → ((x2 = (1 : Int32) → P σ7 (gI σ7 30)) ∧
       (¬ x2 = (1 : Int32) → ((x2 = (2 : Int32) → P σ7 (gI σ7 31)) ∧
        (¬ x2 = (2 : Int32) → P σ7 (gI σ7 32))))))))))))))
def f_X2_over (σ : GS) (x1 : Int32) (P : GS → Int32 → Prop) : Prop :=
    vp_in x1 28 ∧ vp_in x1 6 ∧ P σ ((gA σ 0 x1.toNatClampNeg) - (gA σ 33 x1.toNatClampNeg))
def f_X2_size (σ : GS) (x0 : Int32) (P : GS → Int32 → Prop) : Prop :=
    ((0 ≤ x0 → P σ x0) ∧
    (¬ 0 ≤ x0 → P σ (-x0)))
def f_X2_bothOver_4 (P : GS → Int32 → Prop) : Nat → GS → Int32 → Int32 → Prop
  | 0 => fun _ _ _ => False
  | n + 1 => fun σ x1 x2 => (((gI σ 6) ≤ x2 → P σ x1) ∧
    (¬ (gI σ 6) ≤ x2 → f_X2_over σ x2 (fun σ2 v3 =>
     f_X2_size σ2 v3 (fun σ4 v5 =>
     f_X2_bothOver_4 P n σ4 (x1 + v5) (x2 + 1)))))
def f_X2_bothOver (σ : GS) (P : GS → Int32 → Prop) : Prop :=
    (∃ q_ : Nat, f_X2_bothOver_4 P q_ σ (0 : Int32) (0 : Int32))
def f_X2_findWanted_41 (k25 : GS → Int32 → Prop) (P : GS → Prop) : Nat → GS → Int32 → Int32 → Prop
  | 0 => fun _ _ _ => False
  | n + 1 => fun σ x1 x3 => (((gI σ 6) ≤ x3 → k25 σ (x1 + 1)) ∧
    (¬ (gI σ 6) ≤ x3 → vp_in x1 5 ∧ vp_in x3 6 ∧ vp_in (((6 : Int32) * x1) + x3) 30 ∧ (∀ σ5 : GS, σ5 = sA σ 34 (((6 : Int32) * x1) + x3).toNatClampNeg ((gA σ 9 x1.toNatClampNeg) * (gA σ 25 x3.toNatClampNeg)) → vp_in x3 6 ∧ vp_in x1 5 ∧ vp_in x3 6 ∧ vp_in x3 6 ∧ (∀ σ10 : GS, σ10 = sA σ5 33 x3.toNatClampNeg ((gA σ5 33 x3.toNatClampNeg) + ((gA σ5 9 x1.toNatClampNeg) * (gA σ5 25 x3.toNatClampNeg))) → f_X2_findWanted_41 k25 P n σ10 x1 (x3 + 1)))))
def f_X2_findWanted_25 (P : GS → Prop) : Nat → GS → Int32 → Prop
  | 0 => fun _ _ => False
  | n + 1 => fun σ x1 => (((gI σ 8) ≤ x1 → P σ) ∧
    (¬ (gI σ 8) ≤ x1 → f_X2_bestOf σ x1 (fun σ2 v3 =>
     (∃ q_ : Nat, f_X2_findWanted_41 (f_X2_findWanted_25 P n) P q_ σ2 x1 (0 : Int32)))))
def f_X2_findWanted_2 (P : GS → Prop) : Nat → GS → Int32 → Prop
  | 0 => fun _ _ => False
  | n + 1 => fun σ x1 => (((gI σ 6) ≤ x1 → (∃ q_ : Nat, f_X2_findWanted_25 P q_ σ (0 : Int32))) ∧
    (¬ (gI σ 6) ≤ x1 → vp_in x1 6 ∧ (∀ σ3 : GS, σ3 = sA σ 33 x1.toNatClampNeg (0 : Int32) → f_X2_findWanted_2 P n σ3 (x1 + 1))))
def f_X2_findWanted (σ : GS) (P : GS → Prop) : Prop :=
    (∃ q_ : Nat, f_X2_findWanted_2 P q_ σ (0 : Int32))
def f_X2_wanted_42 (P : GS → Int32 → Prop) (σ : GS) (x1 : Int32) (x2 : Int32) (x3 : Int32) : Prop :=
    f_X2_findWanted σ  (fun σ1 =>
    ((x3 = 0 → ((x2 = 0 → vp_in x1 6 ∧ P σ1 (gA σ1 33 x1.toNatClampNeg)) ∧
     (¬ x2 = 0 → f_X2_over σ1 x1 (fun σ5 v6 =>
      P σ5 v6)))) ∧
    (¬ x3 = 0 → f_X2_bothOver σ1  (fun σ8 v9 =>
     P σ8 v9))))
def f_X2_wanted_15 (P : GS → Int32 → Prop) (σ : GS) (x1 : Int32) (x2 : Int32) (t0 : Int32) : Prop :=
    ((t0 = 0 → f_X2_isThing σ x1 (fun σ2 v3 =>
     ((v3 = 0 → P σ2 (-2000000000 : Int32)) ∧
     (¬ v3 = 0 → f_X2_within σ2 x2.toInt64 (0 : Int64) (1 : Int64) (fun σ5 v6 =>
      ((v6 = 0 → P σ5 (-2000000000 : Int32)) ∧
      (¬ v6 = 0 → f_X2_wanted_42 P σ5 x1 x2 t0))))))) ∧
    (¬ t0 = 0 → f_X2_wanted_42 P σ x1 x2 t0))
def f_X2_wanted_14 (P : GS → Int32 → Prop) (σ : GS) (x1 : Int32) (x2 : Int32) : Prop :=
    f_X2_wanted_15 P σ x1 x2 (0 : Int32)
def f_X2_wanted (σ : GS) (x1 : Int32) (x2 : Int32) (P : GS → Int32 → Prop) : Prop :=
    ((x1 = (-1 : Int32) → ((x2 = (1 : Int32) → f_X2_wanted_15 P σ x1 x2 (1 : Int32)) ∧
     (¬ x2 = (1 : Int32) → f_X2_wanted_14 P σ x1 x2))) ∧
    (¬ x1 = (-1 : Int32) → f_X2_wanted_14 P σ x1 x2))
def f_X2_led (σ : GS) (x1 : Int32) (x2 : Int32) (P : GS → Int32 → Prop) : Prop :=
    f_X2_isThing σ x1 (fun σ1 v2 =>
    ((v2 = 0 → P σ1 (-1 : Int32)) ∧
    (¬ v2 = 0 → f_X2_isSort σ1 x2 (fun σ4 v5 =>
     ((v5 = 0 → P σ4 (-1 : Int32)) ∧
     (¬ v5 = 0 → f_X2_findWanted σ4  (fun σ7 =>
      vp_in (((6 : Int32) * x2) + x1) 30 ∧ P σ7 (gA σ7 34 (((6 : Int32) * x2) + x1).toNatClampNeg))))))))
def f_X2_areRounds (σ : GS) (x0 : Int32) (P : GS → Int32 → Prop) : Prop :=
    f_X2_within σ x0.toInt64 (1 : Int64) (60 : Int64) (fun σ1 v2 =>
    gZ v2 ∧ P σ1 v2)
def f_X2_keepsLeast_27 (P : GS → Prop) : Nat → GS → Int32 → Prop
  | 0 => fun _ _ => False
  | n + 1 => fun σ x2 => (((gI σ 6) ≤ x2 → P σ) ∧
    (¬ (gI σ 6) ≤ x2 → vp_in ((12 : Int32) + x2) 28 ∧ vp_in x2 6 ∧ (∀ σ4 : GS, σ4 = sA σ 40 x2.toNatClampNeg (gA σ 0 ((12 : Int32) + x2).toNatClampNeg) → f_X2_keepsLeast_27 P n σ4 (x2 + 1))))
def f_X2_keepsLeast (σ : GS) (x1 : Int32) (P : GS → Prop) : Prop :=
    (((gI σ 36) < (gI σ 37) → (∀ σ2 : GS, σ2 = sI σ 37 (gI σ 36) → (∀ σ3 : GS, σ3 = sI σ2 38 x1 → (∃ q_ : Nat, f_X2_keepsLeast_27 P q_ σ3 (0 : Int32))))) ∧
    (¬ (gI σ 36) < (gI σ 37) → P σ))
def f_X2_goRounds_226 (P : GS → Prop) : Nat → GS → Int32 → Prop
  | 0 => fun _ _ => False
  | n + 1 => fun σ x3 => (((gI σ 6) ≤ x3 → P σ) ∧
    (¬ (gI σ 6) ≤ x3 → vp_in ((12 : Int32) + x3) 28 ∧ vp_in x3 6 ∧ (∀ σ4 : GS, σ4 = sA σ 39 x3.toNatClampNeg (gA σ 0 ((12 : Int32) + x3).toNatClampNeg) → vp_in x3 6 ∧ vp_in ((12 : Int32) + x3) 28 ∧ (∀ σ7 : GS, σ7 = sA σ4 0 ((12 : Int32) + x3).toNatClampNeg (gA σ4 41 x3.toNatClampNeg) → f_X2_goRounds_226 P n σ7 (x3 + 1)))))
def f_X2_goRounds_224 (P : GS → Prop) (σ : GS) : Prop :=
    (∃ q_ : Nat, f_X2_goRounds_226 P q_ σ (0 : Int32))
def f_X2_goRounds_218 (k80 : GS → Int32 → Int32 → Int32 → Prop) (P : GS → Prop) (σ : GS) (x1 : Int32) (x2 : Int32) (x3 : Int32) : Prop :=
    k80 σ x1 x2 (x3 + 1)
def f_X2_goRounds_185 (k80 : GS → Int32 → Int32 → Int32 → Prop) (k94 : GS → Int32 → Int32 → Int32 → Int32 → Prop) (P : GS → Prop) (σ : GS) (x1 : Int32) (x3 : Int32) (x4 : Int32) (t0 : Int32) : Prop :=
    k94 σ x1 t0 x3 (x4 + 1)
def f_X2_goRounds_180 (k80 : GS → Int32 → Int32 → Int32 → Prop) (k94 : GS → Int32 → Int32 → Int32 → Int32 → Prop) (P : GS → Prop) (σ : GS) (x1 : Int32) (x3 : Int32) (x4 : Int32) : Prop :=
    f_X2_goRounds_185 k80 k94 P σ x1 x3 x4 (1 : Int32)
def f_X2_goRounds_154 (k80 : GS → Int32 → Int32 → Int32 → Prop) (k94 : GS → Int32 → Int32 → Int32 → Int32 → Prop) (P : GS → Prop) (σ : GS) (x1 : Int32) (x2 : Int32) (x3 : Int32) (x4 : Int32) (x5 : Int32) (t0 : Int32) : Prop :=
    vp_in ((12 : Int32) + x4) 28 ∧ (∀ σ2 : GS, σ2 = sA σ 0 ((12 : Int32) + x4).toNatClampNeg (x5 + t0) → ((x2 = 0 → ((t0 = 0 → f_X2_goRounds_185 k80 k94 P σ2 x1 x3 x4 (0 : Int32)) ∧
     (¬ t0 = 0 → f_X2_goRounds_180 k80 k94 P σ2 x1 x3 x4))) ∧
    (¬ x2 = 0 → f_X2_goRounds_180 k80 k94 P σ2 x1 x3 x4)))
def f_X2_goRounds_153 (k80 : GS → Int32 → Int32 → Int32 → Prop) (k94 : GS → Int32 → Int32 → Int32 → Int32 → Prop) (P : GS → Prop) (σ : GS) (x1 : Int32) (x2 : Int32) (x3 : Int32) (x4 : Int32) (x5 : Int32) : Prop :=
    f_X2_goRounds_154 k80 k94 P σ x1 x2 x3 x4 x5 (0 : Int32)
def f_X2_goRounds_135 (k80 : GS → Int32 → Int32 → Int32 → Prop) (k94 : GS → Int32 → Int32 → Int32 → Int32 → Prop) (P : GS → Prop) (σ : GS) (x1 : Int32) (x2 : Int32) (x3 : Int32) (x4 : Int32) (x5 : Int32) : Prop :=
    f_X2_over σ x4 (fun σ1 v2 =>
    ((v2 ≤ 0 → f_X2_goRounds_153 k80 k94 P σ1 x1 x2 x3 x4 x5) ∧
    (¬ v2 ≤ 0 → ((x5 ≤ 0 → f_X2_goRounds_153 k80 k94 P σ1 x1 x2 x3 x4 x5) ∧
     (¬ x5 ≤ 0 → f_X2_goRounds_154 k80 k94 P σ1 x1 x2 x3 x4 x5 (-1 : Int32))))))
def f_X2_goRounds_94 (k80 : GS → Int32 → Int32 → Int32 → Prop) (P : GS → Prop) : Nat → GS → Int32 → Int32 → Int32 → Int32 → Prop
  | 0 => fun _ _ _ _ _ => False
  | n + 1 => fun σ x1 x2 x3 x4 => (((gI σ 6) ≤ x4 → ((x2 = 0 → f_X2_goRounds_218 k80 P σ x1 x2 x3) ∧
     (¬ x2 = 0 → f_X2_findWanted σ  (fun σ3 =>
      (∀ σ5 : GS, σ5 = sI σ3 35 x3 → f_X2_bothOver σ5  (fun σ6 v7 =>
      (∀ σ8 : GS, σ8 = sI σ6 36 v7 → f_X2_keepsLeast σ8 x3 (fun σ9 =>
      f_X2_goRounds_218 k80 P σ9 x1 x2 x3)))))))) ∧
    (¬ (gI σ 6) ≤ x4 → vp_in ((12 : Int32) + x4) 28 ∧ (∀ z12 : Int32, z12 = gA σ 0 ((12 : Int32) + x4).toNatClampNeg → f_X2_over σ x4 (fun σ13 v14 =>
     ((0 ≤ v14 → f_X2_goRounds_135 k80 (f_X2_goRounds_94 k80 P n) P σ13 x1 x2 x3 x4 z12) ∧
     (¬ 0 ≤ v14 → (((99 : Int32) ≤ z12 → f_X2_goRounds_135 k80 (f_X2_goRounds_94 k80 P n) P σ13 x1 x2 x3 x4 z12) ∧
      (¬ (99 : Int32) ≤ z12 → f_X2_goRounds_154 k80 (f_X2_goRounds_94 k80 P n) P σ13 x1 x2 x3 x4 z12 (1 : Int32)))))))))
def f_X2_goRounds_80 (P : GS → Prop) : Nat → GS → Int32 → Int32 → Int32 → Prop
  | 0 => fun _ _ _ _ => False
  | n + 1 => fun σ x1 x2 x3 => ((x1 < x3 → f_X2_goRounds_224 P σ ) ∧
    (¬ x1 < x3 → ((x2 = 0 → f_X2_goRounds_224 P σ ) ∧
     (¬ x2 = 0 → (∃ q_ : Nat, f_X2_goRounds_94 (f_X2_goRounds_80 P n) P q_ σ x1 (0 : Int32) x3 (0 : Int32))))))
def f_X2_goRounds_2 (P : GS → Prop) : Nat → GS → Int32 → Int32 → Prop
  | 0 => fun _ _ _ => False
  | n + 1 => fun σ x1 x2 => (((gI σ 6) ≤ x2 → f_X2_findWanted σ  (fun σ2 =>
     (∀ σ4 : GS, σ4 = sI σ2 35 (0 : Int32) → f_X2_bothOver σ4  (fun σ5 v6 =>
     (∀ σ7 : GS, σ7 = sI σ5 36 v6 → (∀ σ8 : GS, σ8 = sI σ7 37 (gI σ7 36) → (∀ σ9 : GS, σ9 = sI σ8 38 (0 : Int32) → (∃ q_ : Nat, f_X2_goRounds_80 P q_ σ9 x1 (1 : Int32) (1 : Int32))))))))) ∧
    (¬ (gI σ 6) ≤ x2 → vp_in ((12 : Int32) + x2) 28 ∧ vp_in x2 6 ∧ (∀ σ12 : GS, σ12 = sA σ 41 x2.toNatClampNeg (gA σ 0 ((12 : Int32) + x2).toNatClampNeg) → vp_in ((12 : Int32) + x2) 28 ∧ vp_in x2 6 ∧ (∀ σ15 : GS, σ15 = sA σ12 40 x2.toNatClampNeg (gA σ12 0 ((12 : Int32) + x2).toNatClampNeg) → f_X2_goRounds_2 P n σ15 x1 (x2 + 1)))))
def f_X2_goRounds (σ : GS) (x1 : Int32) (P : GS → Prop) : Prop :=
    (∃ q_ : Nat, f_X2_goRounds_2 P q_ σ x1 (0 : Int32))
def f_X2_found (σ : GS) (x1 : Int32) (x2 : Int32) (P : GS → Int32 → Prop) : Prop :=
    f_X2_areRounds σ x1 (fun σ1 v2 =>
    ((v2 = 0 → P σ1 (-1 : Int32)) ∧
    (¬ v2 = 0 → f_X2_within σ1 x2.toInt64 (-4 : Int64) (((gI σ1 6) - (1 : Int32)).toInt64) (fun σ4 v5 =>
     ((v5 = 0 → P σ4 (-1 : Int32)) ∧
     (¬ v5 = 0 → f_X2_goRounds σ4 x1 (fun σ7 =>
      ((x2 = (-4 : Int32) → P σ7 (gI σ7 38)) ∧
      (¬ x2 = (-4 : Int32) → ((x2 = (-3 : Int32) → P σ7 (gI σ7 37)) ∧
      (¬ x2 = (-3 : Int32) → ((x2 = (-2 : Int32) → P σ7 (gI σ7 36)) ∧
      (¬ x2 = (-2 : Int32) → ((x2 = (-1 : Int32) → P σ7 (gI σ7 35)) ∧
      (¬ x2 = (-1 : Int32) → vp_in x2 6 ∧ P σ7 (gA σ7 39 x2.toNatClampNeg))))))))))))))))
def f_X2_set_21 (P : GS → Int32 → Prop) : Nat → GS → Int32 → Int32 → Prop
  | 0 => fun _ _ _ => False
  | n + 1 => fun σ x2 x3 => (((gI σ 6) ≤ x3 → P σ x2) ∧
    (¬ (gI σ 6) ≤ x3 → vp_in x3 6 ∧ f_X2_becomes σ ((12 : Int32) + x3) (gA σ 40 x3.toNatClampNeg) (fun σ3 v4 =>
     f_X2_set_21 P n σ3 x2 (x3 + 1))))
def f_X2_set (σ : GS) (x1 : Int32) (P : GS → Int32 → Prop) : Prop :=
    f_X2_areRounds σ x1 (fun σ1 v2 =>
    ((v2 = 0 → P σ1 (-1 : Int32)) ∧
    (¬ v2 = 0 → f_X2_goRounds σ1 x1 (fun σ4 =>
     (∃ q_ : Nat, f_X2_set_21 P q_ σ4 (gI σ4 37) (0 : Int32))))))
def f_X2_areDigits_10 (P : GS → Int32 → Prop) : Nat → GS → Int32 → Int32 → Prop
  | 0 => fun _ _ _ => False
  | n + 1 => fun σ x2 x3 => ((x3 ≤ 0 → (((gI σ 6) < x2 → P σ (0 : Int32)) ∧
     (¬ (gI σ 6) < x2 → P σ (1 : Int32)))) ∧
    (¬ x3 ≤ 0 → (((x3 - x3 / (10 : Int32) * (10 : Int32)) ≤ (3 : Int32) → f_X2_areDigits_10 P n σ (x2 + 1) (x3 / (10 : Int32))) ∧
     (¬ (x3 - x3 / (10 : Int32) * (10 : Int32)) ≤ (3 : Int32) → P σ (0 : Int32)))))
def f_X2_areDigits (σ : GS) (x1 : Int32) (P : GS → Int32 → Prop) : Prop :=
    ((0 ≤ x1 → (∃ q_ : Nat, f_X2_areDigits_10 P q_ σ (0 : Int32) x1)) ∧
    (¬ 0 ≤ x1 → P σ (0 : Int32)))
def f_X2_tell (σ : GS) (x1 : Int32) (x2 : Int32) (P : GS → Int32 → Prop) : Prop :=
    f_X2_isSort σ x1 (fun σ1 v2 =>
    ((v2 = 0 → P σ1 (-1 : Int32)) ∧
    (¬ v2 = 0 → f_X2_areDigits σ1 x2 (fun σ4 v5 =>
     ((v5 = 0 → P σ4 (-1 : Int32)) ∧
     (¬ v5 = 0 → vp_in x1 5 ∧ vp_in x1 5 ∧ (∀ σ9 : GS, σ9 = sA σ4 12 x1.toNatClampNeg x2 → P σ9 (gA σ4 12 x1.toNatClampNeg))))))))
def f_X2_packed_7 (P : GS → Int32 → Prop) : Nat → GS → Int32 → Int32 → Int32 → Prop
  | 0 => fun _ _ _ _ => False
  | n + 1 => fun σ x2 x3 x4 => (((gI σ 6) ≤ x4 → P σ x2) ∧
    (¬ (gI σ 6) ≤ x4 → (∀ z2 : Int32, z2 = x2 ||| ((x3 - x3 / (10 : Int32) * (10 : Int32)) <<< (((2 : Int32) * x4) &&& 31)) → f_X2_packed_7 P n σ z2 (x3 / (10 : Int32)) (x4 + 1))))
def f_X2_packed (σ : GS) (x1 : Int32) (P : GS → Int32 → Prop) : Prop :=
    (∃ q_ : Nat, f_X2_packed_7 P q_ σ (0 : Int32) x1 (0 : Int32))
def f_X2_judge_95 (k83 : GS → Int32 → Prop) (P : GS → Int32 → Prop) : Nat → GS → Int32 → Int32 → Int32 → Prop
  | 0 => fun _ _ _ _ => False
  | n + 1 => fun σ x1 x2 x3 => (((gI σ 8) ≤ x3 → vp_in x1 28 ∧ ((x2 ≤ (gA σ 0 x1.toNatClampNeg) → k83 σ (x1 + 1)) ∧
     (¬ x2 ≤ (gA σ 0 x1.toNatClampNeg) → P σ ((30 : Int32) + x1)))) ∧
    (¬ (gI σ 8) ≤ x3 → vp_in x3 5 ∧ vp_in x3 5 ∧ f_X2_packed σ (gA σ 12 x3.toNatClampNeg) (fun σ6 v7 =>
     (∀ z8 : Int32, z8 = x2 + ((gA σ 9 x3.toNatClampNeg) * ((v7 >>> (((2 : Int32) * (((gI σ6 6) - (1 : Int32)) - x1)) &&& 31)) &&& (3 : Int32))) → f_X2_judge_95 k83 P n σ6 x1 z8 (x3 + 1)))))
def f_X2_judge_83 (P : GS → Int32 → Prop) : Nat → GS → Int32 → Prop
  | 0 => fun _ _ => False
  | n + 1 => fun σ x1 => (((gI σ 6) ≤ x1 → P σ (-2 : Int32)) ∧
    (¬ (gI σ 6) ≤ x1 → (∃ q_ : Nat, f_X2_judge_95 (f_X2_judge_83 P n) P q_ σ x1 (0 : Int32) (0 : Int32))))
def f_X2_judge_54 (P : GS → Int32 → Prop) (σ : GS) (x1 : Int32) : Prop :=
    P σ ((10 : Int32) + x1)
def f_X2_judge_2 (P : GS → Int32 → Prop) : Nat → GS → Int32 → Prop
  | 0 => fun _ _ => False
  | n + 1 => fun σ x1 => (((gI σ 8) ≤ x1 → (∃ q_ : Nat, f_X2_judge_83 P q_ σ (0 : Int32))) ∧
    (¬ (gI σ 8) ≤ x1 → f_X2_bestOf σ x1 (fun σ2 v3 =>
     vp_in x1 5 ∧ f_X2_packed σ2 (gA σ2 12 x1.toNatClampNeg) (fun σ5 v6 =>
     f_X2_unpack σ5 v6 (fun σ7 =>
     f_X2_purseOf σ7 x1 (fun σ9 v10 =>
     ((v10 < (gI σ7 27) → f_X2_judge_54 P σ9 x1) ∧
     (¬ v10 < (gI σ7 27) → f_X2_pointsInAll σ9 x1 (fun σ12 v13 =>
      (((gI σ9 28) ≤ v13 → (((gI σ12 30) ≤ (gI σ12 26) → f_X2_judge_2 P n σ12 (x1 + 1)) ∧
       (¬ (gI σ12 30) ≤ (gI σ12 26) → P σ12 ((20 : Int32) + x1)))) ∧
      (¬ (gI σ9 28) ≤ v13 → f_X2_judge_54 P σ12 x1)))))))))))
def f_X2_judge (σ : GS) (P : GS → Int32 → Prop) : Prop :=
    (∃ q_ : Nat, f_X2_judge_2 P q_ σ (0 : Int32))
def f_X2_findChanged_148 (k13 : GS → Int32 → Int32 → Int32 → Int32 → Int32 → Prop) (P : GS → Prop) (σ : GS) (x1 : Int32) (x2 : Int32) (x3 : Int32) (x4 : Int32) (x5 : Int32) : Prop :=
    k13 σ x1 x2 x3 x4 (x5 + 1)
def f_X2_findChanged_118 (k13 : GS → Int32 → Int32 → Int32 → Int32 → Int32 → Prop) (P : GS → Prop) (σ : GS) (x1 : Int32) (x2 : Int32) (x3 : Int32) (x4 : Int32) (x5 : Int32) (x6 : Int32) (t0 : Int32) : Prop :=
    ((t0 = 0 → f_X2_findChanged_148 k13 P σ x1 x2 x3 x4 x5) ∧
    (¬ t0 = 0 → (∀ σ2 : GS, σ2 = sI σ 42 (gI σ 26) → (∀ σ3 : GS, σ3 = sI σ2 43 (gI σ2 28) → f_X2_findChanged_148 k13 P σ3 x1 x2 x5 x6 x5))))
def f_X2_findChanged_117 (k13 : GS → Int32 → Int32 → Int32 → Int32 → Int32 → Prop) (P : GS → Prop) (σ : GS) (x1 : Int32) (x2 : Int32) (x3 : Int32) (x4 : Int32) (x5 : Int32) (x6 : Int32) : Prop :=
    f_X2_findChanged_118 k13 P σ x1 x2 x3 x4 x5 x6 (0 : Int32)
def f_X2_findChanged_113 (k13 : GS → Int32 → Int32 → Int32 → Int32 → Int32 → Prop) (P : GS → Prop) (σ : GS) (x1 : Int32) (x2 : Int32) (x3 : Int32) (x4 : Int32) (x5 : Int32) (x6 : Int32) : Prop :=
    f_X2_findChanged_118 k13 P σ x1 x2 x3 x4 x5 x6 (1 : Int32)
def f_X2_findChanged_13 (P : GS → Prop) : Nat → GS → Int32 → Int32 → Int32 → Int32 → Int32 → Prop
  | 0 => fun _ _ _ _ _ _ => False
  | n + 1 => fun σ x1 x2 x3 x4 x5 => f_X2_baskets σ  (fun σ1 v2 =>
    ((v2 ≤ x5 → P σ1) ∧
    (¬ v2 ≤ x5 → f_X2_unpack σ1 x5 (fun σ4 =>
     f_X2_pointsInAll σ4 x1 (fun σ6 v7 =>
     f_X2_purseOf σ6 x1 (fun σ8 v9 =>
     (((((gI σ4 27) + (x2 * (gI σ4 28))) - (x2 * v7)) ≤ v9 → ((x3 < 0 → f_X2_findChanged_113 (f_X2_findChanged_13 P n) P σ8 x1 x2 x3 x4 x5 ((gI σ4 27) + (x2 * (gI σ4 28)))) ∧
      (¬ x3 < 0 → (((gI σ8 42) < (gI σ8 26) → f_X2_findChanged_113 (f_X2_findChanged_13 P n) P σ8 x1 x2 x3 x4 x5 ((gI σ4 27) + (x2 * (gI σ4 28)))) ∧
       (¬ (gI σ8 42) < (gI σ8 26) → (((gI σ8 26) = (gI σ8 42) → ((((gI σ4 27) + (x2 * (gI σ4 28))) < x4 → f_X2_findChanged_113 (f_X2_findChanged_13 P n) P σ8 x1 x2 x3 x4 x5 ((gI σ4 27) + (x2 * (gI σ4 28)))) ∧
         (¬ ((gI σ4 27) + (x2 * (gI σ4 28))) < x4 → ((((gI σ4 27) + (x2 * (gI σ4 28))) = x4 → (((gI σ8 43) ≤ (gI σ8 28) → f_X2_findChanged_117 (f_X2_findChanged_13 P n) P σ8 x1 x2 x3 x4 x5 ((gI σ4 27) + (x2 * (gI σ4 28)))) ∧
           (¬ (gI σ8 43) ≤ (gI σ8 28) → f_X2_findChanged_113 (f_X2_findChanged_13 P n) P σ8 x1 x2 x3 x4 x5 ((gI σ4 27) + (x2 * (gI σ4 28)))))) ∧
          (¬ ((gI σ4 27) + (x2 * (gI σ4 28))) = x4 → f_X2_findChanged_117 (f_X2_findChanged_13 P n) P σ8 x1 x2 x3 x4 x5 ((gI σ4 27) + (x2 * (gI σ4 28)))))))) ∧
        (¬ (gI σ8 26) = (gI σ8 42) → f_X2_findChanged_117 (f_X2_findChanged_13 P n) P σ8 x1 x2 x3 x4 x5 ((gI σ4 27) + (x2 * (gI σ4 28)))))))))) ∧
     (¬ (((gI σ4 27) + (x2 * (gI σ4 28))) - (x2 * v7)) ≤ v9 → f_X2_findChanged_148 (f_X2_findChanged_13 P n) P σ8 x1 x2 x3 x4 x5))))))))
def f_X2_findChanged (σ : GS) (x1 : Int32) (x2 : Int32) (P : GS → Prop) : Prop :=
    f_X2_layWorths σ x1 (fun σ1 =>
    (∃ q_ : Nat, f_X2_findChanged_13 P q_ σ1 x1 x2 (-1 : Int32) (0 : Int32) (0 : Int32)))
def f_X2_isRate (σ : GS) (x0 : Int32) (P : GS → Int32 → Prop) : Prop :=
    f_X2_within σ x0.toInt64 (1 : Int64) (99 : Int64) (fun σ1 v2 =>
    gZ v2 ∧ P σ1 v2)
def f_X2_changed (σ : GS) (x1 : Int32) (x2 : Int32) (x3 : Int32) (P : GS → Int32 → Prop) : Prop :=
    f_X2_isSort σ x1 (fun σ1 v2 =>
    ((v2 = 0 → P σ1 (-1 : Int32)) ∧
    (¬ v2 = 0 → f_X2_isRate σ1 x2 (fun σ4 v5 =>
     ((v5 = 0 → P σ4 (-1 : Int32)) ∧
     (¬ v5 = 0 → f_X2_within σ4 x3.toInt64 (0 : Int64) (1 : Int64) (fun σ7 v8 =>
      ((v8 = 0 → P σ7 (-1 : Int32)) ∧
      (¬ v8 = 0 → f_X2_bestOf σ7 x1 (fun σ10 v11 =>
       f_X2_findChanged σ10 x1 x2 (fun σ12 =>
       ((x3 = 0 → P σ12 (gI σ12 42)) ∧
       (¬ x3 = 0 → P σ12 ((gI σ12 42) - (gI σ12 30)))))))))))))))
def f_X2_free_12 (k2 : GS → Int32 → Prop) (P : GS → Int32 → Prop) : Nat → GS → Int32 → Int32 → Int32 → Prop
  | 0 => fun _ _ _ _ => False
  | n + 1 => fun σ x1 x2 x3 => (((gI σ 8) ≤ x3 → ((0 < x2 → k2 σ (x1 + 1)) ∧
     (¬ 0 < x2 → P σ x1))) ∧
    (¬ (gI σ 8) ≤ x3 → f_X2_findChanged σ x3 x1 (fun σ3 =>
     vp_in x3 5 ∧ f_X2_pointsInAll σ3 x3 (fun σ6 v7 =>
     (∀ z8 : Int32, z8 = x2 + ((gA σ3 9 x3.toNatClampNeg) * ((gI σ3 43) - v7)) → f_X2_free_12 k2 P n σ6 x1 z8 (x3 + 1))))))
def f_X2_free_2 (P : GS → Int32 → Prop) : Nat → GS → Int32 → Prop
  | 0 => fun _ _ => False
  | n + 1 => fun σ x1 => (((99 : Int32) < x1 → P σ (-2 : Int32)) ∧
    (¬ (99 : Int32) < x1 → (∃ q_ : Nat, f_X2_free_12 (f_X2_free_2 P n) P q_ σ x1 (0 : Int32) (0 : Int32))))
def f_X2_free (σ : GS) (P : GS → Int32 → Prop) : Prop :=
    (∃ q_ : Nat, f_X2_free_2 P q_ σ (1 : Int32))
def f_X2_black_145 (k66 : GS → Int32 → Int32 → Int32 → Int32 → Prop) (P : GS → Int32 → Prop) (σ : GS) (x1 : Int32) (x4 : Int32) (x6 : Int32) (t0 : Int32) : Prop :=
    k66 σ x1 x4 t0 (x6 + 1)
def f_X2_black_143 (k66 : GS → Int32 → Int32 → Int32 → Int32 → Prop) (P : GS → Int32 → Prop) (σ : GS) (x1 : Int32) (x4 : Int32) (x5 : Int32) (x6 : Int32) : Prop :=
    f_X2_black_145 k66 P σ x1 x4 x6 x5
def f_X2_black_107 (k66 : GS → Int32 → Int32 → Int32 → Int32 → Prop) (P : GS → Int32 → Prop) (σ : GS) (x1 : Int32) (x4 : Int32) (x5 : Int32) (x6 : Int32) (t0 : Int32) : Prop :=
    f_X2_purseOf σ x1 (fun σ1 v2 =>
    ((v2 < ((gI σ 27) + (t0 * x4)) → f_X2_black_143 k66 P σ1 x1 x4 x5 x6) ∧
    (¬ v2 < ((gI σ 27) + (t0 * x4)) → (((gI σ1 26) ≤ x5 → f_X2_black_143 k66 P σ1 x1 x4 x5 x6) ∧
     (¬ (gI σ1 26) ≤ x5 → f_X2_black_145 k66 P σ1 x1 x4 x6 (gI σ1 26))))))
def f_X2_black_66 (P : GS → Int32 → Prop) : Nat → GS → Int32 → Int32 → Int32 → Int32 → Prop
  | 0 => fun _ _ _ _ _ => False
  | n + 1 => fun σ x1 x4 x5 x6 => f_X2_baskets σ  (fun σ1 v2 =>
    ((v2 ≤ x6 → P σ1 x5) ∧
    (¬ v2 ≤ x6 → f_X2_unpack σ1 x6 (fun σ4 =>
     f_X2_pointsInAll σ4 x1 (fun σ6 v7 =>
     (((gI σ4 28) ≤ v7 → f_X2_black_107 (f_X2_black_66 P n) P σ6 x1 x4 x5 x6 (0 : Int32)) ∧
     (¬ (gI σ4 28) ≤ v7 → f_X2_pointsInAll σ6 x1 (fun σ9 v10 =>
      f_X2_black_107 (f_X2_black_66 P n) P σ9 x1 x4 x5 x6 ((gI σ6 28) - v10)))))))))
def f_X2_black (σ : GS) (x1 : Int32) (x2 : Int32) (x3 : Int32) (P : GS → Int32 → Prop) : Prop :=
    f_X2_isSort σ x1 (fun σ1 v2 =>
    ((v2 = 0 → P σ1 (-1 : Int32)) ∧
    (¬ v2 = 0 → ((x2 < 0 → P σ1 (-1 : Int32)) ∧
     (¬ x2 < 0 → f_X2_isRate σ1 (x2 / (100 : Int32)) (fun σ5 v6 =>
      ((v6 = 0 → P σ5 (-1 : Int32)) ∧
      (¬ v6 = 0 → f_X2_within σ5 x3.toInt64 (0 : Int64) (100 : Int64) (fun σ8 v9 =>
       ((v9 = 0 → P σ8 (-1 : Int32)) ∧
       (¬ v9 = 0 → (∀ z11 : Int32, z11 = (x2 / (100 : Int32)) + ((((x2 - x2 / (100 : Int32) * (100 : Int32)) * x3) + (99 : Int32)) / (100 : Int32)) → f_X2_layWorths σ8 x1 (fun σ12 =>
        (∃ q_ : Nat, f_X2_black_66 P q_ σ12 x1 z11 (0 : Int32) (0 : Int32)))))))))))))))
def f_X2_besideOf_117 (k75 : GS → Int32 → Int32 → Int32 → Prop) (P : GS → Int32 → Prop) (σ : GS) (x3 : Int32) (x5 : Int32) (t3 : Int32) (t2 : Int32) (t0 : Int32) : Prop :=
    vp_in (t2 + t3) 24 ∧ (∀ z2 : Int32, z2 = t0 + (gA σ 24 (t2 + t3).toNatClampNeg) → k75 σ x3 z2 (x5 + 1))
def f_X2_besideOf_75 (P : GS → Int32 → Prop) : Nat → GS → Int32 → Int32 → Int32 → Prop
  | 0 => fun _ _ _ _ => False
  | n + 1 => fun σ x3 x4 x5 => (((gI σ 6) ≤ x5 → P σ x4) ∧
    (¬ (gI σ 6) ≤ x5 → vp_in x5 28 ∧ ¬ x3 = 0 ∧ ((((gA σ 0 x5.toNatClampNeg) / x3) ≤ (3 : Int32) → f_X2_besideOf_117 (f_X2_besideOf_75 P n) P σ x3 x5 ((gA σ 0 x5.toNatClampNeg) / x3) ((4 : Int32) * x5) x4) ∧
     (¬ ((gA σ 0 x5.toNatClampNeg) / x3) ≤ (3 : Int32) → f_X2_besideOf_117 (f_X2_besideOf_75 P n) P σ x3 x5 (3 : Int32) ((4 : Int32) * x5) x4))))
def f_X2_besideOf_39 (P : GS → Int32 → Prop) : Nat → GS → Int32 → Int32 → Int32 → Prop
  | 0 => fun _ _ _ _ => False
  | n + 1 => fun σ x1 x3 x4 => (((gI σ 8) ≤ x4 → f_X2_layWorths σ x1 (fun σ2 =>
     (∃ q_ : Nat, f_X2_besideOf_75 P q_ σ2 x3 (0 : Int32) (0 : Int32)))) ∧
    (¬ (gI σ 8) ≤ x4 → vp_in x4 5 ∧ f_X2_besideOf_39 P n σ x1 (x3 + (gA σ 9 x4.toNatClampNeg)) (x4 + 1)))
def f_X2_besideOf (σ : GS) (x1 : Int32) (x2 : Int32) (P : GS → Int32 → Prop) : Prop :=
    ((x2 ≤ 0 → (∃ q_ : Nat, f_X2_besideOf_39 P q_ σ x1 (0 : Int32) (0 : Int32))) ∧
    (¬ x2 ≤ 0 → (∀ σ2 : GS, σ2 = sI σ 29 x2 → f_X2_purseOf σ2 x1 (fun σ3 v4 =>
     f_X2_findBest σ3 x1 v4 (1000000000 : Int32) (fun σ5 v6 =>
     (∀ σ7 : GS, σ7 = sI σ5 29 (100 : Int32) → P σ7 (gI σ7 30)))))))
def f_X2_isHow_18 (P : GS → Int32 → Prop) (σ : GS) : Prop :=
    P σ (1 : Int32)
def f_X2_isHow (σ : GS) (x0 : Int32) (P : GS → Int32 → Prop) : Prop :=
    ((x0 = 0 → f_X2_isHow_18 P σ ) ∧
    (¬ x0 = 0 → f_X2_within σ x0.toInt64 (100 : Int64) (900 : Int64) (fun σ2 v3 =>
     ((v3 = 0 → P σ2 (0 : Int32)) ∧
     (¬ v3 = 0 → f_X2_isHow_18 P σ2 )))))
def f_X2_beside (σ : GS) (x1 : Int32) (x2 : Int32) (P : GS → Int32 → Prop) : Prop :=
    f_X2_isSort σ x1 (fun σ1 v2 =>
    ((v2 = 0 → P σ1 (-1 : Int32)) ∧
    (¬ v2 = 0 → f_X2_isHow σ1 x2 (fun σ4 v5 =>
     ((v5 = 0 → P σ4 (-1 : Int32)) ∧
     (¬ v5 = 0 → f_X2_besideOf σ4 x1 x2 (fun σ7 v8 =>
      P σ7 v8)))))))
def f_X2_loses_53 (k13 : GS → Int32 → Int32 → Int32 → Prop) (P : GS → Int32 → Prop) (σ : GS) (x1 : Int32) (x3 : Int32) (t1 : Int32) (t0 : Int32) : Prop :=
    k13 σ x1 (t0 ||| t1) (x3 + 1)
def f_X2_loses_13 (P : GS → Int32 → Prop) : Nat → GS → Int32 → Int32 → Int32 → Prop
  | 0 => fun _ _ _ _ => False
  | n + 1 => fun σ x1 x2 x3 => (((gI σ 8) ≤ x3 → P σ x2) ∧
    (¬ (gI σ 8) ≤ x3 → f_X2_bestOf σ x3 (fun σ2 v3 =>
     f_X2_besideOf σ2 x3 x1 (fun σ4 v5 =>
     ((v5 ≤ (gI σ2 30) → f_X2_loses_53 (f_X2_loses_13 P n) P σ4 x1 x3 (0 : Int32) x2) ∧
     (¬ v5 ≤ (gI σ2 30) → f_X2_loses_53 (f_X2_loses_13 P n) P σ4 x1 x3 ((1 : Int32) <<< (x3 &&& 31)) x2))))))
def f_X2_loses (σ : GS) (x1 : Int32) (P : GS → Int32 → Prop) : Prop :=
    f_X2_isHow σ x1 (fun σ1 v2 =>
    ((v2 = 0 → P σ1 (-1 : Int32)) ∧
    (¬ v2 = 0 → (∃ q_ : Nat, f_X2_loses_13 P q_ σ1 x1 (0 : Int32) (0 : Int32)))))
def f_X2_bitsOf_4 (P : GS → Int32 → Prop) : Nat → GS → Int32 → Int32 → Prop
  | 0 => fun _ _ _ => False
  | n + 1 => fun σ x1 x2 => ((x2 = 0 → P σ x1) ∧
    (¬ x2 = 0 → f_X2_bitsOf_4 P n σ (x1 + 1) (x2 &&& (x2 - (1 : Int32)))))
def f_X2_bitsOf (σ : GS) (x0 : Int32) (P : GS → Int32 → Prop) : Prop :=
    (∃ q_ : Nat, f_X2_bitsOf_4 P q_ σ (0 : Int32) x0)
def f_X2_isGone_2 (P : GS → Int32 → Prop) : Nat → GS → Int32 → Prop
  | 0 => fun _ _ => False
  | n + 1 => fun σ x1 => (((gI σ 6) ≤ x1 → P σ (0 : Int32)) ∧
    (¬ (gI σ 6) ≤ x1 → f_X2_over σ x1 (fun σ2 v3 =>
     ((0 ≤ v3 → f_X2_isGone_2 P n σ2 (x1 + 1)) ∧
     (¬ 0 ≤ v3 → P σ2 (1 : Int32))))))
def f_X2_isGone (σ : GS) (P : GS → Int32 → Prop) : Prop :=
    (∃ q_ : Nat, f_X2_isGone_2 P q_ σ (0 : Int32))
def f_X2_fewest_133 (P : GS → Int32 → Prop) : Nat → GS → Int32 → Int32 → Prop
  | 0 => fun _ _ _ => False
  | n + 1 => fun σ x1 x2 => (((gI σ 6) ≤ x2 → P σ x1) ∧
    (¬ (gI σ 6) ≤ x2 → vp_in x2 6 ∧ vp_in ((12 : Int32) + x2) 28 ∧ (∀ σ4 : GS, σ4 = sA σ 0 ((12 : Int32) + x2).toNatClampNeg (gA σ 41 x2.toNatClampNeg) → f_X2_fewest_133 P n σ4 x1 (x2 + 1))))
def f_X2_fewest_125 (k36 : GS → Int32 → Int32 → Prop) (P : GS → Int32 → Prop) (σ : GS) (x1 : Int32) (x2 : Int32) : Prop :=
    k36 σ x1 (x2 + 1)
def f_X2_fewest_124 (k36 : GS → Int32 → Int32 → Prop) (P : GS → Int32 → Prop) (σ : GS) (x2 : Int32) (t0 : Int32) : Prop :=
    f_X2_fewest_125 k36 P σ t0 x2
def f_X2_fewest_101 (k36 : GS → Int32 → Int32 → Prop) (k66 : GS → Int32 → Int32 → Int32 → Prop) (P : GS → Int32 → Prop) (σ : GS) (x1 : Int32) (x2 : Int32) (x3 : Int32) (t2 : Int32) (t1 : Int32) : Prop :=
    vp_in t1 28 ∧ (∀ σ2 : GS, σ2 = sA σ 0 t1.toNatClampNeg t2 → k66 σ2 x1 x2 (x3 + 1))
def f_X2_fewest_66 (k36 : GS → Int32 → Int32 → Prop) (P : GS → Int32 → Prop) : Nat → GS → Int32 → Int32 → Int32 → Prop
  | 0 => fun _ _ _ _ => False
  | n + 1 => fun σ x1 x2 x3 => (((gI σ 6) ≤ x3 → f_X2_findWanted σ  (fun σ2 =>
     f_X2_isGone σ2  (fun σ4 v5 =>
     ((v5 = 0 → f_X2_fewest_124 k36 P σ4 x2 x2) ∧
     (¬ v5 = 0 → f_X2_fewest_124 k36 P σ4 x2 x1))))) ∧
    (¬ (gI σ 6) ≤ x3 → ((((x2 >>> (x3 &&& 31)) &&& (1 : Int32)) = (1 : Int32) → vp_in x3 6 ∧ f_X2_fewest_101 k36 (f_X2_fewest_66 k36 P n) P σ x1 x2 x3 (gA σ 41 x3.toNatClampNeg) ((12 : Int32) + x3)) ∧
     (¬ ((x2 >>> (x3 &&& 31)) &&& (1 : Int32)) = (1 : Int32) → f_X2_fewest_101 k36 (f_X2_fewest_66 k36 P n) P σ x1 x2 x3 (0 : Int32) ((12 : Int32) + x3)))))
def f_X2_fewest_64 (k36 : GS → Int32 → Int32 → Prop) (P : GS → Int32 → Prop) (σ : GS) (x1 : Int32) (x2 : Int32) : Prop :=
    (∃ q_ : Nat, f_X2_fewest_66 k36 P q_ σ x1 x2 (0 : Int32))
def f_X2_fewest_36 (P : GS → Int32 → Prop) : Nat → GS → Int32 → Int32 → Prop
  | 0 => fun _ _ _ => False
  | n + 1 => fun σ x1 x2 => ((((1 : Int32) <<< ((gI σ 6) &&& 31)) ≤ x2 → (∃ q_ : Nat, f_X2_fewest_133 P q_ σ x1 (0 : Int32))) ∧
    (¬ ((1 : Int32) <<< ((gI σ 6) &&& 31)) ≤ x2 → ((x1 < 0 → f_X2_fewest_64 (f_X2_fewest_36 P n) P σ x1 x2) ∧
     (¬ x1 < 0 → f_X2_bitsOf σ x2 (fun σ3 v4 =>
      f_X2_bitsOf σ3 x1 (fun σ5 v6 =>
      ((v4 < v6 → f_X2_fewest_64 (f_X2_fewest_36 P n) P σ5 x1 x2) ∧
      (¬ v4 < v6 → f_X2_fewest_125 (f_X2_fewest_36 P n) P σ5 x1 x2))))))))
def f_X2_fewest_5 (P : GS → Int32 → Prop) : Nat → GS → Int32 → Int32 → Prop
  | 0 => fun _ _ _ => False
  | n + 1 => fun σ x1 x2 => (((gI σ 6) ≤ x2 → (∃ q_ : Nat, f_X2_fewest_36 P q_ σ x1 (0 : Int32))) ∧
    (¬ (gI σ 6) ≤ x2 → vp_in ((12 : Int32) + x2) 28 ∧ vp_in x2 6 ∧ (∀ σ4 : GS, σ4 = sA σ 41 x2.toNatClampNeg (gA σ 0 ((12 : Int32) + x2).toNatClampNeg) → f_X2_fewest_5 P n σ4 x1 (x2 + 1))))
def f_X2_fewest (σ : GS) (P : GS → Int32 → Prop) : Prop :=
    (∃ q_ : Nat, f_X2_fewest_5 P q_ σ (-2 : Int32) (0 : Int32))
def f_X2_least_48 (k18 : GS → Int32 → Int32 → Int32 → Prop) (P : GS → Int32 → Prop) (σ : GS) (x1 : Int32) (x3 : Int32) (t1 : Int32) (t0 : Int32) : Prop :=
    k18 σ x1 (t0 ||| t1) (x3 + 1)
def f_X2_least_18 (P : GS → Int32 → Prop) : Nat → GS → Int32 → Int32 → Int32 → Prop
  | 0 => fun _ _ _ _ => False
  | n + 1 => fun σ x1 x2 x3 => (((gI σ 8) ≤ x3 → P σ x2) ∧
    (¬ (gI σ 8) ≤ x3 → vp_in (((6 : Int32) * x3) + x1) 30 ∧ (((gA σ 34 (((6 : Int32) * x3) + x1).toNatClampNeg) ≤ 0 → f_X2_least_48 (f_X2_least_18 P n) P σ x1 x3 (0 : Int32) x2) ∧
     (¬ (gA σ 34 (((6 : Int32) * x3) + x1).toNatClampNeg) ≤ 0 → f_X2_least_48 (f_X2_least_18 P n) P σ x1 x3 ((1 : Int32) <<< (x3 &&& 31)) x2))))
def f_X2_least (σ : GS) (x1 : Int32) (P : GS → Int32 → Prop) : Prop :=
    f_X2_isThing σ x1 (fun σ1 v2 =>
    ((v2 = 0 → P σ1 (-1 : Int32)) ∧
    (¬ v2 = 0 → f_X2_findWanted σ1  (fun σ4 =>
     (∃ q_ : Nat, f_X2_least_18 P q_ σ4 x1 (0 : Int32) (0 : Int32))))))
def f_X2_months_125 (k53 : GS → Int32 → Int32 → Int32 → Int32 → Int32 → Int32 → Int32 → Int32 → Prop) (P : GS → Int32 → Prop) (σ : GS) (x1 : Int32) (x2 : Int32) (x3 : Int32) (x4 : Int32) (x5 : Int32) (x6 : Int32) (x8 : Int32) (x11 : Int32) (t0 : Int32) : Prop :=
    k53 σ x1 x2 x3 x4 x5 (x6 + (x11 - t0)) t0 (x8 + 1)
def f_X2_months_53 (P : GS → Int32 → Prop) : Nat → GS → Int32 → Int32 → Int32 → Int32 → Int32 → Int32 → Int32 → Int32 → Prop
  | 0 => fun _ _ _ _ _ _ _ _ _ => False
  | n + 1 => fun σ x1 x2 x3 x4 x5 x6 x7 x8 => ((x2 ≤ x8 → ((x4 = 0 → P σ x5) ∧
     (¬ x4 = 0 → P σ x6))) ∧
    (¬ x2 ≤ x8 → f_X2_pointsInAll σ x1 (fun σ3 v4 =>
     f_X2_purseOf σ3 x1 (fun σ5 v6 =>
     f_X2_findBest σ5 x1 v6 (v4 + x7) (fun σ7 v8 =>
     (((x8 + (1 : Int32)) = x2 → f_X2_months_125 (f_X2_months_53 P n) P σ7 x1 x2 x3 x4 (x5 + (gI σ7 30)) x6 x8 ((v4 + x7) - (gI σ7 32)) (0 : Int32)) ∧
     (¬ (x8 + (1 : Int32)) = x2 → ((x3 ≤ ((v4 + x7) - (gI σ7 32)) → f_X2_months_125 (f_X2_months_53 P n) P σ7 x1 x2 x3 x4 (x5 + (gI σ7 30)) x6 x8 ((v4 + x7) - (gI σ7 32)) x3) ∧
      (¬ x3 ≤ ((v4 + x7) - (gI σ7 32)) → f_X2_months_125 (f_X2_months_53 P n) P σ7 x1 x2 x3 x4 (x5 + (gI σ7 30)) x6 x8 ((v4 + x7) - (gI σ7 32)) ((v4 + x7) - (gI σ7 32)))))))))))
def f_X2_months (σ : GS) (x1 : Int32) (x2 : Int32) (x3 : Int32) (x4 : Int32) (P : GS → Int32 → Prop) : Prop :=
    f_X2_isSort σ x1 (fun σ1 v2 =>
    ((v2 = 0 → P σ1 (-1 : Int32)) ∧
    (¬ v2 = 0 → f_X2_within σ1 x2.toInt64 (1 : Int64) (12 : Int64) (fun σ4 v5 =>
     ((v5 = 0 → P σ4 (-1 : Int32)) ∧
     (¬ v5 = 0 → f_X2_isTwo σ4 x3.toInt64 (fun σ7 v8 =>
      ((v8 = 0 → P σ7 (-1 : Int32)) ∧
      (¬ v8 = 0 → f_X2_within σ7 x4.toInt64 (0 : Int64) (1 : Int64) (fun σ10 v11 =>
       ((v11 = 0 → P σ10 (-1 : Int32)) ∧
       (¬ v11 = 0 → (∃ q_ : Nat, f_X2_months_53 P q_ σ10 x1 x2 x3 x4 (0 : Int32) (0 : Int32) (0 : Int32) (0 : Int32))))))))))))))
def f_X2_foresight_277 (P : GS → Int32 → Prop) (σ : GS) (x3 : Int32) (x4 : Int32) : Prop :=
    P σ (x4 - x3)
def f_X2_foresight_269 (k192 : GS → Int32 → Int32 → Int32 → Int32 → Prop) (P : GS → Int32 → Prop) (σ : GS) (x3 : Int32) (x5 : Int32) (x6 : Int32) (t0 : Int32) : Prop :=
    k192 σ x3 t0 x5 (x6 + 1)
def f_X2_foresight_251 (k192 : GS → Int32 → Int32 → Int32 → Int32 → Prop) (P : GS → Int32 → Prop) (σ : GS) (x3 : Int32) (x4 : Int32) (x5 : Int32) (x6 : Int32) (t2 : Int32) (t0 : Int32) : Prop :=
    vp_in t2 1783 ∧ (((t0 + (gA σ 44 t2.toNatClampNeg)) ≤ x4 → f_X2_foresight_269 k192 P σ x3 x5 x6 x4) ∧
    (¬ (t0 + (gA σ 44 t2.toNatClampNeg)) ≤ x4 → f_X2_foresight_269 k192 P σ x3 x5 x6 (t0 + (gA σ 44 t2.toNatClampNeg))))
def f_X2_foresight_192 (P : GS → Int32 → Prop) : Nat → GS → Int32 → Int32 → Int32 → Int32 → Prop
  | 0 => fun _ _ _ _ _ => False
  | n + 1 => fun σ x3 x4 x5 x6 => ((x5 < x6 → f_X2_foresight_277 P σ x3 x4) ∧
    (¬ x5 < x6 → (((1783 : Int32) ≤ x6 → f_X2_foresight_277 P σ x3 x4) ∧
     (¬ (1783 : Int32) ≤ x6 → vp_in x6 1783 ∧ (((1783 : Int32) ≤ (((2 : Int32) * x5) - x6) → f_X2_foresight_251 (f_X2_foresight_192 P n) P σ x3 x4 x5 x6 ((1783 : Int32) - (1 : Int32)) (gA σ 44 x6.toNatClampNeg)) ∧
      (¬ (1783 : Int32) ≤ (((2 : Int32) * x5) - x6) → f_X2_foresight_251 (f_X2_foresight_192 P n) P σ x3 x4 x5 x6 (((2 : Int32) * x5) - x6) (gA σ 44 x6.toNatClampNeg)))))))
def f_X2_foresight_172 (k118 : GS → Int32 → Int32 → Int32 → Prop) (P : GS → Int32 → Prop) (σ : GS) (x1 : Int32) (x3 : Int32) (x4 : Int32) (t2 : Int32) (t1 : Int32) : Prop :=
    vp_in t1 1783 ∧ (∀ σ2 : GS, σ2 = sA σ 44 t1.toNatClampNeg t2 → k118 σ2 x1 x3 (x4 + 1))
def f_X2_foresight_118 (P : GS → Int32 → Prop) : Nat → GS → Int32 → Int32 → Int32 → Prop
  | 0 => fun _ _ _ _ => False
  | n + 1 => fun σ x1 x3 x4 => (((1783 : Int32) ≤ x4 → f_X2_pointsInAll σ x1 (fun σ2 v3 =>
     (∃ q_ : Nat, f_X2_foresight_192 P q_ σ2 x3 (0 : Int32) v3 (0 : Int32)))) ∧
    (¬ (1783 : Int32) ≤ x4 → vp_in (x4 - (1 : Int32)) 1783 ∧ vp_in x4 1783 ∧ (((gA σ 44 (x4 - (1 : Int32)).toNatClampNeg) ≤ (gA σ 44 x4.toNatClampNeg) → vp_in x4 1783 ∧ f_X2_foresight_172 (f_X2_foresight_118 P n) P σ x1 x3 x4 (gA σ 44 x4.toNatClampNeg) x4) ∧
     (¬ (gA σ 44 (x4 - (1 : Int32)).toNatClampNeg) ≤ (gA σ 44 x4.toNatClampNeg) → vp_in (x4 - (1 : Int32)) 1783 ∧ f_X2_foresight_172 (f_X2_foresight_118 P n) P σ x1 x3 x4 (gA σ 44 (x4 - (1 : Int32)).toNatClampNeg) x4))))
def f_X2_foresight_109 (k53 : GS → Int32 → Int32 → Int32 → Prop) (P : GS → Int32 → Prop) (σ : GS) (x1 : Int32) (x3 : Int32) (x4 : Int32) : Prop :=
    k53 σ x1 x3 (x4 + 1)
def f_X2_foresight_53 (P : GS → Int32 → Prop) : Nat → GS → Int32 → Int32 → Int32 → Prop
  | 0 => fun _ _ _ _ => False
  | n + 1 => fun σ x1 x3 x4 => f_X2_baskets σ  (fun σ1 v2 =>
    ((v2 ≤ x4 → (∃ q_ : Nat, f_X2_foresight_118 P q_ σ1 x1 x3 (1 : Int32))) ∧
    (¬ v2 ≤ x4 → f_X2_unpack σ1 x4 (fun σ4 =>
     f_X2_purseOf σ4 x1 (fun σ6 v7 =>
     ((v7 < (gI σ4 27) → f_X2_foresight_109 (f_X2_foresight_53 P n) P σ6 x1 x3 x4) ∧
     (¬ v7 < (gI σ4 27) → vp_in (gI σ6 28) 1783 ∧ (((gI σ6 26) ≤ (gA σ6 44 (gI σ6 28).toNatClampNeg) → f_X2_foresight_109 (f_X2_foresight_53 P n) P σ6 x1 x3 x4) ∧
      (¬ (gI σ6 26) ≤ (gA σ6 44 (gI σ6 28).toNatClampNeg) → vp_in (gI σ6 28) 1783 ∧ (∀ σ12 : GS, σ12 = sA σ6 44 (gI σ6 28).toNatClampNeg (gI σ6 26) → f_X2_foresight_109 (f_X2_foresight_53 P n) P σ12 x1 x3 x4))))))))))
def f_X2_foresight_26 (P : GS → Int32 → Prop) : Nat → GS → Int32 → Int32 → Int32 → Prop
  | 0 => fun _ _ _ _ => False
  | n + 1 => fun σ x1 x3 x4 => (((1783 : Int32) ≤ x4 → (∃ q_ : Nat, f_X2_foresight_53 P q_ σ x1 x3 (0 : Int32))) ∧
    (¬ (1783 : Int32) ≤ x4 → vp_in x4 1783 ∧ (∀ σ3 : GS, σ3 = sA σ 44 x4.toNatClampNeg (0 : Int32) → f_X2_foresight_26 P n σ3 x1 x3 (x4 + 1))))
def f_X2_foresight (σ : GS) (x1 : Int32) (P : GS → Int32 → Prop) : Prop :=
    f_X2_isSort σ x1 (fun σ1 v2 =>
    ((v2 = 0 → P σ1 (-1 : Int32)) ∧
    (¬ v2 = 0 → f_X2_bestOf σ1 x1 (fun σ4 v5 =>
     (∃ q_ : Nat, f_X2_foresight_26 P q_ σ4 x1 ((2 : Int32) * (gI σ4 30)) (0 : Int32))))))
def f_X2_cheap_70 (k15 : GS → Int32 → Int32 → Int32 → Prop) (P : GS → Int32 → Prop) (σ : GS) (x1 : Int32) (x2 : Int32) (x3 : Int32) : Prop :=
    k15 σ x1 x2 (x3 + 1)
def f_X2_cheap_68 (k15 : GS → Int32 → Int32 → Int32 → Prop) (P : GS → Int32 → Prop) (σ : GS) (x1 : Int32) (x3 : Int32) : Prop :=
    f_X2_cheap_70 k15 P σ x1 x3 x3
def f_X2_cheap_15 (P : GS → Int32 → Prop) : Nat → GS → Int32 → Int32 → Int32 → Prop
  | 0 => fun _ _ _ _ => False
  | n + 1 => fun σ x1 x2 x3 => (((gI σ 6) ≤ x3 → P σ x2) ∧
    (¬ (gI σ 6) ≤ x3 → vp_in x3 6 ∧ vp_in ((6 : Int32) + x3) 28 ∧ ((((gA σ 0 ((6 : Int32) + x3).toNatClampNeg) - x1) < (gA σ 7 x3.toNatClampNeg) → f_X2_cheap_70 (f_X2_cheap_15 P n) P σ x1 x2 x3) ∧
     (¬ ((gA σ 0 ((6 : Int32) + x3).toNatClampNeg) - x1) < (gA σ 7 x3.toNatClampNeg) → ((x2 < 0 → f_X2_cheap_68 (f_X2_cheap_15 P n) P σ x1 x3) ∧
      (¬ x2 < 0 → vp_in ((12 : Int32) + x3) 28 ∧ vp_in ((12 : Int32) + x2) 28 ∧ (((gA σ 0 ((12 : Int32) + x2).toNatClampNeg) ≤ (gA σ 0 ((12 : Int32) + x3).toNatClampNeg) → f_X2_cheap_70 (f_X2_cheap_15 P n) P σ x1 x2 x3) ∧
       (¬ (gA σ 0 ((12 : Int32) + x2).toNatClampNeg) ≤ (gA σ 0 ((12 : Int32) + x3).toNatClampNeg) → f_X2_cheap_68 (f_X2_cheap_15 P n) P σ x1 x3))))))))
def f_X2_cheap (σ : GS) (x1 : Int32) (P : GS → Int32 → Prop) : Prop :=
    f_X2_isTwo σ x1.toInt64 (fun σ1 v2 =>
    ((v2 = 0 → P σ1 (-1 : Int32)) ∧
    (¬ v2 = 0 → (∃ q_ : Nat, f_X2_cheap_15 P q_ σ1 x1 (-2 : Int32) (0 : Int32)))))
def f_X2_wrong_95 (k28 : GS → Int32 → Int32 → Int32 → Int32 → Prop) (P : GS → Int32 → Prop) (σ : GS) (x1 : Int32) (x2 : Int32) (x3 : Int32) (x4 : Int32) : Prop :=
    k28 σ x1 x2 x3 (x4 + 1)
def f_X2_wrong_89 (k28 : GS → Int32 → Int32 → Int32 → Int32 → Prop) (P : GS → Int32 → Prop) (σ : GS) (x1 : Int32) (x4 : Int32) (x5 : Int32) : Prop :=
    f_X2_wrong_95 k28 P σ x1 x4 x5 x4
def f_X2_wrong_72 (k28 : GS → Int32 → Int32 → Int32 → Int32 → Prop) (P : GS → Int32 → Prop) (σ : GS) (x1 : Int32) (x2 : Int32) (x3 : Int32) (x4 : Int32) (t0 : Int32) : Prop :=
    ((t0 < 0 → f_X2_wrong_95 k28 P σ x1 x2 x3 x4) ∧
    (¬ t0 < 0 → ((x2 < 0 → f_X2_wrong_89 k28 P σ x1 x4 t0) ∧
     (¬ x2 < 0 → ((t0 ≤ x3 → f_X2_wrong_95 k28 P σ x1 x2 x3 x4) ∧
      (¬ t0 ≤ x3 → f_X2_wrong_89 k28 P σ x1 x4 t0))))))
def f_X2_wrong_28 (P : GS → Int32 → Prop) : Nat → GS → Int32 → Int32 → Int32 → Int32 → Prop
  | 0 => fun _ _ _ _ _ => False
  | n + 1 => fun σ x1 x2 x3 x4 => (((gI σ 6) ≤ x4 → ((0 ≤ x2 → ((x1 = 0 → P σ x2) ∧
      (¬ x1 = 0 → ((x1 = (1 : Int32) → P σ x3) ∧
       (¬ x1 = (1 : Int32) → f_X2_over σ x2 (fun σ5 v6 =>
        ((0 ≤ v6 → f_X2_over σ5 x2 (fun σ8 v9 =>
         ((v9 ≤ 0 → P σ8 (0 : Int32)) ∧
         (¬ v9 ≤ 0 → P σ8 (-1 : Int32))))) ∧
        (¬ 0 ≤ v6 → P σ5 (1 : Int32))))))))) ∧
     (¬ 0 ≤ x2 → P σ (-2 : Int32)))) ∧
    (¬ (gI σ 6) ≤ x4 → vp_in x4 28 ∧ (((gA σ 0 x4.toNatClampNeg) = 0 → f_X2_wrong_72 (f_X2_wrong_28 P n) P σ x1 x2 x3 x4 (-1 : Int32)) ∧
     (¬ (gA σ 0 x4.toNatClampNeg) = 0 → f_X2_over σ x4 (fun σ13 v14 =>
      f_X2_size σ13 v14 (fun σ15 v16 =>
      vp_in x4 28 ∧ ¬ (gA σ15 0 x4.toNatClampNeg) = 0 ∧ f_X2_wrong_72 (f_X2_wrong_28 P n) P σ15 x1 x2 x3 x4 ((v16 * (1000 : Int32)) / (gA σ15 0 x4.toNatClampNeg))))))))
def f_X2_wrong (σ : GS) (x1 : Int32) (P : GS → Int32 → Prop) : Prop :=
    f_X2_within σ x1.toInt64 (0 : Int64) (2 : Int64) (fun σ1 v2 =>
    ((v2 = 0 → P σ1 (-2000000000 : Int32)) ∧
    (¬ v2 = 0 → f_X2_findWanted σ1  (fun σ4 =>
     (∃ q_ : Nat, f_X2_wrong_28 P q_ σ4 x1 (-2 : Int32) (0 : Int32) (0 : Int32))))))
def f_X2_body (σ : GS) (x1 : Int32) (P : GS → Int32 → Prop) : Prop :=
    f_X2_within σ x1.toInt64 (0 : Int64) (7 : Int64) (fun σ1 v2 =>
    ((v2 = 0 → P σ1 (-1 : Int32)) ∧
    (¬ v2 = 0 → (((gI σ1 45) = (50 : Int32) → P σ1 (-3 : Int32)) ∧
     (¬ (gI σ1 45) = (50 : Int32) → vp_in (gI σ1 45) 50 ∧ (∀ σ6 : GS, σ6 = sA σ1 46 (gI σ1 45).toNatClampNeg x1 → (∀ σ7 : GS, σ7 = sI σ6 45 ((gI σ6 45) + (1 : Int32)) → P σ7 ((gI σ7 45) - (1 : Int32)))))))))
def f_X2_begins_19 (P : GS → Prop) (σ : GS) : Prop :=
    (∀ σ1 : GS, σ1 = sI σ 48 ((gI σ 48) + (1 : Int32)) → P σ1)
def f_X2_begins (σ : GS) (x1 : Int32) (P : GS → Prop) : Prop :=
    (((24 : Int32) ≤ (gI σ 48) → f_X2_begins_19 P σ ) ∧
    (¬ (24 : Int32) ≤ (gI σ 48) → vp_in (gI σ 48) 24 ∧ (∀ σ3 : GS, σ3 = sA σ 47 (gI σ 48).toNatClampNeg x1 → f_X2_begins_19 P σ3 )))
def o_X2_buysAs (c_buysAs : GS → Int32 → Int32 → (GS → Int32 → Prop) → Prop) (σ : GS) (x1 : Int32) (x2 : Int32) (P : GS → Int32 → Prop) : Prop :=
    ((x1 = (1 : Int32) → f_X2_begins σ (20 : Int32) (fun σ14 =>
     c_buysAs σ14 (0 : Int32) x2 (fun σ16 v17 =>
     P σ16 (v17 + (3 : Int32))))) ∧
    (¬ x1 = (1 : Int32) → ((x1 = (5 : Int32) → f_X2_begins σ (60 : Int32) (fun σ10 =>
      c_buysAs σ10 (0 : Int32) (x2 + (1 : Int32)) (fun σ12 v13 =>
      P σ12 v13))) ∧
     (¬ x1 = (5 : Int32) → ((x1 = (6 : Int32) → f_X2_begins σ (70 : Int32) (fun σ6 =>
       c_buysAs σ6 (0 : Int32) x2 (fun σ8 v9 =>
       P σ8 (v9 * (2 : Int32))))) ∧
      (¬ x1 = (6 : Int32) → f_X2_begins σ (1 : Int32) (fun σ4 =>
       P σ4 (x2 + (gI σ4 50)))))))))
def d_X2_buysAs : Nat → GS → Int32 → Int32 → (GS → Int32 → Prop) → Prop
  | 0, _, _, _, _ => False
  | d + 1, σ, x1, x2, P => o_X2_buysAs (d_X2_buysAs d) σ x1 x2 P
def f_X2_buysAs (σ : GS) (x1 : Int32) (x2 : Int32) (P : GS → Int32 → Prop) : Prop := d_X2_buysAs 4 σ x1 x2 P
def f_X2_isBody (σ : GS) (x1 : Int32) (P : GS → Int32 → Prop) : Prop :=
    f_X2_within σ x1.toInt64 (0 : Int64) (((gI σ 45) - (1 : Int32)).toInt64) (fun σ1 v2 =>
    gZ v2 ∧ P σ1 v2)
def o_X2_lendsAs_36 (c_lendsAs : GS → Int32 → Int32 → (GS → Int32 → Prop) → Prop) (P : GS → Int32 → Prop) (σ : GS) (x2 : Int32) : Prop :=
    f_X2_begins σ (50 : Int32) (fun σ1 =>
    c_lendsAs σ1 (0 : Int32) x2 (fun σ3 v4 =>
    f_X2_buysAs σ3 (gI σ3 49) (2 : Int32) (fun σ5 v6 =>
    P σ5 (v4 - v6))))
def o_X2_lendsAs_10 (c_lendsAs : GS → Int32 → Int32 → (GS → Int32 → Prop) → Prop) (P : GS → Int32 → Prop) (σ : GS) (x2 : Int32) : Prop :=
    f_X2_begins σ (40 : Int32) (fun σ1 =>
    c_lendsAs σ1 (0 : Int32) x2 (fun σ3 v4 =>
    P σ3 (v4 * (3 : Int32))))
def o_X2_lendsAs (c_lendsAs : GS → Int32 → Int32 → (GS → Int32 → Prop) → Prop) (σ : GS) (x1 : Int32) (x2 : Int32) (P : GS → Int32 → Prop) : Prop :=
    ((x1 = (3 : Int32) → o_X2_lendsAs_10 c_lendsAs P σ x2) ∧
    (¬ x1 = (3 : Int32) → ((x1 = (5 : Int32) → o_X2_lendsAs_10 c_lendsAs P σ x2) ∧
     (¬ x1 = (5 : Int32) → ((x1 = (4 : Int32) → o_X2_lendsAs_36 c_lendsAs P σ x2) ∧
      (¬ x1 = (4 : Int32) → ((x1 = (7 : Int32) → o_X2_lendsAs_36 c_lendsAs P σ x2) ∧
       (¬ x1 = (7 : Int32) → f_X2_begins σ (11 : Int32) (fun σ5 =>
        P σ5 (x2 ^^^ (gI σ5 50)))))))))))
def d_X2_lendsAs : Nat → GS → Int32 → Int32 → (GS → Int32 → Prop) → Prop
  | 0, _, _, _, _ => False
  | d + 1, σ, x1, x2, P => o_X2_lendsAs (d_X2_lendsAs d) σ x1 x2 P
def f_X2_lendsAs (σ : GS) (x1 : Int32) (x2 : Int32) (P : GS → Int32 → Prop) : Prop := d_X2_lendsAs 4 σ x1 x2 P
def o_X2_keepsAs_51 (c_keepsAs : GS → Int32 → Int32 → (GS → Int32 → Prop) → Prop) (P : GS → Int32 → Prop) (σ : GS) (x2 : Int32) : Prop :=
    f_X2_begins σ (30 : Int32) (fun σ1 =>
    c_keepsAs σ1 (0 : Int32) x2 (fun σ3 v4 =>
    P σ3 (-v4)))
def o_X2_keepsAs (c_keepsAs : GS → Int32 → Int32 → (GS → Int32 → Prop) → Prop) (σ : GS) (x1 : Int32) (x2 : Int32) (P : GS → Int32 → Prop) : Prop :=
    ((x1 = (7 : Int32) → f_X2_begins σ (80 : Int32) (fun σ10 =>
     c_keepsAs σ10 (4 : Int32) x2 (fun σ12 v13 =>
     f_X2_lendsAs σ12 (gI σ12 49) (2 : Int32) (fun σ14 v15 =>
     P σ14 (v13 + v15))))) ∧
    (¬ x1 = (7 : Int32) → ((x1 = (2 : Int32) → o_X2_keepsAs_51 c_keepsAs P σ x2) ∧
     (¬ x1 = (2 : Int32) → ((x1 = (3 : Int32) → o_X2_keepsAs_51 c_keepsAs P σ x2) ∧
      (¬ x1 = (3 : Int32) → ((x1 = (4 : Int32) → o_X2_keepsAs_51 c_keepsAs P σ x2) ∧
       (¬ x1 = (4 : Int32) → ((x1 = (5 : Int32) → o_X2_keepsAs_51 c_keepsAs P σ x2) ∧
        (¬ x1 = (5 : Int32) → f_X2_begins σ (10 : Int32) (fun σ6 =>
         f_X2_buysAs σ6 (gI σ6 49) x2 (fun σ8 v9 =>
         P σ8 (v9 * (2 : Int32))))))))))))))
def d_X2_keepsAs : Nat → GS → Int32 → Int32 → (GS → Int32 → Prop) → Prop
  | 0, _, _, _, _ => False
  | d + 1, σ, x1, x2, P => o_X2_keepsAs (d_X2_keepsAs d) σ x1 x2 P
def f_X2_keepsAs (σ : GS) (x1 : Int32) (x2 : Int32) (P : GS → Int32 → Prop) : Prop := d_X2_keepsAs 4 σ x1 x2 P
def o_X2_tellsAs (c_tellsAs : GS → Int32 → Int32 → (GS → Int32 → Prop) → Prop) (σ : GS) (x1 : Int32) (x2 : Int32) (P : GS → Int32 → Prop) : Prop :=
    ((x1 = (5 : Int32) → f_X2_begins σ (61 : Int32) (fun σ13 =>
     c_tellsAs σ13 (3 : Int32) x2 (fun σ15 v16 =>
     P σ15 (v16 ^^^ (5 : Int32))))) ∧
    (¬ x1 = (5 : Int32) → ((x1 = (7 : Int32) → f_X2_begins σ (81 : Int32) (fun σ9 =>
      c_tellsAs σ9 (4 : Int32) x2 (fun σ11 v12 =>
      P σ11 (v12 - (1 : Int32))))) ∧
     (¬ x1 = (7 : Int32) → f_X2_begins σ (2 : Int32) (fun σ3 =>
      f_X2_keepsAs σ3 (gI σ3 49) x2 (fun σ5 v6 =>
      f_X2_lendsAs σ5 (gI σ5 49) (1 : Int32) (fun σ7 v8 =>
      P σ7 (v6 - v8))))))))
def d_X2_tellsAs : Nat → GS → Int32 → Int32 → (GS → Int32 → Prop) → Prop
  | 0, _, _, _, _ => False
  | d + 1, σ, x1, x2, P => o_X2_tellsAs (d_X2_tellsAs d) σ x1 x2 P
def f_X2_tellsAs (σ : GS) (x1 : Int32) (x2 : Int32) (P : GS → Int32 → Prop) : Prop := d_X2_tellsAs 4 σ x1 x2 P
def f_X2_act (σ : GS) (x1 : Int32) (x2 : Int32) (x3 : Int32) (P : GS → Int32 → Prop) : Prop :=
    (∀ σ1 : GS, σ1 = sI σ 48 (0 : Int32) → f_X2_isBody σ1 x1 (fun σ2 v3 =>
    ((v3 = 0 → P σ2 (0 : Int32)) ∧
    (¬ v3 = 0 → vp_in x1 50 ∧ (∀ σ6 : GS, σ6 = sI σ2 49 (gA σ2 46 x1.toNatClampNeg) → (∀ σ7 : GS, σ7 = sI σ6 50 x1 → ((x2 = (0 : Int32) → f_X2_buysAs σ7 (gI σ7 49) x3 (fun σ8 v9 =>
      P σ8 v9)) ∧
     (¬ x2 = (0 : Int32) → ((x2 = (1 : Int32) → f_X2_keepsAs σ7 (gI σ7 49) x3 (fun σ10 v11 =>
      P σ10 v11)) ∧
     (¬ x2 = (1 : Int32) → ((x2 = (2 : Int32) → f_X2_lendsAs σ7 (gI σ7 49) x3 (fun σ12 v13 =>
      P σ12 v13)) ∧
     (¬ x2 = (2 : Int32) → ((x2 = (3 : Int32) → f_X2_tellsAs σ7 (gI σ7 49) x3 (fun σ14 v15 =>
      P σ14 v15)) ∧
     (¬ x2 = (3 : Int32) → P σ7 (0 : Int32)))))))))))))))
def f_X2_trace (σ : GS) (x1 : Int32) (P : GS → Int32 → Prop) : Prop :=
    ((x1 < 0 → P σ (-1 : Int32)) ∧
    (¬ x1 < 0 → (((gI σ 48) ≤ x1 → P σ (-1 : Int32)) ∧
     (¬ (gI σ 48) ≤ x1 → (((24 : Int32) ≤ x1 → P σ (-1 : Int32)) ∧
      (¬ (24 : Int32) ≤ x1 → vp_in x1 24 ∧ P σ (gA σ 47 x1.toNatClampNeg)))))))
def f_X2_keep_22 (P : GS → Int32 → Prop) (σ : GS) (x1 : Int32) (x2 : Int32) : Prop :=
    vp_in x1 6 ∧ (∀ σ2 : GS, σ2 = sA σ 51 x1.toNatClampNeg x2 → vp_in x1 6 ∧ (∀ σ4 : GS, σ4 = sA σ2 52 x1.toNatClampNeg (0 : Int32) → P σ4 (1 : Int32)))
def f_X2_keep (σ : GS) (x1 : Int32) (x2 : Int32) (P : GS → Int32 → Prop) : Prop :=
    f_X2_isShelf σ x1 (fun σ1 v2 =>
    ((v2 = 0 → P σ1 (-1 : Int32)) ∧
    (¬ v2 = 0 → ((x2 = (-1 : Int32) → f_X2_keep_22 P σ1 x1 x2) ∧
     (¬ x2 = (-1 : Int32) → f_X2_isBody σ1 x2 (fun σ5 v6 =>
      ((v6 = 0 → P σ5 (-1 : Int32)) ∧
      (¬ v6 = 0 → f_X2_keep_22 P σ5 x1 x2))))))))
def f_X2_row_57 (P : GS → Int32 → Prop) : Nat → GS → Int32 → Int32 → Prop
  | 0 => fun _ _ _ => False
  | n + 1 => fun σ x1 x4 => (((((60 : Int32) * x1) + (60 : Int32)) ≤ x4 → P σ (1 : Int32)) ∧
    (¬ (((60 : Int32) * x1) + (60 : Int32)) ≤ x4 → vp_in x4 360 ∧ (∀ σ3 : GS, σ3 = sL σ 53 x4.toNatClampNeg (0 : Int64) → f_X2_row_57 P n σ3 x1 (x4 + 1))))
def f_X2_row (σ : GS) (x1 : Int32) (x2 : Int32) (x3 : Int32) (P : GS → Int32 → Prop) : Prop :=
    f_X2_isShelf σ x1 (fun σ1 v2 =>
    ((v2 = 0 → P σ1 (-1 : Int32)) ∧
    (¬ v2 = 0 → f_X2_within σ1 x2.toInt64 (0 : Int64) (4 : Int64) (fun σ4 v5 =>
     ((v5 = 0 → P σ4 (-1 : Int32)) ∧
     (¬ v5 = 0 → ((x3 ≤ (60 : Int32) → ((0 ≤ x3 → vp_in x1 6 ∧ (∀ σ10 : GS, σ10 = sA σ4 51 x1.toNatClampNeg ((50 : Int32) + x2) → vp_in x1 6 ∧ (∀ σ12 : GS, σ12 = sA σ10 52 x1.toNatClampNeg x3 → (∃ q_ : Nat, f_X2_row_57 P q_ σ12 x1 ((60 : Int32) * x1))))) ∧
       (¬ 0 ≤ x3 → P σ4 (-14 : Int32)))) ∧
      (¬ x3 ≤ (60 : Int32) → P σ4 (-1 : Int32)))))))))
def f_X2_asSort (σ : GS) (x0 : Int32) (x1 : Int64) (P : GS → Int64 → Prop) : Prop :=
    ((x0 = 0 → P σ x1.toInt32.toInt8.toInt32.toInt64) ∧
    (¬ x0 = 0 → ((x0 = (1 : Int32) → P σ x1.toInt32.toInt16.toInt32.toInt64) ∧
     (¬ x0 = (1 : Int32) → ((x0 = (2 : Int32) → P σ x1.toInt32.toInt64) ∧
      (¬ x0 = (2 : Int32) → ((x0 = (4 : Int32) → (((lg_cmp x1 (0 : Int64)) = 0 → P σ (0 : Int64)) ∧
        (¬ (lg_cmp x1 (0 : Int64)) = 0 → P σ (1 : Int64)))) ∧
       (¬ x0 = (4 : Int32) → P σ x1))))))))
def f_X2_refusal (σ : GS) (x1 : Int32) (x2 : Int32) (P : GS → Int32 → Prop) : Prop :=
    f_X2_isShelf σ x1 (fun σ1 v2 =>
    ((v2 = 0 → P σ1 (-1 : Int32)) ∧
    (¬ v2 = 0 → vp_in x1 6 ∧ ((0 ≤ (gA σ1 51 x1.toNatClampNeg) → vp_in x1 6 ∧ (((50 : Int32) ≤ (gA σ1 51 x1.toNatClampNeg) → ((x2 < 0 → P σ1 (-13 : Int32)) ∧
       (¬ x2 < 0 → vp_in x1 6 ∧ (((gA σ1 52 x1.toNatClampNeg) ≤ x2 → P σ1 (-13 : Int32)) ∧
        (¬ (gA σ1 52 x1.toNatClampNeg) ≤ x2 → P σ1 (0 : Int32)))))) ∧
      (¬ (50 : Int32) ≤ (gA σ1 51 x1.toNatClampNeg) → P σ1 (-12 : Int32)))) ∧
     (¬ 0 ≤ (gA σ1 51 x1.toNatClampNeg) → P σ1 (-11 : Int32))))))
def f_X2_put_37 (P : GS → Int32 → Prop) (σ : GS) (x5 : Int32) : Prop :=
    ((x5 = 0 → P σ (1 : Int32)) ∧
    (¬ x5 = 0 → P σ x5))
def f_X2_put (σ : GS) (x1 : Int32) (x2 : Int32) (x3 : Int64) (P : GS → Int32 → Prop) : Prop :=
    f_X2_refusal σ x1 x2 (fun σ1 v2 =>
    ((v2 = 0 → vp_in x1 6 ∧ f_X2_asSort σ1 ((gA σ1 51 x1.toNatClampNeg) - (50 : Int32)) x3 (fun σ5 v6 =>
     vp_in (((60 : Int32) * x1) + x2) 360 ∧ (∀ σ8 : GS, σ8 = sL σ5 53 (((60 : Int32) * x1) + x2).toNatClampNeg v6 → f_X2_put_37 P σ8 v2))) ∧
    (¬ v2 = 0 → f_X2_put_37 P σ1 v2)))
def f_X2_element (σ : GS) (x1 : Int32) (x2 : Int32) (P : GS → Int64 → Prop) : Prop :=
    f_X2_refusal σ x1 x2 (fun σ1 v2 =>
    ((v2 = 0 → vp_in (((60 : Int32) * x1) + x2) 360 ∧ P σ1 (gL σ1 53 (((60 : Int32) * x1) + x2).toNatClampNeg)) ∧
    (¬ v2 = 0 → P σ1 (-9223372036854775808 : Int64))))
def f_X2_shift_150 (P : GS → Int32 → Prop) : Nat → GS → Int32 → Int32 → Int32 → Int32 → Prop
  | 0 => fun _ _ _ _ _ => False
  | n + 1 => fun σ x3 x4 x5 x6 => ((x5 ≤ x6 → P σ x5) ∧
    (¬ x5 ≤ x6 → vp_in x6 60 ∧ vp_in ((((60 : Int32) * x3) + x4) + x6) 360 ∧ (∀ σ4 : GS, σ4 = sL σ 53 ((((60 : Int32) * x3) + x4) + x6).toNatClampNeg (gL σ 54 x6.toNatClampNeg) → f_X2_shift_150 P n σ4 x3 x4 x5 (x6 + 1))))
def f_X2_shift_113 (P : GS → Int32 → Prop) : Nat → GS → Int32 → Int32 → Int32 → Int32 → Int32 → Int32 → Prop
  | 0 => fun _ _ _ _ _ _ _ => False
  | n + 1 => fun σ x1 x2 x3 x4 x5 x6 => ((x5 ≤ x6 → (∃ q_ : Nat, f_X2_shift_150 P q_ σ x3 x4 x5 (0 : Int32))) ∧
    (¬ x5 ≤ x6 → vp_in ((((60 : Int32) * x1) + x2) + x6) 360 ∧ vp_in x6 60 ∧ (∀ σ4 : GS, σ4 = sL σ 54 x6.toNatClampNeg (gL σ 53 ((((60 : Int32) * x1) + x2) + x6).toNatClampNeg) → f_X2_shift_113 P n σ4 x1 x2 x3 x4 x5 (x6 + 1))))
def f_X2_shift (σ : GS) (x1 : Int32) (x2 : Int32) (x3 : Int32) (x4 : Int32) (x5 : Int32) (P : GS → Int32 → Prop) : Prop :=
    f_X2_isShelf σ x1 (fun σ1 v2 =>
    ((v2 = 0 → P σ1 (-1 : Int32)) ∧
    (¬ v2 = 0 → f_X2_isShelf σ1 x3 (fun σ4 v5 =>
     ((v5 = 0 → P σ4 (-1 : Int32)) ∧
     (¬ v5 = 0 → vp_in x1 6 ∧ (((gA σ4 51 x1.toNatClampNeg) < 0 → P σ4 (-11 : Int32)) ∧
      (¬ (gA σ4 51 x1.toNatClampNeg) < 0 → vp_in x3 6 ∧ ((0 ≤ (gA σ4 51 x3.toNatClampNeg) → vp_in x1 6 ∧ (((gA σ4 51 x1.toNatClampNeg) < (50 : Int32) → P σ4 (-12 : Int32)) ∧
        (¬ (gA σ4 51 x1.toNatClampNeg) < (50 : Int32) → vp_in x1 6 ∧ vp_in x3 6 ∧ (((gA σ4 51 x1.toNatClampNeg) = (gA σ4 51 x3.toNatClampNeg) → ((x5 < 0 → P σ4 (-13 : Int32)) ∧
          (¬ x5 < 0 → ((x2 < 0 → P σ4 (-13 : Int32)) ∧
           (¬ x2 < 0 → ((x4 < 0 → P σ4 (-13 : Int32)) ∧
            (¬ x4 < 0 → vp_in x1 6 ∧ ((((gA σ4 52 x1.toNatClampNeg) - x5) < x2 → P σ4 (-13 : Int32)) ∧
             (¬ ((gA σ4 52 x1.toNatClampNeg) - x5) < x2 → vp_in x3 6 ∧ ((x4 ≤ ((gA σ4 52 x3.toNatClampNeg) - x5) → (∃ q_ : Nat, f_X2_shift_113 P q_ σ4 x1 x2 x3 x4 x5 (0 : Int32))) ∧
              (¬ x4 ≤ ((gA σ4 52 x3.toNatClampNeg) - x5) → P σ4 (-13 : Int32)))))))))))) ∧
         (¬ (gA σ4 51 x1.toNatClampNeg) = (gA σ4 51 x3.toNatClampNeg) → P σ4 (-12 : Int32)))))) ∧
       (¬ 0 ≤ (gA σ4 51 x3.toNatClampNeg) → P σ4 (-11 : Int32)))))))))))
def f_X2_above_10 (P : GS → Int32 → Prop) (σ : GS) : Prop :=
    P σ (2 : Int32)
def f_X2_above (σ : GS) (x0 : Int32) (P : GS → Int32 → Prop) : Prop :=
    ((x0 = (3 : Int32) → f_X2_above_10 P σ ) ∧
    (¬ x0 = (3 : Int32) → ((x0 = (4 : Int32) → f_X2_above_10 P σ ) ∧
     (¬ x0 = (4 : Int32) → ((x0 = (5 : Int32) → P σ (3 : Int32)) ∧
      (¬ x0 = (5 : Int32) → ((x0 = (7 : Int32) → P σ (4 : Int32)) ∧
       (¬ x0 = (7 : Int32) → P σ (0 : Int32)))))))))
def f_X2_kindOf (σ : GS) (x1 : Int32) (P : GS → Int32 → Prop) : Prop :=
    vp_in x1 50 ∧ P σ (gA σ 46 x1.toNatClampNeg)
def f_X2_taken_75 (P : GS → Int32 → Prop) (σ : GS) (x1 : Int32) (x2 : Int32) (x3 : Int32) : Prop :=
    ((x3 = x2 → vp_in x1 6 ∧ f_X2_kindOf σ (gA σ 51 x1.toNatClampNeg) (fun σ3 v4 =>
     P σ3 v4)) ∧
    (¬ x3 = x2 → P σ (-12 : Int32)))
def f_X2_taken_58 (P : GS → Int32 → Prop) : Nat → GS → Int32 → Int32 → Int32 → Prop
  | 0 => fun _ _ _ _ => False
  | n + 1 => fun σ x1 x2 x3 => ((x3 = x2 → f_X2_taken_75 P σ x1 x2 x3) ∧
    (¬ x3 = x2 → ((x3 ≤ 0 → f_X2_taken_75 P σ x1 x2 x3) ∧
     (¬ x3 ≤ 0 → f_X2_above σ x3 (fun σ3 v4 =>
      f_X2_taken_58 P n σ3 x1 x2 v4)))))
def f_X2_taken (σ : GS) (x1 : Int32) (x2 : Int32) (P : GS → Int32 → Prop) : Prop :=
    f_X2_isShelf σ x1 (fun σ1 v2 =>
    ((v2 = 0 → P σ1 (-1 : Int32)) ∧
    (¬ v2 = 0 → f_X2_within σ1 x2.toInt64 (0 : Int64) (7 : Int64) (fun σ4 v5 =>
     ((v5 = 0 → P σ4 (-1 : Int32)) ∧
     (¬ v5 = 0 → vp_in x1 6 ∧ ((0 ≤ (gA σ4 51 x1.toNatClampNeg) → vp_in x1 6 ∧ (((gA σ4 51 x1.toNatClampNeg) < (50 : Int32) → vp_in x1 6 ∧ f_X2_kindOf σ4 (gA σ4 51 x1.toNatClampNeg) (fun σ12 v13 =>
        (∃ q_ : Nat, f_X2_taken_58 P q_ σ12 x1 x2 v13))) ∧
       (¬ (gA σ4 51 x1.toNatClampNeg) < (50 : Int32) → P σ4 (-12 : Int32)))) ∧
      (¬ 0 ≤ (gA σ4 51 x1.toNatClampNeg) → P σ4 (-11 : Int32)))))))))
def f_X2_count (σ : GS) (x1 : Int32) (P : GS → Int32 → Prop) : Prop :=
    ((x1 = (0 : Int32) → P σ (gI σ 6)) ∧
    (¬ x1 = (0 : Int32) → ((x1 = (1 : Int32) → P σ (gI σ 8)) ∧
    (¬ x1 = (1 : Int32) → ((x1 = (2 : Int32) → P σ (gI σ 15)) ∧
    (¬ x1 = (2 : Int32) → ((x1 = (3 : Int32) → P σ (gI σ 14)) ∧
    (¬ x1 = (3 : Int32) → ((x1 = (4 : Int32) → P σ (gI σ 5)) ∧
    (¬ x1 = (4 : Int32) → ((x1 = (5 : Int32) → P σ (gI σ 45)) ∧
    (¬ x1 = (5 : Int32) → ((x1 = (6 : Int32) → P σ (gI σ 48)) ∧
    (¬ x1 = (6 : Int32) → P σ (-1 : Int32)))))))))))))))

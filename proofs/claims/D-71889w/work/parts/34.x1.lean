/-! the tracker's leaves -/
abbrev nrP (v u : Int32) : Prop := -1 ≤ v - u ∧ v - u ≤ 1
def minX (v u : Int32) : Int32 := if u < v then u else v
def maxX (v u : Int32) : Int32 := if v < u then u else v
def absX (v : Int32) : Int32 := if 0 ≤ v then v else -v
abbrev fitP (w v u : Int32) : Prop := absX (v - u) ≤ w
/-- the floor of v by u -/
def floX (v u : Int64) : Int64 := if v ^^^ u < 0 then (if v / u * u = v then v / u else v / u - 1) else v / u
theorem cd_X0_add : yX0_add.cls = RX0 ∧ yX0_add.cls ≠ "java/lang/invoke/MethodHandle" ∧ yX0_add.cls ≠ "java/lang/invoke/VarHandle" ∧ (parseMethodDescriptor yX0_add.desc).map (fun d => d.parameters.length) = some 4 := by decide +kernel
theorem cd_X0_isTwo : yX0_isTwo.cls = RX0 ∧ yX0_isTwo.cls ≠ "java/lang/invoke/MethodHandle" ∧ yX0_isTwo.cls ≠ "java/lang/invoke/VarHandle" ∧ (parseMethodDescriptor yX0_isTwo.desc).map (fun d => d.parameters.length) = some 1 := by decide +kernel
theorem cd_X0_in : yX0_in.cls = RX0 ∧ yX0_in.cls ≠ "java/lang/invoke/MethodHandle" ∧ yX0_in.cls ≠ "java/lang/invoke/VarHandle" ∧ (parseMethodDescriptor yX0_in.desc).map (fun d => d.parameters.length) = some 3 := by decide +kernel
theorem cd_X0_adds : yX0_adds.cls = RX0 ∧ yX0_adds.cls ≠ "java/lang/invoke/MethodHandle" ∧ yX0_adds.cls ≠ "java/lang/invoke/VarHandle" ∧ (parseMethodDescriptor yX0_adds.desc).map (fun d => d.parameters.length) = some 4 := by decide +kernel
theorem cd_X0_isDirection : yX0_isDirection.cls = RX0 ∧ yX0_isDirection.cls ≠ "java/lang/invoke/MethodHandle" ∧ yX0_isDirection.cls ≠ "java/lang/invoke/VarHandle" ∧ (parseMethodDescriptor yX0_isDirection.desc).map (fun d => d.parameters.length) = some 3 := by decide +kernel
theorem cd_X0_keeps : yX0_keeps.cls = RX0 ∧ yX0_keeps.cls ≠ "java/lang/invoke/MethodHandle" ∧ yX0_keeps.cls ≠ "java/lang/invoke/VarHandle" ∧ (parseMethodDescriptor yX0_keeps.desc).map (fun d => d.parameters.length) = some 4 := by decide +kernel
theorem cd_X0_back : yX0_back.cls = RX0 ∧ yX0_back.cls ≠ "java/lang/invoke/MethodHandle" ∧ yX0_back.cls ≠ "java/lang/invoke/VarHandle" ∧ (parseMethodDescriptor yX0_back.desc).map (fun d => d.parameters.length) = some 1 := by decide +kernel
theorem cd_X0_at : yX0_at.cls = RX0 ∧ yX0_at.cls ≠ "java/lang/invoke/MethodHandle" ∧ yX0_at.cls ≠ "java/lang/invoke/VarHandle" ∧ (parseMethodDescriptor yX0_at.desc).map (fun d => d.parameters.length) = some 3 := by decide +kernel
theorem cd_X0_isBody : yX0_isBody.cls = RX0 ∧ yX0_isBody.cls ≠ "java/lang/invoke/MethodHandle" ∧ yX0_isBody.cls ≠ "java/lang/invoke/VarHandle" ∧ (parseMethodDescriptor yX0_isBody.desc).map (fun d => d.parameters.length) = some 2 := by decide +kernel
theorem cd_X0_isThree : yX0_isThree.cls = RX0 ∧ yX0_isThree.cls ≠ "java/lang/invoke/MethodHandle" ∧ yX0_isThree.cls ≠ "java/lang/invoke/VarHandle" ∧ (parseMethodDescriptor yX0_isThree.desc).map (fun d => d.parameters.length) = some 1 := by decide +kernel
theorem cd_X0_read : yX0_read.cls = RX0 ∧ yX0_read.cls ≠ "java/lang/invoke/MethodHandle" ∧ yX0_read.cls ≠ "java/lang/invoke/VarHandle" ∧ (parseMethodDescriptor yX0_read.desc).map (fun d => d.parameters.length) = some 2 := by decide +kernel
theorem cd_X0_isSheet : yX0_isSheet.cls = RX0 ∧ yX0_isSheet.cls ≠ "java/lang/invoke/MethodHandle" ∧ yX0_isSheet.cls ≠ "java/lang/invoke/VarHandle" ∧ (parseMethodDescriptor yX0_isSheet.desc).map (fun d => d.parameters.length) = some 1 := by decide +kernel
theorem cd_X0_refuses : yX0_refuses.cls = RX0 ∧ yX0_refuses.cls ≠ "java/lang/invoke/MethodHandle" ∧ yX0_refuses.cls ≠ "java/lang/invoke/VarHandle" ∧ (parseMethodDescriptor yX0_refuses.desc).map (fun d => d.parameters.length) = some 1 := by decide +kernel
theorem cd_X0_taken : yX0_taken.cls = RX0 ∧ yX0_taken.cls ≠ "java/lang/invoke/MethodHandle" ∧ yX0_taken.cls ≠ "java/lang/invoke/VarHandle" ∧ (parseMethodDescriptor yX0_taken.desc).map (fun d => d.parameters.length) = some 3 := by decide +kernel
theorem cd_X0_see : yX0_see.cls = RX0 ∧ yX0_see.cls ≠ "java/lang/invoke/MethodHandle" ∧ yX0_see.cls ≠ "java/lang/invoke/VarHandle" ∧ (parseMethodDescriptor yX0_see.desc).map (fun d => d.parameters.length) = some 6 := by decide +kernel
theorem cd_X0_isFour : yX0_isFour.cls = RX0 ∧ yX0_isFour.cls ≠ "java/lang/invoke/MethodHandle" ∧ yX0_isFour.cls ≠ "java/lang/invoke/VarHandle" ∧ (parseMethodDescriptor yX0_isFour.desc).map (fun d => d.parameters.length) = some 1 := by decide +kernel
theorem cd_X0_sees : yX0_sees.cls = RX0 ∧ yX0_sees.cls ≠ "java/lang/invoke/MethodHandle" ∧ yX0_sees.cls ≠ "java/lang/invoke/VarHandle" ∧ (parseMethodDescriptor yX0_sees.desc).map (fun d => d.parameters.length) = some 4 := by decide +kernel
theorem cd_X0_noises : yX0_noises.cls = RX0 ∧ yX0_noises.cls ≠ "java/lang/invoke/MethodHandle" ∧ yX0_noises.cls ≠ "java/lang/invoke/VarHandle" ∧ (parseMethodDescriptor yX0_noises.desc).map (fun d => d.parameters.length) = some 1 := by decide +kernel
theorem cd_X0_lot : yX0_lot.cls = RX0 ∧ yX0_lot.cls ≠ "java/lang/invoke/MethodHandle" ∧ yX0_lot.cls ≠ "java/lang/invoke/VarHandle" ∧ (parseMethodDescriptor yX0_lot.desc).map (fun d => d.parameters.length) = some 1 := by decide +kernel
theorem cd_X0_set : yX0_set.cls = RX0 ∧ yX0_set.cls ≠ "java/lang/invoke/MethodHandle" ∧ yX0_set.cls ≠ "java/lang/invoke/VarHandle" ∧ (parseMethodDescriptor yX0_set.desc).map (fun d => d.parameters.length) = some 2 := by decide +kernel
theorem cd_X0_isSetting : yX0_isSetting.cls = RX0 ∧ yX0_isSetting.cls ≠ "java/lang/invoke/MethodHandle" ∧ yX0_isSetting.cls ≠ "java/lang/invoke/VarHandle" ∧ (parseMethodDescriptor yX0_isSetting.desc).map (fun d => d.parameters.length) = some 2 := by decide +kernel
theorem cd_X0_side : yX0_side.cls = RX0 ∧ yX0_side.cls ≠ "java/lang/invoke/MethodHandle" ∧ yX0_side.cls ≠ "java/lang/invoke/VarHandle" ∧ (parseMethodDescriptor yX0_side.desc).map (fun d => d.parameters.length) = some 3 := by decide +kernel
theorem cd_X0_key : yX0_key.cls = RX0 ∧ yX0_key.cls ≠ "java/lang/invoke/MethodHandle" ∧ yX0_key.cls ≠ "java/lang/invoke/VarHandle" ∧ (parseMethodDescriptor yX0_key.desc).map (fun d => d.parameters.length) = some 5 := by decide +kernel
theorem cd_X0_keyOf : yX0_keyOf.cls = RX0 ∧ yX0_keyOf.cls ≠ "java/lang/invoke/MethodHandle" ∧ yX0_keyOf.cls ≠ "java/lang/invoke/VarHandle" ∧ (parseMethodDescriptor yX0_keyOf.desc).map (fun d => d.parameters.length) = some 5 := by decide +kernel
theorem cd_X0_findsKey : yX0_findsKey.cls = RX0 ∧ yX0_findsKey.cls ≠ "java/lang/invoke/MethodHandle" ∧ yX0_findsKey.cls ≠ "java/lang/invoke/VarHandle" ∧ (parseMethodDescriptor yX0_findsKey.desc).map (fun d => d.parameters.length) = some 5 := by decide +kernel
theorem cd_X0_looks : yX0_looks.cls = RX0 ∧ yX0_looks.cls ≠ "java/lang/invoke/MethodHandle" ∧ yX0_looks.cls ≠ "java/lang/invoke/VarHandle" ∧ (parseMethodDescriptor yX0_looks.desc).map (fun d => d.parameters.length) = some 1 := by decide +kernel
theorem cd_X0_looksOf : yX0_looksOf.cls = RX0 ∧ yX0_looksOf.cls ≠ "java/lang/invoke/MethodHandle" ∧ yX0_looksOf.cls ≠ "java/lang/invoke/VarHandle" ∧ (parseMethodDescriptor yX0_looksOf.desc).map (fun d => d.parameters.length) = some 1 := by decide +kernel
theorem cd_X0_solves : yX0_solves.cls = RX0 ∧ yX0_solves.cls ≠ "java/lang/invoke/MethodHandle" ∧ yX0_solves.cls ≠ "java/lang/invoke/VarHandle" ∧ (parseMethodDescriptor yX0_solves.desc).map (fun d => d.parameters.length) = some 0 := by decide +kernel
theorem cd_X0_solvesBy : yX0_solvesBy.cls = RX0 ∧ yX0_solvesBy.cls ≠ "java/lang/invoke/MethodHandle" ∧ yX0_solvesBy.cls ≠ "java/lang/invoke/VarHandle" ∧ (parseMethodDescriptor yX0_solvesBy.desc).map (fun d => d.parameters.length) = some 1 := by decide +kernel
theorem cd_X0_votesBy : yX0_votesBy.cls = RX0 ∧ yX0_votesBy.cls ≠ "java/lang/invoke/MethodHandle" ∧ yX0_votesBy.cls ≠ "java/lang/invoke/VarHandle" ∧ (parseMethodDescriptor yX0_votesBy.desc).map (fun d => d.parameters.length) = some 1 := by decide +kernel
theorem cd_X0_lambda_votesBy_2 : yX0_lambda_votesBy_2.cls = RX0 ∧ yX0_lambda_votesBy_2.cls ≠ "java/lang/invoke/MethodHandle" ∧ yX0_lambda_votesBy_2.cls ≠ "java/lang/invoke/VarHandle" ∧ (parseMethodDescriptor yX0_lambda_votesBy_2.desc).map (fun d => d.parameters.length) = some 3 := by decide +kernel
theorem cd_X0_holdsAgainst : yX0_holdsAgainst.cls = RX0 ∧ yX0_holdsAgainst.cls ≠ "java/lang/invoke/MethodHandle" ∧ yX0_holdsAgainst.cls ≠ "java/lang/invoke/VarHandle" ∧ (parseMethodDescriptor yX0_holdsAgainst.desc).map (fun d => d.parameters.length) = some 1 := by decide +kernel
theorem cd_X0_areAll : yX0_areAll.cls = RX0 ∧ yX0_areAll.cls ≠ "java/lang/invoke/MethodHandle" ∧ yX0_areAll.cls ≠ "java/lang/invoke/VarHandle" ∧ (parseMethodDescriptor yX0_areAll.desc).map (fun d => d.parameters.length) = some 3 := by decide +kernel
theorem cd_X0_looksAt : yX0_looksAt.cls = RX0 ∧ yX0_looksAt.cls ≠ "java/lang/invoke/MethodHandle" ∧ yX0_looksAt.cls ≠ "java/lang/invoke/VarHandle" ∧ (parseMethodDescriptor yX0_looksAt.desc).map (fun d => d.parameters.length) = some 4 := by decide +kernel
theorem cd_X0_tries : yX0_tries.cls = RX0 ∧ yX0_tries.cls ≠ "java/lang/invoke/MethodHandle" ∧ yX0_tries.cls ≠ "java/lang/invoke/VarHandle" ∧ (parseMethodDescriptor yX0_tries.desc).map (fun d => d.parameters.length) = some 5 := by decide +kernel
theorem cd_X0_takes : yX0_takes.cls = RX0 ∧ yX0_takes.cls ≠ "java/lang/invoke/MethodHandle" ∧ yX0_takes.cls ≠ "java/lang/invoke/VarHandle" ∧ (parseMethodDescriptor yX0_takes.desc).map (fun d => d.parameters.length) = some 0 := by decide +kernel
theorem cd_X0_takesOne : yX0_takesOne.cls = RX0 ∧ yX0_takesOne.cls ≠ "java/lang/invoke/MethodHandle" ∧ yX0_takesOne.cls ≠ "java/lang/invoke/VarHandle" ∧ (parseMethodDescriptor yX0_takesOne.desc).map (fun d => d.parameters.length) = some 0 := by decide +kernel
theorem cd_X0_isFree : yX0_isFree.cls = RX0 ∧ yX0_isFree.cls ≠ "java/lang/invoke/MethodHandle" ∧ yX0_isFree.cls ≠ "java/lang/invoke/VarHandle" ∧ (parseMethodDescriptor yX0_isFree.desc).map (fun d => d.parameters.length) = some 1 := by decide +kernel
theorem cd_X0_findsTurn : yX0_findsTurn.cls = RX0 ∧ yX0_findsTurn.cls ≠ "java/lang/invoke/MethodHandle" ∧ yX0_findsTurn.cls ≠ "java/lang/invoke/VarHandle" ∧ (parseMethodDescriptor yX0_findsTurn.desc).map (fun d => d.parameters.length) = some 0 := by decide +kernel
theorem cd_X0_arms : yX0_arms.cls = RX0 ∧ yX0_arms.cls ≠ "java/lang/invoke/MethodHandle" ∧ yX0_arms.cls ≠ "java/lang/invoke/VarHandle" ∧ (parseMethodDescriptor yX0_arms.desc).map (fun d => d.parameters.length) = some 3 := by decide +kernel
theorem cd_X0_lays : yX0_lays.cls = RX0 ∧ yX0_lays.cls ≠ "java/lang/invoke/MethodHandle" ∧ yX0_lays.cls ≠ "java/lang/invoke/VarHandle" ∧ (parseMethodDescriptor yX0_lays.desc).map (fun d => d.parameters.length) = some 2 := by decide +kernel
theorem cd_X0_crosses : yX0_crosses.cls = RX0 ∧ yX0_crosses.cls ≠ "java/lang/invoke/MethodHandle" ∧ yX0_crosses.cls ≠ "java/lang/invoke/VarHandle" ∧ (parseMethodDescriptor yX0_crosses.desc).map (fun d => d.parameters.length) = some 3 := by decide +kernel
theorem cd_X0_findsPlace : yX0_findsPlace.cls = RX0 ∧ yX0_findsPlace.cls ≠ "java/lang/invoke/MethodHandle" ∧ yX0_findsPlace.cls ≠ "java/lang/invoke/VarHandle" ∧ (parseMethodDescriptor yX0_findsPlace.desc).map (fun d => d.parameters.length) = some 1 := by decide +kernel
theorem cd_X0_rounded : yX0_rounded.cls = RX0 ∧ yX0_rounded.cls ≠ "java/lang/invoke/MethodHandle" ∧ yX0_rounded.cls ≠ "java/lang/invoke/VarHandle" ∧ (parseMethodDescriptor yX0_rounded.desc).map (fun d => d.parameters.length) = some 2 := by decide +kernel
theorem cd_X0_confirms : yX0_confirms.cls = RX0 ∧ yX0_confirms.cls ≠ "java/lang/invoke/MethodHandle" ∧ yX0_confirms.cls ≠ "java/lang/invoke/VarHandle" ∧ (parseMethodDescriptor yX0_confirms.desc).map (fun d => d.parameters.length) = some 2 := by decide +kernel
theorem cd_X0_farOf : yX0_farOf.cls = RX0 ∧ yX0_farOf.cls ≠ "java/lang/invoke/MethodHandle" ∧ yX0_farOf.cls ≠ "java/lang/invoke/VarHandle" ∧ (parseMethodDescriptor yX0_farOf.desc).map (fun d => d.parameters.length) = some 2 := by decide +kernel
theorem cd_X0_threes : yX0_threes.cls = RX0 ∧ yX0_threes.cls ≠ "java/lang/invoke/MethodHandle" ∧ yX0_threes.cls ≠ "java/lang/invoke/VarHandle" ∧ (parseMethodDescriptor yX0_threes.desc).map (fun d => d.parameters.length) = some 1 := by decide +kernel
theorem cd_X0_votes : yX0_votes.cls = RX0 ∧ yX0_votes.cls ≠ "java/lang/invoke/MethodHandle" ∧ yX0_votes.cls ≠ "java/lang/invoke/VarHandle" ∧ (parseMethodDescriptor yX0_votes.desc).map (fun d => d.parameters.length) = some 2 := by decide +kernel
theorem cd_X0_votesOf : yX0_votesOf.cls = RX0 ∧ yX0_votesOf.cls ≠ "java/lang/invoke/MethodHandle" ∧ yX0_votesOf.cls ≠ "java/lang/invoke/VarHandle" ∧ (parseMethodDescriptor yX0_votesOf.desc).map (fun d => d.parameters.length) = some 2 := by decide +kernel
theorem cd_X0_taken_2 : yX0_taken_2.cls = RX0 ∧ yX0_taken_2.cls ≠ "java/lang/invoke/MethodHandle" ∧ yX0_taken_2.cls ≠ "java/lang/invoke/VarHandle" ∧ (parseMethodDescriptor yX0_taken_2.desc).map (fun d => d.parameters.length) = some 2 := by decide +kernel
theorem cd_X0_takenOf : yX0_takenOf.cls = RX0 ∧ yX0_takenOf.cls ≠ "java/lang/invoke/MethodHandle" ∧ yX0_takenOf.cls ≠ "java/lang/invoke/VarHandle" ∧ (parseMethodDescriptor yX0_takenOf.desc).map (fun d => d.parameters.length) = some 2 := by decide +kernel
theorem cd_X0_turn : yX0_turn.cls = RX0 ∧ yX0_turn.cls ≠ "java/lang/invoke/MethodHandle" ∧ yX0_turn.cls ≠ "java/lang/invoke/VarHandle" ∧ (parseMethodDescriptor yX0_turn.desc).map (fun d => d.parameters.length) = some 0 := by decide +kernel
theorem cd_X0_isTurned : yX0_isTurned.cls = RX0 ∧ yX0_isTurned.cls ≠ "java/lang/invoke/MethodHandle" ∧ yX0_isTurned.cls ≠ "java/lang/invoke/VarHandle" ∧ (parseMethodDescriptor yX0_isTurned.desc).map (fun d => d.parameters.length) = some 0 := by decide +kernel
theorem cd_X0_place : yX0_place.cls = RX0 ∧ yX0_place.cls ≠ "java/lang/invoke/MethodHandle" ∧ yX0_place.cls ≠ "java/lang/invoke/VarHandle" ∧ (parseMethodDescriptor yX0_place.desc).map (fun d => d.parameters.length) = some 2 := by decide +kernel
theorem cd_X0_confirmed : yX0_confirmed.cls = RX0 ∧ yX0_confirmed.cls ≠ "java/lang/invoke/MethodHandle" ∧ yX0_confirmed.cls ≠ "java/lang/invoke/VarHandle" ∧ (parseMethodDescriptor yX0_confirmed.desc).map (fun d => d.parameters.length) = some 2 := by decide +kernel
theorem cd_X0_confirmedOf : yX0_confirmedOf.cls = RX0 ∧ yX0_confirmedOf.cls ≠ "java/lang/invoke/MethodHandle" ∧ yX0_confirmedOf.cls ≠ "java/lang/invoke/VarHandle" ∧ (parseMethodDescriptor yX0_confirmedOf.desc).map (fun d => d.parameters.length) = some 2 := by decide +kernel
theorem cd_X0_wrong : yX0_wrong.cls = RX0 ∧ yX0_wrong.cls ≠ "java/lang/invoke/MethodHandle" ∧ yX0_wrong.cls ≠ "java/lang/invoke/VarHandle" ∧ (parseMethodDescriptor yX0_wrong.desc).map (fun d => d.parameters.length) = some 0 := by decide +kernel
theorem cd_X0_wrongOf : yX0_wrongOf.cls = RX0 ∧ yX0_wrongOf.cls ≠ "java/lang/invoke/MethodHandle" ∧ yX0_wrongOf.cls ≠ "java/lang/invoke/VarHandle" ∧ (parseMethodDescriptor yX0_wrongOf.desc).map (fun d => d.parameters.length) = some 0 := by decide +kernel
theorem cd_X0_better : yX0_better.cls = RX0 ∧ yX0_better.cls ≠ "java/lang/invoke/MethodHandle" ∧ yX0_better.cls ≠ "java/lang/invoke/VarHandle" ∧ (parseMethodDescriptor yX0_better.desc).map (fun d => d.parameters.length) = some 1 := by decide +kernel
theorem cd_X0_betterOf : yX0_betterOf.cls = RX0 ∧ yX0_betterOf.cls ≠ "java/lang/invoke/MethodHandle" ∧ yX0_betterOf.cls ≠ "java/lang/invoke/VarHandle" ∧ (parseMethodDescriptor yX0_betterOf.desc).map (fun d => d.parameters.length) = some 1 := by decide +kernel
theorem cd_X0_confirmedNow : yX0_confirmedNow.cls = RX0 ∧ yX0_confirmedNow.cls ≠ "java/lang/invoke/MethodHandle" ∧ yX0_confirmedNow.cls ≠ "java/lang/invoke/VarHandle" ∧ (parseMethodDescriptor yX0_confirmedNow.desc).map (fun d => d.parameters.length) = some 0 := by decide +kernel
theorem cd_X0_spare : yX0_spare.cls = RX0 ∧ yX0_spare.cls ≠ "java/lang/invoke/MethodHandle" ∧ yX0_spare.cls ≠ "java/lang/invoke/VarHandle" ∧ (parseMethodDescriptor yX0_spare.desc).map (fun d => d.parameters.length) = some 1 := by decide +kernel
theorem cd_X0_spareOf : yX0_spareOf.cls = RX0 ∧ yX0_spareOf.cls ≠ "java/lang/invoke/MethodHandle" ∧ yX0_spareOf.cls ≠ "java/lang/invoke/VarHandle" ∧ (parseMethodDescriptor yX0_spareOf.desc).map (fun d => d.parameters.length) = some 1 := by decide +kernel
theorem cd_X0_put : yX0_put.cls = RX0 ∧ yX0_put.cls ≠ "java/lang/invoke/MethodHandle" ∧ yX0_put.cls ≠ "java/lang/invoke/VarHandle" ∧ (parseMethodDescriptor yX0_put.desc).map (fun d => d.parameters.length) = some 3 := by decide +kernel
theorem cd_X0_isTray : yX0_isTray.cls = RX0 ∧ yX0_isTray.cls ≠ "java/lang/invoke/MethodHandle" ∧ yX0_isTray.cls ≠ "java/lang/invoke/VarHandle" ∧ (parseMethodDescriptor yX0_isTray.desc).map (fun d => d.parameters.length) = some 1 := by decide +kernel
theorem cd_X0_puts : yX0_puts.cls = RX0 ∧ yX0_puts.cls ≠ "java/lang/invoke/MethodHandle" ∧ yX0_puts.cls ≠ "java/lang/invoke/VarHandle" ∧ (parseMethodDescriptor yX0_puts.desc).map (fun d => d.parameters.length) = some 2 := by decide +kernel
theorem cd_X0_fork : yX0_fork.cls = RX0 ∧ yX0_fork.cls ≠ "java/lang/invoke/MethodHandle" ∧ yX0_fork.cls ≠ "java/lang/invoke/VarHandle" ∧ (parseMethodDescriptor yX0_fork.desc).map (fun d => d.parameters.length) = some 2 := by decide +kernel
theorem cd_X0_take : yX0_take.cls = RX0 ∧ yX0_take.cls ≠ "java/lang/invoke/MethodHandle" ∧ yX0_take.cls ≠ "java/lang/invoke/VarHandle" ∧ (parseMethodDescriptor yX0_take.desc).map (fun d => d.parameters.length) = some 1 := by decide +kernel
theorem cd_X0_thing : yX0_thing.cls = RX0 ∧ yX0_thing.cls ≠ "java/lang/invoke/MethodHandle" ∧ yX0_thing.cls ≠ "java/lang/invoke/VarHandle" ∧ (parseMethodDescriptor yX0_thing.desc).map (fun d => d.parameters.length) = some 3 := by decide +kernel
theorem cd_X0_isLaid : yX0_isLaid.cls = RX0 ∧ yX0_isLaid.cls ≠ "java/lang/invoke/MethodHandle" ∧ yX0_isLaid.cls ≠ "java/lang/invoke/VarHandle" ∧ (parseMethodDescriptor yX0_isLaid.desc).map (fun d => d.parameters.length) = some 2 := by decide +kernel
theorem cd_X0_thingOf : yX0_thingOf.cls = RX0 ∧ yX0_thingOf.cls ≠ "java/lang/invoke/MethodHandle" ∧ yX0_thingOf.cls ≠ "java/lang/invoke/VarHandle" ∧ (parseMethodDescriptor yX0_thingOf.desc).map (fun d => d.parameters.length) = some 2 := by decide +kernel
theorem cd_X0_share : yX0_share.cls = RX0 ∧ yX0_share.cls ≠ "java/lang/invoke/MethodHandle" ∧ yX0_share.cls ≠ "java/lang/invoke/VarHandle" ∧ (parseMethodDescriptor yX0_share.desc).map (fun d => d.parameters.length) = some 3 := by decide +kernel
theorem cd_X0_shareOf : yX0_shareOf.cls = RX0 ∧ yX0_shareOf.cls ≠ "java/lang/invoke/MethodHandle" ∧ yX0_shareOf.cls ≠ "java/lang/invoke/VarHandle" ∧ (parseMethodDescriptor yX0_shareOf.desc).map (fun d => d.parameters.length) = some 2 := by decide +kernel
theorem cd_X0_aroundX : yX0_aroundX.cls = RX0 ∧ yX0_aroundX.cls ≠ "java/lang/invoke/MethodHandle" ∧ yX0_aroundX.cls ≠ "java/lang/invoke/VarHandle" ∧ (parseMethodDescriptor yX0_aroundX.desc).map (fun d => d.parameters.length) = some 1 := by decide +kernel
theorem cd_X0_aroundY : yX0_aroundY.cls = RX0 ∧ yX0_aroundY.cls ≠ "java/lang/invoke/MethodHandle" ∧ yX0_aroundY.cls ≠ "java/lang/invoke/VarHandle" ∧ (parseMethodDescriptor yX0_aroundY.desc).map (fun d => d.parameters.length) = some 1 := by decide +kernel
theorem cd_X0_aroundZ : yX0_aroundZ.cls = RX0 ∧ yX0_aroundZ.cls ≠ "java/lang/invoke/MethodHandle" ∧ yX0_aroundZ.cls ≠ "java/lang/invoke/VarHandle" ∧ (parseMethodDescriptor yX0_aroundZ.desc).map (fun d => d.parameters.length) = some 1 := by decide +kernel
theorem cd_X0_lambda_new_0 : yX0_lambda_new_0.cls = RX0 ∧ yX0_lambda_new_0.cls ≠ "java/lang/invoke/MethodHandle" ∧ yX0_lambda_new_0.cls ≠ "java/lang/invoke/VarHandle" ∧ (parseMethodDescriptor yX0_lambda_new_0.desc).map (fun d => d.parameters.length) = some 2 := by decide +kernel
theorem cd_X0_lambda_new_1 : yX0_lambda_new_1.cls = RX0 ∧ yX0_lambda_new_1.cls ≠ "java/lang/invoke/MethodHandle" ∧ yX0_lambda_new_1.cls ≠ "java/lang/invoke/VarHandle" ∧ (parseMethodDescriptor yX0_lambda_new_1.desc).map (fun d => d.parameters.length) = some 2 := by decide +kernel
theorem cd_X0_sheet : yX0_sheet.cls = RX0 ∧ yX0_sheet.cls ≠ "java/lang/invoke/MethodHandle" ∧ yX0_sheet.cls ≠ "java/lang/invoke/VarHandle" ∧ (parseMethodDescriptor yX0_sheet.desc).map (fun d => d.parameters.length) = some 3 := by decide +kernel
theorem cd_X0_rowOf : yX0_rowOf.cls = RX0 ∧ yX0_rowOf.cls ≠ "java/lang/invoke/MethodHandle" ∧ yX0_rowOf.cls ≠ "java/lang/invoke/VarHandle" ∧ (parseMethodDescriptor yX0_rowOf.desc).map (fun d => d.parameters.length) = some 2 := by decide +kernel
theorem cd_X0_lose : yX0_lose.cls = RX0 ∧ yX0_lose.cls ≠ "java/lang/invoke/MethodHandle" ∧ yX0_lose.cls ≠ "java/lang/invoke/VarHandle" ∧ (parseMethodDescriptor yX0_lose.desc).map (fun d => d.parameters.length) = some 1 := by decide +kernel
theorem cd_X0_lay : yX0_lay.cls = RX0 ∧ yX0_lay.cls ≠ "java/lang/invoke/MethodHandle" ∧ yX0_lay.cls ≠ "java/lang/invoke/VarHandle" ∧ (parseMethodDescriptor yX0_lay.desc).map (fun d => d.parameters.length) = some 4 := by decide +kernel
theorem cd_X0_laid : yX0_laid.cls = RX0 ∧ yX0_laid.cls ≠ "java/lang/invoke/MethodHandle" ∧ yX0_laid.cls ≠ "java/lang/invoke/VarHandle" ∧ (parseMethodDescriptor yX0_laid.desc).map (fun d => d.parameters.length) = some 4 := by decide +kernel
theorem cd_X0_get : yX0_get.cls = RX0 ∧ yX0_get.cls ≠ "java/lang/invoke/MethodHandle" ∧ yX0_get.cls ≠ "java/lang/invoke/VarHandle" ∧ (parseMethodDescriptor yX0_get.desc).map (fun d => d.parameters.length) = some 3 := by decide +kernel
theorem cd_X0_copy : yX0_copy.cls = RX0 ∧ yX0_copy.cls ≠ "java/lang/invoke/MethodHandle" ∧ yX0_copy.cls ≠ "java/lang/invoke/VarHandle" ∧ (parseMethodDescriptor yX0_copy.desc).map (fun d => d.parameters.length) = some 5 := by decide +kernel
theorem cd_X0_write : yX0_write.cls = RX0 ∧ yX0_write.cls ≠ "java/lang/invoke/MethodHandle" ∧ yX0_write.cls ≠ "java/lang/invoke/VarHandle" ∧ (parseMethodDescriptor yX0_write.desc).map (fun d => d.parameters.length) = some 1 := by decide +kernel
theorem cd_X0_count : yX0_count.cls = RX0 ∧ yX0_count.cls ≠ "java/lang/invoke/MethodHandle" ∧ yX0_count.cls ≠ "java/lang/invoke/VarHandle" ∧ (parseMethodDescriptor yX0_count.desc).map (fun d => d.parameters.length) = some 1 := by decide +kernel
theorem cd_X0_pairsOf : yX0_pairsOf.cls = RX0 ∧ yX0_pairsOf.cls ≠ "java/lang/invoke/MethodHandle" ∧ yX0_pairsOf.cls ≠ "java/lang/invoke/VarHandle" ∧ (parseMethodDescriptor yX0_pairsOf.desc).map (fun d => d.parameters.length) = some 0 := by decide +kernel
theorem cd_X0_allConfirmed : yX0_allConfirmed.cls = RX0 ∧ yX0_allConfirmed.cls ≠ "java/lang/invoke/MethodHandle" ∧ yX0_allConfirmed.cls ≠ "java/lang/invoke/VarHandle" ∧ (parseMethodDescriptor yX0_allConfirmed.desc).map (fun d => d.parameters.length) = some 0 := by decide +kernel
theorem cd_X0_allVotes : yX0_allVotes.cls = RX0 ∧ yX0_allVotes.cls ≠ "java/lang/invoke/MethodHandle" ∧ yX0_allVotes.cls ≠ "java/lang/invoke/VarHandle" ∧ (parseMethodDescriptor yX0_allVotes.desc).map (fun d => d.parameters.length) = some 0 := by decide +kernel
theorem cd_X0_allLaid : yX0_allLaid.cls = RX0 ∧ yX0_allLaid.cls ≠ "java/lang/invoke/MethodHandle" ∧ yX0_allLaid.cls ≠ "java/lang/invoke/VarHandle" ∧ (parseMethodDescriptor yX0_allLaid.desc).map (fun d => d.parameters.length) = some 0 := by decide +kernel
theorem cd_X0_ones : yX0_ones.cls = RX0 ∧ yX0_ones.cls ≠ "java/lang/invoke/MethodHandle" ∧ yX0_ones.cls ≠ "java/lang/invoke/VarHandle" ∧ (parseMethodDescriptor yX0_ones.desc).map (fun d => d.parameters.length) = some 1 := by decide +kernel
theorem cd_X0_digest : yX0_digest.cls = RX0 ∧ yX0_digest.cls ≠ "java/lang/invoke/MethodHandle" ∧ yX0_digest.cls ≠ "java/lang/invoke/VarHandle" ∧ (parseMethodDescriptor yX0_digest.desc).map (fun d => d.parameters.length) = some 0 := by decide +kernel
theorem cd_X0_spotDigest : yX0_spotDigest.cls = RX0 ∧ yX0_spotDigest.cls ≠ "java/lang/invoke/MethodHandle" ∧ yX0_spotDigest.cls ≠ "java/lang/invoke/VarHandle" ∧ (parseMethodDescriptor yX0_spotDigest.desc).map (fun d => d.parameters.length) = some 2 := by decide +kernel
theorem cd_X0_starDigest : yX0_starDigest.cls = RX0 ∧ yX0_starDigest.cls ≠ "java/lang/invoke/MethodHandle" ∧ yX0_starDigest.cls ≠ "java/lang/invoke/VarHandle" ∧ (parseMethodDescriptor yX0_starDigest.desc).map (fun d => d.parameters.length) = some 2 := by decide +kernel
theorem cd_X2_size : yX2_size.cls = RX2 ∧ yX2_size.cls ≠ "java/lang/invoke/MethodHandle" ∧ yX2_size.cls ≠ "java/lang/invoke/VarHandle" ∧ (parseMethodDescriptor yX2_size.desc).map (fun d => d.parameters.length) = some 0 := by decide +kernel
theorem cd_X2_item : yX2_item.cls = RX2 ∧ yX2_item.cls ≠ "java/lang/invoke/MethodHandle" ∧ yX2_item.cls ≠ "java/lang/invoke/VarHandle" ∧ (parseMethodDescriptor yX2_item.desc).map (fun d => d.parameters.length) = some 1 := by decide +kernel
theorem cd_X4_along : yX4_along.cls = RX4 ∧ yX4_along.cls ≠ "java/lang/invoke/MethodHandle" ∧ yX4_along.cls ≠ "java/lang/invoke/VarHandle" ∧ (parseMethodDescriptor yX4_along.desc).map (fun d => d.parameters.length) = some 1 := by decide +kernel
theorem cd_X4_side : yX4_side.cls = RX4 ∧ yX4_side.cls ≠ "java/lang/invoke/MethodHandle" ∧ yX4_side.cls ≠ "java/lang/invoke/VarHandle" ∧ (parseMethodDescriptor yX4_side.desc).map (fun d => d.parameters.length) = some 1 := by decide +kernel
theorem cd_X4_dot : yX4_dot.cls = RX4 ∧ yX4_dot.cls ≠ "java/lang/invoke/MethodHandle" ∧ yX4_dot.cls ≠ "java/lang/invoke/VarHandle" ∧ (parseMethodDescriptor yX4_dot.desc).map (fun d => d.parameters.length) = some 1 := by decide +kernel
theorem cd_X5_kind : yX5_kind.cls = RX5 ∧ yX5_kind.cls ≠ "java/lang/invoke/MethodHandle" ∧ yX5_kind.cls ≠ "java/lang/invoke/VarHandle" ∧ (parseMethodDescriptor yX5_kind.desc).map (fun d => d.parameters.length) = some 0 := by decide +kernel
theorem cd_X6_kind : yX6_kind.cls = RX6 ∧ yX6_kind.cls ≠ "java/lang/invoke/MethodHandle" ∧ yX6_kind.cls ≠ "java/lang/invoke/VarHandle" ∧ (parseMethodDescriptor yX6_kind.desc).map (fun d => d.parameters.length) = some 0 := by decide +kernel
theorem cd_J0_min : yJ0_min.cls = RJ0 ∧ yJ0_min.cls ≠ "java/lang/invoke/MethodHandle" ∧ yJ0_min.cls ≠ "java/lang/invoke/VarHandle" ∧ (parseMethodDescriptor yJ0_min.desc).map (fun d => d.parameters.length) = some 2 := by decide +kernel
theorem cd_J0_max : yJ0_max.cls = RJ0 ∧ yJ0_max.cls ≠ "java/lang/invoke/MethodHandle" ∧ yJ0_max.cls ≠ "java/lang/invoke/VarHandle" ∧ (parseMethodDescriptor yJ0_max.desc).map (fun d => d.parameters.length) = some 2 := by decide +kernel
theorem cd_J0_abs : yJ0_abs.cls = RJ0 ∧ yJ0_abs.cls ≠ "java/lang/invoke/MethodHandle" ∧ yJ0_abs.cls ≠ "java/lang/invoke/VarHandle" ∧ (parseMethodDescriptor yJ0_abs.desc).map (fun d => d.parameters.length) = some 1 := by decide +kernel
theorem cd_J0_floorDiv : yJ0_floorDiv.cls = RJ0 ∧ yJ0_floorDiv.cls ≠ "java/lang/invoke/MethodHandle" ∧ yJ0_floorDiv.cls ≠ "java/lang/invoke/VarHandle" ∧ (parseMethodDescriptor yJ0_floorDiv.desc).map (fun d => d.parameters.length) = some 2 := by decide +kernel
set_option maxHeartbeats 4000000 in
theorem mx_in (l : Launch) (v : Int32) (lo : Int32) (hi : Int32) : Met l yX0_in (ws_ yX0_in cX0_in 3 (some .boolean)) (rm_ 0 0 0 0) (va_Pc [.int v, .int lo, .int hi] (fun _ => True)) (vp_Si (fun rv => rv = b2i (lo.toInt ≤ v.toInt ∧ v.toInt ≤ hi.toInt))) 0 0 (fun _ => False) := by
  refine mkx_W (by decide) (Nat.le_of_ble_eq_true rfl) ?_
  intro p e s m below meth c ls hx hb hml hr hlk hts hown hnm hv hl
  have hl : lv_has ls 3 [(0, .int v), (1, .int lo), (2, .int hi)] := hl
  refine lv_iload_n hx hb dX0_in_0 rfl (lv_at hl 0 rfl) ?_
  refine lv_iload_n hx hb dX0_in_1 rfl (lv_at hl 1 rfl) ?_
  refine lv_icmp_lt (tgt := 14) hx hb dX0_in_2 (by decide) (fun c_1 => ?_) (fun c_1 => ?_)
  · refine lv_iconst (v := 0) hx hb dX0_in_14 (by decide) ?_
    exact W.zret (v := 0) hx hb hr rfl (fun tt ht _ => ⟨_, rfl, (by rw [Int32.lt_iff_toInt_lt] at c_1; exact (b2i_f (fun h => by omega)).symm), ht⟩) (fun _ h => by cases h) dX0_in_15 hlk
  · refine lv_iload_n hx hb dX0_in_5 rfl (lv_at hl 0 rfl) ?_
    refine lv_iload_n hx hb dX0_in_6 rfl (lv_at hl 2 rfl) ?_
    refine lv_icmp_gt (tgt := 14) hx hb dX0_in_7 (by decide) (fun c_2 => ?_) (fun c_2 => ?_)
    · refine lv_iconst (v := 0) hx hb dX0_in_14 (by decide) ?_
      exact W.zret (v := 0) hx hb hr rfl (fun tt ht _ => ⟨_, rfl, (by rw [Int32.lt_iff_toInt_lt] at c_1; rw [Int32.lt_iff_toInt_lt] at c_2; exact (b2i_f (fun h => by omega)).symm), ht⟩) (fun _ h => by cases h) dX0_in_15 hlk
    · refine lv_iconst (v := 1) hx hb dX0_in_10 (by decide) ?_
      refine lv_goto (tgt := 15) hx hb dX0_in_11 (by decide) ?_
      exact W.zret (v := 1) hx hb hr rfl (fun tt ht _ => ⟨_, rfl, (by rw [Int32.lt_iff_toInt_lt] at c_1; rw [Int32.lt_iff_toInt_lt] at c_2; exact (b2i_t ⟨by omega, by omega⟩).symm), ht⟩) (fun _ h => by cases h) dX0_in_15 hlk

set_option maxHeartbeats 4000000 in
theorem mx_isTwo (l : Launch) (v : Int32) : Met l yX0_isTwo (ws_ yX0_isTwo cX0_isTwo 1 (some .boolean)) (rm_ 0 1 0 0) (va_Pc [.int v] (fun _ => True)) (vp_Si (fun rv => rv = b2i (rng v 0 1))) 0 0 (fun _ => False) := by
  refine mkx_W (by decide) (Nat.le_of_ble_eq_true rfl) ?_
  intro p e s m below meth c ls hx hb hml hr hlk hts hown hnm hv hl
  have hl : lv_has ls 1 [(0, .int v)] := hl
  refine lv_iload_n hx hb dX0_isTwo_0 rfl (lv_at hl 0 rfl) ?_
  refine lv_iconst (v := 0) hx hb dX0_isTwo_1 (by decide) ?_
  refine lv_iconst (v := 1) hx hb dX0_isTwo_2 (by decide) ?_
  refine vp_callSi (W.runS (As := [.int v, .int 0, .int 1]) (rest := []) ⟨hx, hb, hml, hown, hts⟩ (mx_in l v (0 : Int32) (1 : Int32)) (va_cwS 3 hts (lw_S q108 q109 q80 q110) rfl rfl rfl cd_X0_in.2 ⟨Nat.le_of_ble_eq_true rfl, Nat.le_of_ble_eq_true rfl⟩) ⟨pT_fb, fun U hU hW => ⟨rfl, trivial⟩⟩ rfl rfl hl.1 rfl (lv_room (Nat.le_of_ble_eq_true rfl)) dX0_isTwo_3 ⟨Nat.le_of_ble_eq_true rfl, Nat.le_of_ble_eq_true rfl⟩) (fun r hr => ?_)
  subst hr
  refine r_top (y := b2i (rng v 0 1)) (b2i_c (by simp [rng])) ?_
  exact W.zret (v := b2i (rng v 0 1)) hx hb hr b2i_nz (fun tt ht _ => ⟨_, rfl, (b2i_c (by simp [rng])), ht⟩) (fun _ h => by cases h) dX0_isTwo_6 hlk

set_option maxHeartbeats 4000000 in
theorem mx_isThree (l : Launch) (v : Int32) : Met l yX0_isThree (ws_ yX0_isThree cX0_isThree 1 (some .boolean)) (rm_ 0 1 0 0) (va_Pc [.int v] (fun _ => True)) (vp_Si (fun rv => rv = b2i (rng v 0 2))) 0 0 (fun _ => False) := by
  refine mkx_W (by decide) (Nat.le_of_ble_eq_true rfl) ?_
  intro p e s m below meth c ls hx hb hml hr hlk hts hown hnm hv hl
  have hl : lv_has ls 1 [(0, .int v)] := hl
  refine lv_iload_n hx hb dX0_isThree_0 rfl (lv_at hl 0 rfl) ?_
  refine lv_iconst (v := 0) hx hb dX0_isThree_1 (by decide) ?_
  refine lv_iconst (v := 2) hx hb dX0_isThree_2 (by decide) ?_
  refine vp_callSi (W.runS (As := [.int v, .int 0, .int 2]) (rest := []) ⟨hx, hb, hml, hown, hts⟩ (mx_in l v (0 : Int32) (2 : Int32)) (va_cwS 3 hts (lw_S q108 q109 q80 q110) rfl rfl rfl cd_X0_in.2 ⟨Nat.le_of_ble_eq_true rfl, Nat.le_of_ble_eq_true rfl⟩) ⟨pT_fb, fun U hU hW => ⟨rfl, trivial⟩⟩ rfl rfl hl.1 rfl (lv_room (Nat.le_of_ble_eq_true rfl)) dX0_isThree_3 ⟨Nat.le_of_ble_eq_true rfl, Nat.le_of_ble_eq_true rfl⟩) (fun r hr => ?_)
  subst hr
  refine r_top (y := b2i (rng v 0 2)) (b2i_c (by simp [rng])) ?_
  exact W.zret (v := b2i (rng v 0 2)) hx hb hr b2i_nz (fun tt ht _ => ⟨_, rfl, (b2i_c (by simp [rng])), ht⟩) (fun _ h => by cases h) dX0_isThree_6 hlk

set_option maxHeartbeats 4000000 in
theorem mx_isFour (l : Launch) (v : Int32) : Met l yX0_isFour (ws_ yX0_isFour cX0_isFour 1 (some .boolean)) (rm_ 0 1 0 0) (va_Pc [.int v] (fun _ => True)) (vp_Si (fun rv => rv = b2i (rng v 0 3))) 0 0 (fun _ => False) := by
  refine mkx_W (by decide) (Nat.le_of_ble_eq_true rfl) ?_
  intro p e s m below meth c ls hx hb hml hr hlk hts hown hnm hv hl
  have hl : lv_has ls 1 [(0, .int v)] := hl
  refine lv_iload_n hx hb dX0_isFour_0 rfl (lv_at hl 0 rfl) ?_
  refine lv_iconst (v := 0) hx hb dX0_isFour_1 (by decide) ?_
  refine lv_iconst (v := 3) hx hb dX0_isFour_2 (by decide) ?_
  refine vp_callSi (W.runS (As := [.int v, .int 0, .int 3]) (rest := []) ⟨hx, hb, hml, hown, hts⟩ (mx_in l v (0 : Int32) (3 : Int32)) (va_cwS 3 hts (lw_S q108 q109 q80 q110) rfl rfl rfl cd_X0_in.2 ⟨Nat.le_of_ble_eq_true rfl, Nat.le_of_ble_eq_true rfl⟩) ⟨pT_fb, fun U hU hW => ⟨rfl, trivial⟩⟩ rfl rfl hl.1 rfl (lv_room (Nat.le_of_ble_eq_true rfl)) dX0_isFour_3 ⟨Nat.le_of_ble_eq_true rfl, Nat.le_of_ble_eq_true rfl⟩) (fun r hr => ?_)
  subst hr
  refine r_top (y := b2i (rng v 0 3)) (b2i_c (by simp [rng])) ?_
  exact W.zret (v := b2i (rng v 0 3)) hx hb hr b2i_nz (fun tt ht _ => ⟨_, rfl, (b2i_c (by simp [rng])), ht⟩) (fun _ h => by cases h) dX0_isFour_6 hlk

set_option maxHeartbeats 4000000 in
theorem mx_isTray (l : Launch) (v : Int32) : Met l yX0_isTray (ws_ yX0_isTray cX0_isTray 1 (some .boolean)) (rm_ 0 1 0 0) (va_Pc [.int v] (fun _ => True)) (vp_Si (fun rv => rv = b2i (rng v 0 3))) 0 0 (fun _ => False) := by
  refine mkx_W (by decide) (Nat.le_of_ble_eq_true rfl) ?_
  intro p e s m below meth c ls hx hb hml hr hlk hts hown hnm hv hl
  have hl : lv_has ls 1 [(0, .int v)] := hl
  refine lv_iload_n hx hb dX0_isTray_0 rfl (lv_at hl 0 rfl) ?_
  refine lv_iconst (v := 0) hx hb dX0_isTray_1 (by decide) ?_
  refine lv_iconst (v := 3) hx hb dX0_isTray_2 (by decide) ?_
  refine vp_callSi (W.runS (As := [.int v, .int 0, .int 3]) (rest := []) ⟨hx, hb, hml, hown, hts⟩ (mx_in l v (0 : Int32) (3 : Int32)) (va_cwS 3 hts (lw_S q108 q109 q80 q110) rfl rfl rfl cd_X0_in.2 ⟨Nat.le_of_ble_eq_true rfl, Nat.le_of_ble_eq_true rfl⟩) ⟨pT_fb, fun U hU hW => ⟨rfl, trivial⟩⟩ rfl rfl hl.1 rfl (lv_room (Nat.le_of_ble_eq_true rfl)) dX0_isTray_3 ⟨Nat.le_of_ble_eq_true rfl, Nat.le_of_ble_eq_true rfl⟩) (fun r hr => ?_)
  subst hr
  refine r_top (y := b2i (rng v 0 3)) (b2i_c (by simp [rng])) ?_
  exact W.zret (v := b2i (rng v 0 3)) hx hb hr b2i_nz (fun tt ht _ => ⟨_, rfl, (b2i_c (by simp [rng])), ht⟩) (fun _ h => by cases h) dX0_isTray_6 hlk

set_option maxHeartbeats 4000000 in
theorem mx_isSheet (l : Launch) (v : Int32) : Met l yX0_isSheet (ws_ yX0_isSheet cX0_isSheet 1 (some .boolean)) (rm_ 0 1 0 0) (va_Pc [.int v] (fun _ => True)) (vp_Si (fun rv => rv = b2i (rng v 0 3))) 0 0 (fun _ => False) := by
  refine mkx_W (by decide) (Nat.le_of_ble_eq_true rfl) ?_
  intro p e s m below meth c ls hx hb hml hr hlk hts hown hnm hv hl
  have hl : lv_has ls 1 [(0, .int v)] := hl
  refine lv_iload_n hx hb dX0_isSheet_0 rfl (lv_at hl 0 rfl) ?_
  refine lv_iconst (v := 0) hx hb dX0_isSheet_1 (by decide) ?_
  refine lv_iconst (v := 3) hx hb dX0_isSheet_2 (by decide) ?_
  refine vp_callSi (W.runS (As := [.int v, .int 0, .int 3]) (rest := []) ⟨hx, hb, hml, hown, hts⟩ (mx_in l v (0 : Int32) (3 : Int32)) (va_cwS 3 hts (lw_S q108 q109 q80 q110) rfl rfl rfl cd_X0_in.2 ⟨Nat.le_of_ble_eq_true rfl, Nat.le_of_ble_eq_true rfl⟩) ⟨pT_fb, fun U hU hW => ⟨rfl, trivial⟩⟩ rfl rfl hl.1 rfl (lv_room (Nat.le_of_ble_eq_true rfl)) dX0_isSheet_3 ⟨Nat.le_of_ble_eq_true rfl, Nat.le_of_ble_eq_true rfl⟩) (fun r hr => ?_)
  subst hr
  refine r_top (y := b2i (rng v 0 3)) (b2i_c (by simp [rng])) ?_
  exact W.zret (v := b2i (rng v 0 3)) hx hb hr b2i_nz (fun tt ht _ => ⟨_, rfl, (b2i_c (by simp [rng])), ht⟩) (fun _ h => by cases h) dX0_isSheet_6 hlk

set_option maxHeartbeats 4000000 in
theorem mx_threes (l : Launch) (n : Int32) : Met l yX0_threes (ws_ yX0_threes cX0_threes 1 (some .int)) (rm_ 0 0 0 0) (va_Pc [.int n] (fun _ => True)) (vp_Si (fun rv => rv = threeF n)) 0 0 (fun _ => False) := by
  refine mkx_W (by decide) (Nat.le_of_ble_eq_true rfl) ?_
  intro p e s m below meth c ls hx hb hml hr hlk hts hown hnm hv hl
  have hl : lv_has ls 1 [(0, .int n)] := hl
  refine lv_iload_n hx hb dX0_threes_0 rfl (lv_at hl 0 rfl) ?_
  refine lv_iload_n hx hb dX0_threes_1 rfl (lv_at hl 0 rfl) ?_
  refine lv_iconst (v := 1) hx hb dX0_threes_2 (by decide) ?_
  refine lv_isub hx hb dX0_threes_3 ?_
  refine lv_imul hx hb dX0_threes_4 ?_
  refine lv_iload_n hx hb dX0_threes_5 rfl (lv_at hl 0 rfl) ?_
  refine lv_iconst (v := 2) hx hb dX0_threes_6 (by decide) ?_
  refine lv_isub hx hb dX0_threes_7 ?_
  refine lv_imul hx hb dX0_threes_8 ?_
  refine lv_bipush (v := 6) hx hb dX0_threes_9 (by decide) ?_
  refine lv_idiv hx hb dX0_threes_11 (by decide) ?_
  exact W.iret (v := (((n * (n - 1)) * (n - 2)) / 6)) hx hb hr (fun tt ht _ => ⟨_, rfl, rfl, ht⟩) (fun _ h => by cases h) dX0_threes_12 hlk

set_option maxHeartbeats 4000000 in
theorem mx_min (l : Launch) (v : Int32) (u : Int32) : Met l yJ0_min (ws_ yJ0_min cJ0_min 2 (some .int)) (rm_ 0 0 0 0) (va_Pc [.int v, .int u] (fun _ => True)) (vp_Si (fun rv => rv = minX v u)) 0 0 (fun _ => False) := by
  refine mkf_W (by decide +kernel) (Nat.le_of_ble_eq_true rfl) ?_
  intro p e s m below meth c ls hx hb hml hr hlk hts hown hnm hv hl
  have hl : lv_has ls 2 [(0, .int v), (1, .int u)] := hl
  refine lv_iload_n hx hb dJ0_min_0 rfl (lv_at hl 0 rfl) ?_
  refine lv_iload_n hx hb dJ0_min_1 rfl (lv_at hl 1 rfl) ?_
  refine lv_icmp_gt (tgt := 9) hx hb dJ0_min_2 (by decide) (fun c_1 => ?_) (fun c_1 => ?_)
  · refine lv_iload_n hx hb dJ0_min_9 rfl (lv_at hl 1 rfl) ?_
    exact W.iret (v := u) hx hb hr (fun tt ht _ => ⟨_, rfl, (by unfold minX; have q := c_1; first | exact (if_pos q).symm | exact (if_neg q).symm), ht⟩) (fun _ h => by cases h) dJ0_min_10 hlk
  · refine lv_iload_n hx hb dJ0_min_5 rfl (lv_at hl 0 rfl) ?_
    refine lv_goto (tgt := 10) hx hb dJ0_min_6 (by decide) ?_
    exact W.iret (v := v) hx hb hr (fun tt ht _ => ⟨_, rfl, (by unfold minX; have q := c_1; first | exact (if_pos q).symm | exact (if_neg q).symm), ht⟩) (fun _ h => by cases h) dJ0_min_10 hlk

set_option maxHeartbeats 4000000 in
theorem mx_max (l : Launch) (v : Int32) (u : Int32) : Met l yJ0_max (ws_ yJ0_max cJ0_max 2 (some .int)) (rm_ 0 0 0 0) (va_Pc [.int v, .int u] (fun _ => True)) (vp_Si (fun rv => rv = maxX v u)) 0 0 (fun _ => False) := by
  refine mkf_W (by decide +kernel) (Nat.le_of_ble_eq_true rfl) ?_
  intro p e s m below meth c ls hx hb hml hr hlk hts hown hnm hv hl
  have hl : lv_has ls 2 [(0, .int v), (1, .int u)] := hl
  refine lv_iload_n hx hb dJ0_max_0 rfl (lv_at hl 0 rfl) ?_
  refine lv_iload_n hx hb dJ0_max_1 rfl (lv_at hl 1 rfl) ?_
  refine lv_icmp_lt (tgt := 9) hx hb dJ0_max_2 (by decide) (fun c_1 => ?_) (fun c_1 => ?_)
  · refine lv_iload_n hx hb dJ0_max_9 rfl (lv_at hl 1 rfl) ?_
    exact W.iret (v := u) hx hb hr (fun tt ht _ => ⟨_, rfl, (by unfold maxX; have q := c_1; first | exact (if_pos q).symm | exact (if_neg q).symm), ht⟩) (fun _ h => by cases h) dJ0_max_10 hlk
  · refine lv_iload_n hx hb dJ0_max_5 rfl (lv_at hl 0 rfl) ?_
    refine lv_goto (tgt := 10) hx hb dJ0_max_6 (by decide) ?_
    exact W.iret (v := v) hx hb hr (fun tt ht _ => ⟨_, rfl, (by unfold maxX; have q := c_1; first | exact (if_pos q).symm | exact (if_neg q).symm), ht⟩) (fun _ h => by cases h) dJ0_max_10 hlk

set_option maxHeartbeats 4000000 in
theorem mx_abs (l : Launch) (v : Int32) : Met l yJ0_abs (ws_ yJ0_abs cJ0_abs 1 (some .int)) (rm_ 0 0 0 0) (va_Pc [.int v] (fun _ => True)) (vp_Si (fun rv => rv = absX v)) 0 0 (fun _ => False) := by
  refine mkf_W (by decide +kernel) (Nat.le_of_ble_eq_true rfl) ?_
  intro p e s m below meth c ls hx hb hml hr hlk hts hown hnm hv hl
  have hl : lv_has ls 1 [(0, .int v)] := hl
  refine lv_iload_n hx hb dJ0_abs_0 rfl (lv_at hl 0 rfl) ?_
  refine lv_if_ge (tgt := 9) hx hb dJ0_abs_1 (by decide) (fun c_1 => ?_) (fun c_1 => ?_)
  · refine lv_iload_n hx hb dJ0_abs_9 rfl (lv_at hl 0 rfl) ?_
    exact W.iret (v := v) hx hb hr (fun tt ht _ => ⟨_, rfl, (by unfold absX; have q := c_1; first | exact (if_pos q).symm | exact (if_neg q).symm), ht⟩) (fun _ h => by cases h) dJ0_abs_10 hlk
  · refine lv_iload_n hx hb dJ0_abs_4 rfl (lv_at hl 0 rfl) ?_
    refine lv_ineg hx hb dJ0_abs_5 ?_
    refine lv_goto (tgt := 10) hx hb dJ0_abs_6 (by decide) ?_
    exact W.iret (v := (-v)) hx hb hr (fun tt ht _ => ⟨_, rfl, (by unfold absX; have q := c_1; first | exact (if_pos q).symm | exact (if_neg q).symm), ht⟩) (fun _ h => by cases h) dJ0_abs_10 hlk

set_option maxHeartbeats 4000000 in
theorem mx_floorDiv (l : Launch) (v : Int64) (u : Int64) (hu : ¬ u = 0) : Met l yJ0_floorDiv (ws_ yJ0_floorDiv cJ0_floorDiv 6 (some .long)) (rm_ 0 0 0 0) (va_Pc [.long v, .long u] (fun _ => True)) (vp_Sl (fun rv => rv = floX v u)) 0 0 (fun _ => False) := by
  refine mkf_W (by decide +kernel) (Nat.le_of_ble_eq_true rfl) ?_
  intro p e s m below meth c ls hx hb hml hr hlk hts hown hnm hv hl
  have hl : lv_has ls 6 [(0, .long v), (2, .long u)] := hl
  refine lv_lload_n hx hb dJ0_floorDiv_0 rfl (lv_at hl 0 rfl) ?_
  refine lv_lload_n hx hb dJ0_floorDiv_1 rfl (lv_at hl 1 rfl) ?_
  refine lv_ldiv hx hb dJ0_floorDiv_2 hu ?_
  refine lv_lstore (lv' := [(4, .long (v / u)), (0, .long v), (2, .long u)]) hx hb dJ0_floorDiv_3 hl (by decide) rfl (fun ls hl => ?_)
  refine lv_lload_n hx hb dJ0_floorDiv_5 rfl (lv_at hl 1 rfl) ?_
  refine lv_lload_n hx hb dJ0_floorDiv_6 rfl (lv_at hl 2 rfl) ?_
  refine lv_lxor hx hb dJ0_floorDiv_7 ?_
  refine lv_lconst (v := 0) hx hb dJ0_floorDiv_8 (by decide) ?_
  refine W.lcmp hx hb dJ0_floorDiv_9 ?_
  refine lv_if_ge (tgt := 27) hx hb dJ0_floorDiv_10 (by decide) (fun c_1 => ?_) (fun c_1 => ?_)
  · refine lv_lload hx hb dJ0_floorDiv_27 (lv_at hl 0 rfl) ?_
    exact W.lret (v := (v / u)) hx hb hr (fun tt ht _ => ⟨_, rfl, (by unfold floX; simp only [lg_cmp_lt, lg_cmp_gt, lg_cmp_le, lg_cmp_ge, lg_cmp_eq] at c_1; first | exact (if_neg (Int64.not_lt.mpr c_1)).symm | (rw [if_pos (Int64.not_le.mp c_1)]; first | exact (if_pos c_1).symm | exact (if_neg c_1).symm)), ht⟩) (fun _ h => by cases h) dJ0_floorDiv_29 hlk
  · refine lv_lload hx hb dJ0_floorDiv_13 (lv_at hl 0 rfl) ?_
    refine lv_lload_n hx hb dJ0_floorDiv_15 rfl (lv_at hl 2 rfl) ?_
    refine lv_lmul hx hb dJ0_floorDiv_16 ?_
    refine lv_lload_n hx hb dJ0_floorDiv_17 rfl (lv_at hl 1 rfl) ?_
    refine W.lcmp hx hb dJ0_floorDiv_18 ?_
    refine lv_if_eq (tgt := 27) hx hb dJ0_floorDiv_19 (by decide) (fun c_2 => ?_) (fun c_2 => ?_)
    · refine lv_lload hx hb dJ0_floorDiv_27 (lv_at hl 0 rfl) ?_
      exact W.lret (v := (v / u)) hx hb hr (fun tt ht _ => ⟨_, rfl, (by unfold floX; simp only [lg_cmp_lt, lg_cmp_gt, lg_cmp_le, lg_cmp_ge, lg_cmp_eq] at c_1 c_2; first | exact (if_neg (Int64.not_lt.mpr c_1)).symm | (rw [if_pos (Int64.not_le.mp c_1)]; first | exact (if_pos c_2).symm | exact (if_neg c_2).symm)), ht⟩) (fun _ h => by cases h) dJ0_floorDiv_29 hlk
    · refine lv_lload hx hb dJ0_floorDiv_22 (lv_at hl 0 rfl) ?_
      refine lv_lconst (v := 1) hx hb dJ0_floorDiv_24 (by decide) ?_
      refine lv_lsub hx hb dJ0_floorDiv_25 ?_
      exact W.lret (v := ((v / u) - (1 : Int64))) hx hb hr (fun tt ht _ => ⟨_, rfl, (by unfold floX; simp only [lg_cmp_lt, lg_cmp_gt, lg_cmp_le, lg_cmp_ge, lg_cmp_eq] at c_1 c_2; first | exact (if_neg (Int64.not_lt.mpr c_1)).symm | (rw [if_pos (Int64.not_le.mp c_1)]; first | exact (if_pos c_2).symm | exact (if_neg c_2).symm)), ht⟩) (fun _ h => by cases h) dJ0_floorDiv_26 hlk

set_option maxHeartbeats 4000000 in
theorem mx_rounded (l : Launch) (v : Int64) (u : Int64) (hu : ¬ (2 : Int64) * u = 0) : Met l yX0_rounded (ws_ yX0_rounded cX0_rounded 4 (some .long)) (rm_ 0 1 0 0) (va_Pc [.long v, .long u] (fun _ => True)) (vp_Sl (fun rv => rv = floX (2 * v + u) (2 * u))) 0 0 (fun _ => False) := by
  refine mkx_W (by decide) (Nat.le_of_ble_eq_true rfl) ?_
  intro p e s m below meth c ls hx hb hml hr hlk hts hown hnm hv hl
  have hl : lv_has ls 4 [(0, .long v), (2, .long u)] := hl
  refine lv_ldc2 (v := 2) hx hb hown (hts _ q346) dX0_rounded_0 ?_
  refine lv_lload_n hx hb dX0_rounded_3 rfl (lv_at hl 0 rfl) ?_
  refine lv_lmul hx hb dX0_rounded_4 ?_
  refine lv_lload_n hx hb dX0_rounded_5 rfl (lv_at hl 1 rfl) ?_
  refine lv_ladd hx hb dX0_rounded_6 ?_
  refine lv_ldc2 (v := 2) hx hb hown (hts _ q346) dX0_rounded_7 ?_
  refine lv_lload_n hx hb dX0_rounded_10 rfl (lv_at hl 1 rfl) ?_
  refine lv_lmul hx hb dX0_rounded_11 ?_
  refine vp_callSl (W.runS (As := [.long (((2 : Int64) * v) + u), .long ((2 : Int64) * u)]) (rest := []) ⟨hx, hb, hml, hown, hts⟩ (mx_floorDiv l (((2 : Int64) * v) + u) ((2 : Int64) * u) hu) (va_cwS 2 hts (lw_S q347 q348 q87 q349) rfl rfl rfl cd_J0_floorDiv.2 ⟨Nat.le_of_ble_eq_true rfl, Nat.le_of_ble_eq_true rfl⟩) ⟨pT_fb, fun U hU hW => ⟨rfl, trivial⟩⟩ rfl rfl hl.1 rfl (lv_room (Nat.le_of_ble_eq_true rfl)) dX0_rounded_12 ⟨Nat.le_of_ble_eq_true rfl, Nat.le_of_ble_eq_true rfl⟩) (fun r hr => ?_)
  subst hr
  exact W.lret (v := floX (((2 : Int64) * v) + u) ((2 : Int64) * u)) hx hb hr (fun tt ht _ => ⟨_, rfl, rfl, ht⟩) (fun _ h => by cases h) dX0_rounded_15 hlk

set_option maxHeartbeats 4000000 in
theorem mx_near (l : Launch) (v : Int32) (u : Int32) : Met l yX0_lambda_new_0 (ws_ yX0_lambda_new_0 cX0_lambda_new_0 2 (some .boolean)) (rm_ 0 0 0 0) (va_Pc [.int v, .int u] (fun _ => True)) (vp_Si (fun rv => rv = b2i (nrP v u))) 0 0 (fun _ => False) := by
  refine mkx_W (by decide) (Nat.le_of_ble_eq_true rfl) ?_
  intro p e s m below meth c ls hx hb hml hr hlk hts hown hnm hv hl
  have hl : lv_has ls 2 [(0, .int v), (1, .int u)] := hl
  refine lv_iload_n hx hb dX0_lambda_new_0_0 rfl (lv_at hl 0 rfl) ?_
  refine lv_iload_n hx hb dX0_lambda_new_0_1 rfl (lv_at hl 1 rfl) ?_
  refine lv_isub hx hb dX0_lambda_new_0_2 ?_
  refine lv_iconst (v := (-1)) hx hb dX0_lambda_new_0_3 (by decide) ?_
  refine lv_icmp_lt (tgt := 18) hx hb dX0_lambda_new_0_4 (by decide) (fun c_1 => ?_) (fun c_1 => ?_)
  · refine lv_iconst (v := 0) hx hb dX0_lambda_new_0_18 (by decide) ?_
    exact W.zret (v := 0) hx hb hr rfl (fun tt ht _ => ⟨_, rfl, (b2i_f (fun q => absurd c_1 (Int32.not_lt.mpr q.1))).symm, ht⟩) (fun _ h => by cases h) dX0_lambda_new_0_19 hlk
  · refine lv_iload_n hx hb dX0_lambda_new_0_7 rfl (lv_at hl 0 rfl) ?_
    refine lv_iload_n hx hb dX0_lambda_new_0_8 rfl (lv_at hl 1 rfl) ?_
    refine lv_isub hx hb dX0_lambda_new_0_9 ?_
    refine lv_iconst (v := 1) hx hb dX0_lambda_new_0_10 (by decide) ?_
    refine lv_icmp_gt (tgt := 18) hx hb dX0_lambda_new_0_11 (by decide) (fun c_2 => ?_) (fun c_2 => ?_)
    · refine lv_iconst (v := 0) hx hb dX0_lambda_new_0_18 (by decide) ?_
      exact W.zret (v := 0) hx hb hr rfl (fun tt ht _ => ⟨_, rfl, (b2i_f (fun q => absurd c_2 (Int32.not_lt.mpr q.2))).symm, ht⟩) (fun _ h => by cases h) dX0_lambda_new_0_19 hlk
    · refine lv_iconst (v := 1) hx hb dX0_lambda_new_0_14 (by decide) ?_
      refine lv_goto (tgt := 19) hx hb dX0_lambda_new_0_15 (by decide) ?_
      exact W.zret (v := 1) hx hb hr rfl (fun tt ht _ => ⟨_, rfl, (b2i_t ⟨Int32.not_lt.mp c_1, Int32.not_lt.mp c_2⟩).symm, ht⟩) (fun _ h => by cases h) dX0_lambda_new_0_19 hlk

set_option maxHeartbeats 4000000 in
theorem mx_fit (l : Launch) (w : Int32) (v : Int32) (u : Int32) : Met l yX0_lambda_votesBy_2 (ws_ yX0_lambda_votesBy_2 cX0_lambda_votesBy_2 3 (some .boolean)) (rm_ 0 1 0 0) (va_Pc [.int w, .int v, .int u] (fun _ => True)) (vp_Si (fun rv => rv = b2i (fitP w v u))) 0 0 (fun _ => False) := by
  refine mkx_W (by decide) (Nat.le_of_ble_eq_true rfl) ?_
  intro p e s m below meth c ls hx hb hml hr hlk hts hown hnm hv hl
  have hl : lv_has ls 3 [(0, .int w), (1, .int v), (2, .int u)] := hl
  refine lv_iload_n hx hb dX0_lambda_votesBy_2_0 rfl (lv_at hl 1 rfl) ?_
  refine lv_iload_n hx hb dX0_lambda_votesBy_2_1 rfl (lv_at hl 2 rfl) ?_
  refine lv_isub hx hb dX0_lambda_votesBy_2_2 ?_
  refine vp_callSi (W.runS (As := [.int (v - u)]) (rest := []) ⟨hx, hb, hml, hown, hts⟩ (mx_abs l (v - u)) (va_cwS 1 hts (lw_S q287 q288 q87 q289) rfl rfl rfl cd_J0_abs.2 ⟨Nat.le_of_ble_eq_true rfl, Nat.le_of_ble_eq_true rfl⟩) ⟨pT_fb, fun U hU hW => ⟨rfl, trivial⟩⟩ rfl rfl hl.1 rfl (lv_room (Nat.le_of_ble_eq_true rfl)) dX0_lambda_votesBy_2_3 ⟨Nat.le_of_ble_eq_true rfl, Nat.le_of_ble_eq_true rfl⟩) (fun r hr => ?_)
  subst hr
  refine lv_iload_n hx hb dX0_lambda_votesBy_2_6 rfl (lv_at hl 0 rfl) ?_
  refine lv_icmp_gt (tgt := 14) hx hb dX0_lambda_votesBy_2_7 (by decide) (fun c_1 => ?_) (fun c_1 => ?_)
  · refine lv_iconst (v := 0) hx hb dX0_lambda_votesBy_2_14 (by decide) ?_
    exact W.zret (v := 0) hx hb hr rfl (fun tt ht _ => ⟨_, rfl, (b2i_f (Int32.not_le.mpr c_1)).symm, ht⟩) (fun _ h => by cases h) dX0_lambda_votesBy_2_15 hlk
  · refine lv_iconst (v := 1) hx hb dX0_lambda_votesBy_2_10 (by decide) ?_
    refine lv_goto (tgt := 15) hx hb dX0_lambda_votesBy_2_11 (by decide) ?_
    exact W.zret (v := 1) hx hb hr rfl (fun tt ht _ => ⟨_, rfl, (b2i_t (Int32.not_lt.mp c_1)).symm, ht⟩) (fun _ h => by cases h) dX0_lambda_votesBy_2_15 hlk

/-! printed by gen/cgen.py: methods of the component, lifted and walked (1) -/
set_option maxRecDepth 100000
set_option maxHeartbeats 4000000
theorem gkbm86 : (Int8.ofInt (-86)).toInt32 = -86 := by decide +kernel
theorem gkbm85 : (Int8.ofInt (-85)).toInt32 = -85 := by decide +kernel
theorem gkbm84 : (Int8.ofInt (-84)).toInt32 = -84 := by decide +kernel
theorem gkbm83 : (Int8.ofInt (-83)).toInt32 = -83 := by decide +kernel
theorem gkbm82 : (Int8.ofInt (-82)).toInt32 = -82 := by decide +kernel
theorem gkbm80 : (Int8.ofInt (-80)).toInt32 = -80 := by decide +kernel
theorem gkb6 : (Int8.ofInt 6).toInt32 = nI 6 := by decide +kernel
theorem gkb7 : (Int8.ofInt 7).toInt32 = nI 7 := by decide +kernel
theorem gkb8 : (Int8.ofInt 8).toInt32 = nI 8 := by decide +kernel
theorem gkb9 : (Int8.ofInt 9).toInt32 = nI 9 := by decide +kernel
theorem gkb10 : (Int8.ofInt 10).toInt32 = nI 10 := by decide +kernel
theorem gkb12 : (Int8.ofInt 12).toInt32 = nI 12 := by decide +kernel
theorem gkb16 : (Int8.ofInt 16).toInt32 = nI 16 := by decide +kernel
theorem gkb20 : (Int8.ofInt 20).toInt32 = nI 20 := by decide +kernel
theorem gkb30 : (Int8.ofInt 30).toInt32 = nI 30 := by decide +kernel
theorem gkb35 : (Int8.ofInt 35).toInt32 = nI 35 := by decide +kernel
theorem gkb40 : (Int8.ofInt 40).toInt32 = nI 40 := by decide +kernel
theorem gkb42 : (Int8.ofInt 42).toInt32 = nI 42 := by decide +kernel
theorem gkb46 : (Int8.ofInt 46).toInt32 = nI 46 := by decide +kernel
theorem gkb60 : (Int8.ofInt 60).toInt32 = nI 60 := by decide +kernel
theorem gkb97 : (Int8.ofInt 97).toInt32 = nI 97 := by decide +kernel
theorem gkb99 : (Int8.ofInt 99).toInt32 = nI 99 := by decide +kernel
theorem gkb100 : (Int8.ofInt 100).toInt32 = nI 100 := by decide +kernel
theorem gkb122 : (Int8.ofInt 122).toInt32 = nI 122 := by decide +kernel
theorem gksm300 : (Int16.ofInt (-300)).toInt32 = -300 := by decide +kernel
theorem gks250 : (Int16.ofInt 250).toInt32 = nI 250 := by decide +kernel
theorem gks255 : (Int16.ofInt 255).toInt32 = nI 255 := by decide +kernel
theorem gks300 : (Int16.ofInt 300).toInt32 = nI 300 := by decide +kernel
theorem gks999 : (Int16.ofInt 999).toInt32 = nI 999 := by decide +kernel
theorem gks12345 : (Int16.ofInt 12345).toInt32 = nI 12345 := by decide +kernel
theorem hdX0_are : yX0_are.cls ≠ "java/lang/invoke/MethodHandle" ∧ yX0_are.cls ≠ "java/lang/invoke/VarHandle" ∧ (parseMethodDescriptor yX0_are.desc).map (fun d => d.parameters.length) = some 1 := by decide +kernel
theorem hdX0_consumersOf : yX0_consumersOf.cls = RX0 ∧ yX0_consumersOf.cls ≠ "java/lang/invoke/MethodHandle" ∧ yX0_consumersOf.cls ≠ "java/lang/invoke/VarHandle" ∧ (parseMethodDescriptor yX0_consumersOf.desc).map (fun d => d.parameters.length) = some 2 := by decide +kernel
theorem hdX0_copied : yX0_copied.cls = RX0 ∧ yX0_copied.cls ≠ "java/lang/invoke/MethodHandle" ∧ yX0_copied.cls ≠ "java/lang/invoke/VarHandle" ∧ (parseMethodDescriptor yX0_copied.desc).map (fun d => d.parameters.length) = some 0 := by decide +kernel
theorem hdX0_elementOf : yX0_elementOf.cls ≠ "java/lang/invoke/MethodHandle" ∧ yX0_elementOf.cls ≠ "java/lang/invoke/VarHandle" ∧ (parseMethodDescriptor yX0_elementOf.desc).map (fun d => d.parameters.length) = some 2 := by decide +kernel
theorem hdX0_elementsIn : yX0_elementsIn.cls ≠ "java/lang/invoke/MethodHandle" ∧ yX0_elementsIn.cls ≠ "java/lang/invoke/VarHandle" ∧ (parseMethodDescriptor yX0_elementsIn.desc).map (fun d => d.parameters.length) = some 2 := by decide +kernel
theorem hdX0_isConsumer : yX0_isConsumer.cls = RX0 ∧ yX0_isConsumer.cls ≠ "java/lang/invoke/MethodHandle" ∧ yX0_isConsumer.cls ≠ "java/lang/invoke/VarHandle" ∧ (parseMethodDescriptor yX0_isConsumer.desc).map (fun d => d.parameters.length) = some 1 := by decide +kernel
theorem hdX0_isDead : yX0_isDead.cls = RX0 ∧ yX0_isDead.cls ≠ "java/lang/invoke/MethodHandle" ∧ yX0_isDead.cls ≠ "java/lang/invoke/VarHandle" ∧ (parseMethodDescriptor yX0_isDead.desc).map (fun d => d.parameters.length) = some 1 := by decide +kernel
theorem hdX0_isHere : yX0_isHere.cls = RX0 ∧ yX0_isHere.cls ≠ "java/lang/invoke/MethodHandle" ∧ yX0_isHere.cls ≠ "java/lang/invoke/VarHandle" ∧ (parseMethodDescriptor yX0_isHere.desc).map (fun d => d.parameters.length) = some 1 := by decide +kernel
theorem hdX0_isIn : yX0_isIn.cls ≠ "java/lang/invoke/MethodHandle" ∧ yX0_isIn.cls ≠ "java/lang/invoke/VarHandle" ∧ (parseMethodDescriptor yX0_isIn.desc).map (fun d => d.parameters.length) = some 3 := by decide +kernel
theorem hdX0_isLink : yX0_isLink.cls = RX0 ∧ yX0_isLink.cls ≠ "java/lang/invoke/MethodHandle" ∧ yX0_isLink.cls ≠ "java/lang/invoke/VarHandle" ∧ (parseMethodDescriptor yX0_isLink.desc).map (fun d => d.parameters.length) = some 2 := by decide +kernel
theorem hdX0_isQueue : yX0_isQueue.cls = RX0 ∧ yX0_isQueue.cls ≠ "java/lang/invoke/MethodHandle" ∧ yX0_isQueue.cls ≠ "java/lang/invoke/VarHandle" ∧ (parseMethodDescriptor yX0_isQueue.desc).map (fun d => d.parameters.length) = some 1 := by decide +kernel
theorem hdX0_isShelf : yX0_isShelf.cls ≠ "java/lang/invoke/MethodHandle" ∧ yX0_isShelf.cls ≠ "java/lang/invoke/VarHandle" ∧ (parseMethodDescriptor yX0_isShelf.desc).map (fun d => d.parameters.length) = some 1 := by decide +kernel
theorem hdX0_manyOut : yX0_manyOut.cls = RX0 ∧ yX0_manyOut.cls ≠ "java/lang/invoke/MethodHandle" ∧ yX0_manyOut.cls ≠ "java/lang/invoke/VarHandle" ∧ (parseMethodDescriptor yX0_manyOut.desc).map (fun d => d.parameters.length) = some 1 := by decide +kernel
theorem hdX0_no : yX0_no.cls = RX0 ∧ yX0_no.cls ≠ "java/lang/invoke/MethodHandle" ∧ yX0_no.cls ≠ "java/lang/invoke/VarHandle" ∧ (parseMethodDescriptor yX0_no.desc).map (fun d => d.parameters.length) = some 1 := by decide +kernel
theorem hdX0_puts : yX0_puts.cls ≠ "java/lang/invoke/MethodHandle" ∧ yX0_puts.cls ≠ "java/lang/invoke/VarHandle" ∧ (parseMethodDescriptor yX0_puts.desc).map (fun d => d.parameters.length) = some 3 := by decide +kernel
theorem hdX0_queue_2 : yX0_queue_2.cls = RX0 ∧ yX0_queue_2.cls ≠ "java/lang/invoke/MethodHandle" ∧ yX0_queue_2.cls ≠ "java/lang/invoke/VarHandle" ∧ (parseMethodDescriptor yX0_queue_2.desc).map (fun d => d.parameters.length) = some 1 := by decide +kernel
theorem hdX0_queued : yX0_queued.cls = RX0 ∧ yX0_queued.cls ≠ "java/lang/invoke/MethodHandle" ∧ yX0_queued.cls ≠ "java/lang/invoke/VarHandle" ∧ (parseMethodDescriptor yX0_queued.desc).map (fun d => d.parameters.length) = some 1 := by decide +kernel
theorem hdX0_rowIn : yX0_rowIn.cls = RX0 ∧ yX0_rowIn.cls ≠ "java/lang/invoke/MethodHandle" ∧ yX0_rowIn.cls ≠ "java/lang/invoke/VarHandle" ∧ (parseMethodDescriptor yX0_rowIn.desc).map (fun d => d.parameters.length) = some 1 := by decide +kernel
theorem hdX0_rowOf : yX0_rowOf.cls ≠ "java/lang/invoke/MethodHandle" ∧ yX0_rowOf.cls ≠ "java/lang/invoke/VarHandle" ∧ (parseMethodDescriptor yX0_rowOf.desc).map (fun d => d.parameters.length) = some 2 := by decide +kernel
theorem hdX0_shelved : yX0_shelved.cls = RX0 ∧ yX0_shelved.cls ≠ "java/lang/invoke/MethodHandle" ∧ yX0_shelved.cls ≠ "java/lang/invoke/VarHandle" ∧ (parseMethodDescriptor yX0_shelved.desc).map (fun d => d.parameters.length) = some 0 := by decide +kernel
theorem hdX0_sortOf : yX0_sortOf.cls ≠ "java/lang/invoke/MethodHandle" ∧ yX0_sortOf.cls ≠ "java/lang/invoke/VarHandle" ∧ (parseMethodDescriptor yX0_sortOf.desc).map (fun d => d.parameters.length) = some 1 := by decide +kernel
theorem hdX0_sum : yX0_sum.cls = RX0 ∧ yX0_sum.cls ≠ "java/lang/invoke/MethodHandle" ∧ yX0_sum.cls ≠ "java/lang/invoke/VarHandle" ∧ (parseMethodDescriptor yX0_sum.desc).map (fun d => d.parameters.length) = some 1 := by decide +kernel
theorem hdX0_toldIn : yX0_toldIn.cls = RX0 ∧ yX0_toldIn.cls ≠ "java/lang/invoke/MethodHandle" ∧ yX0_toldIn.cls ≠ "java/lang/invoke/VarHandle" ∧ (parseMethodDescriptor yX0_toldIn.desc).map (fun d => d.parameters.length) = some 5 := by decide +kernel
theorem hdX9_compare : yX9_compare.cls = RX9 ∧ yX9_compare.cls ≠ "java/lang/invoke/MethodHandle" ∧ yX9_compare.cls ≠ "java/lang/invoke/VarHandle" ∧ (parseMethodDescriptor yX9_compare.desc).map (fun d => d.parameters.length) = some 2 := by decide +kernel
theorem hdX10_gains : yX10_gains.cls = RX10 ∧ yX10_gains.cls ≠ "java/lang/invoke/MethodHandle" ∧ yX10_gains.cls ≠ "java/lang/invoke/VarHandle" ∧ (parseMethodDescriptor yX10_gains.desc).map (fun d => d.parameters.length) = some 0 := by decide +kernel
theorem hdX16_becomes : yX16_becomes.cls = RX16 ∧ yX16_becomes.cls ≠ "java/lang/invoke/MethodHandle" ∧ yX16_becomes.cls ≠ "java/lang/invoke/VarHandle" ∧ (parseMethodDescriptor yX16_becomes.desc).map (fun d => d.parameters.length) = some 3 := by decide +kernel
theorem hdX16_isHeldBy : yX16_isHeldBy.cls = RX16 ∧ yX16_isHeldBy.cls ≠ "java/lang/invoke/MethodHandle" ∧ yX16_isHeldBy.cls ≠ "java/lang/invoke/VarHandle" ∧ (parseMethodDescriptor yX16_isHeldBy.desc).map (fun d => d.parameters.length) = some 1 := by decide +kernel
theorem hdX16_readies : yX16_readies.cls = RX16 ∧ yX16_readies.cls ≠ "java/lang/invoke/MethodHandle" ∧ yX16_readies.cls ≠ "java/lang/invoke/VarHandle" ∧ (parseMethodDescriptor yX16_readies.desc).map (fun d => d.parameters.length) = some 0 := by decide +kernel
theorem hdX6_adds : yX6_adds.cls = RX6 ∧ yX6_adds.cls ≠ "java/lang/invoke/MethodHandle" ∧ yX6_adds.cls ≠ "java/lang/invoke/VarHandle" ∧ (parseMethodDescriptor yX6_adds.desc).map (fun d => d.parameters.length) = some 1 := by decide +kernel
theorem hdX6_at : yX6_at.cls = RX6 ∧ yX6_at.cls ≠ "java/lang/invoke/MethodHandle" ∧ yX6_at.cls ≠ "java/lang/invoke/VarHandle" ∧ (parseMethodDescriptor yX6_at.desc).map (fun d => d.parameters.length) = some 1 := by decide +kernel
theorem hdX6_covers : yX6_covers.cls = RX6 ∧ yX6_covers.cls ≠ "java/lang/invoke/MethodHandle" ∧ yX6_covers.cls ≠ "java/lang/invoke/VarHandle" ∧ (parseMethodDescriptor yX6_covers.desc).map (fun d => d.parameters.length) = some 1 := by decide +kernel
theorem hdX6_covers_2 : yX6_covers_2.cls = RX6 ∧ yX6_covers_2.cls ≠ "java/lang/invoke/MethodHandle" ∧ yX6_covers_2.cls ≠ "java/lang/invoke/VarHandle" ∧ (parseMethodDescriptor yX6_covers_2.desc).map (fun d => d.parameters.length) = some 2 := by decide +kernel
theorem hdX6_isOfLength : yX6_isOfLength.cls = RX6 ∧ yX6_isOfLength.cls ≠ "java/lang/invoke/MethodHandle" ∧ yX6_isOfLength.cls ≠ "java/lang/invoke/VarHandle" ∧ (parseMethodDescriptor yX6_isOfLength.desc).map (fun d => d.parameters.length) = some 1 := by decide +kernel
theorem hdX6_many : yX6_many.cls = RX6 ∧ yX6_many.cls ≠ "java/lang/invoke/MethodHandle" ∧ yX6_many.cls ≠ "java/lang/invoke/VarHandle" ∧ (parseMethodDescriptor yX6_many.desc).map (fun d => d.parameters.length) = some 0 := by decide +kernel
theorem hdX6_takes : yX6_takes.cls = RX6 ∧ yX6_takes.cls ≠ "java/lang/invoke/MethodHandle" ∧ yX6_takes.cls ≠ "java/lang/invoke/VarHandle" ∧ (parseMethodDescriptor yX6_takes.desc).map (fun d => d.parameters.length) = some 2 := by decide +kernel
theorem hdX6_text : yX6_text.cls = RX6 ∧ yX6_text.cls ≠ "java/lang/invoke/MethodHandle" ∧ yX6_text.cls ≠ "java/lang/invoke/VarHandle" ∧ (parseMethodDescriptor yX6_text.desc).map (fun d => d.parameters.length) = some 0 := by decide +kernel
theorem hdX8_drained : yX8_drained.cls = RX8 ∧ yX8_drained.cls ≠ "java/lang/invoke/MethodHandle" ∧ yX8_drained.cls ≠ "java/lang/invoke/VarHandle" ∧ (parseMethodDescriptor yX8_drained.desc).map (fun d => d.parameters.length) = some 0 := by decide +kernel
theorem hdX8_get : yX8_get.cls = RX8 ∧ yX8_get.cls ≠ "java/lang/invoke/MethodHandle" ∧ yX8_get.cls ≠ "java/lang/invoke/VarHandle" ∧ (parseMethodDescriptor yX8_get.desc).map (fun d => d.parameters.length) = some 2 := by decide +kernel
theorem hdX8_isFull : yX8_isFull.cls = RX8 ∧ yX8_isFull.cls ≠ "java/lang/invoke/MethodHandle" ∧ yX8_isFull.cls ≠ "java/lang/invoke/VarHandle" ∧ (parseMethodDescriptor yX8_isFull.desc).map (fun d => d.parameters.length) = some 0 := by decide +kernel
theorem hdX8_keys : yX8_keys.cls = RX8 ∧ yX8_keys.cls ≠ "java/lang/invoke/MethodHandle" ∧ yX8_keys.cls ≠ "java/lang/invoke/VarHandle" ∧ (parseMethodDescriptor yX8_keys.desc).map (fun d => d.parameters.length) = some 1 := by decide +kernel
theorem hdX8_many : yX8_many.cls = RX8 ∧ yX8_many.cls ≠ "java/lang/invoke/MethodHandle" ∧ yX8_many.cls ≠ "java/lang/invoke/VarHandle" ∧ (parseMethodDescriptor yX8_many.desc).map (fun d => d.parameters.length) = some 1 := by decide +kernel
theorem hdX8_mays : yX8_mays.cls = RX8 ∧ yX8_mays.cls ≠ "java/lang/invoke/MethodHandle" ∧ yX8_mays.cls ≠ "java/lang/invoke/VarHandle" ∧ (parseMethodDescriptor yX8_mays.desc).map (fun d => d.parameters.length) = some 0 := by decide +kernel
theorem hdX8_next : yX8_next.cls = RX8 ∧ yX8_next.cls ≠ "java/lang/invoke/MethodHandle" ∧ yX8_next.cls ≠ "java/lang/invoke/VarHandle" ∧ (parseMethodDescriptor yX8_next.desc).map (fun d => d.parameters.length) = some 0 := by decide +kernel
theorem hdX8_takes : yX8_takes.cls = RX8 ∧ yX8_takes.cls ≠ "java/lang/invoke/MethodHandle" ∧ yX8_takes.cls ≠ "java/lang/invoke/VarHandle" ∧ (parseMethodDescriptor yX8_takes.desc).map (fun d => d.parameters.length) = some 1 := by decide +kernel
theorem hdX5_is : yX5_is.cls = RX5 ∧ yX5_is.cls ≠ "java/lang/invoke/MethodHandle" ∧ yX5_is.cls ≠ "java/lang/invoke/VarHandle" ∧ (parseMethodDescriptor yX5_is.desc).map (fun d => d.parameters.length) = some 2 := by decide +kernel
theorem hdX5_part : yX5_part.cls = RX5 ∧ yX5_part.cls ≠ "java/lang/invoke/MethodHandle" ∧ yX5_part.cls ≠ "java/lang/invoke/VarHandle" ∧ (parseMethodDescriptor yX5_part.desc).map (fun d => d.parameters.length) = some 1 := by decide +kernel
theorem hdX5_pattern : yX5_pattern.cls = RX5 ∧ yX5_pattern.cls ≠ "java/lang/invoke/MethodHandle" ∧ yX5_pattern.cls ≠ "java/lang/invoke/VarHandle" ∧ (parseMethodDescriptor yX5_pattern.desc).map (fun d => d.parameters.length) = some 1 := by decide +kernel
theorem hdX5_text : yX5_text.cls = RX5 ∧ yX5_text.cls ≠ "java/lang/invoke/MethodHandle" ∧ yX5_text.cls ≠ "java/lang/invoke/VarHandle" ∧ (parseMethodDescriptor yX5_text.desc).map (fun d => d.parameters.length) = some 0 := by decide +kernel
theorem hdX5_word : yX5_word.cls = RX5 ∧ yX5_word.cls ≠ "java/lang/invoke/MethodHandle" ∧ yX5_word.cls ≠ "java/lang/invoke/VarHandle" ∧ (parseMethodDescriptor yX5_word.desc).map (fun d => d.parameters.length) = some 0 := by decide +kernel
theorem hdX1_acknowledges : yX1_acknowledges.cls = RX1 ∧ yX1_acknowledges.cls ≠ "java/lang/invoke/MethodHandle" ∧ yX1_acknowledges.cls ≠ "java/lang/invoke/VarHandle" ∧ (parseMethodDescriptor yX1_acknowledges.desc).map (fun d => d.parameters.length) = some 2 := by decide +kernel
theorem hdX1_acts : yX1_acts.cls = RX1 ∧ yX1_acts.cls ≠ "java/lang/invoke/MethodHandle" ∧ yX1_acts.cls ≠ "java/lang/invoke/VarHandle" ∧ (parseMethodDescriptor yX1_acts.desc).map (fun d => d.parameters.length) = some 0 := by decide +kernel
theorem hdX1_ages : yX1_ages.cls = RX1 ∧ yX1_ages.cls ≠ "java/lang/invoke/MethodHandle" ∧ yX1_ages.cls ≠ "java/lang/invoke/VarHandle" ∧ (parseMethodDescriptor yX1_ages.desc).map (fun d => d.parameters.length) = some 2 := by decide +kernel
theorem hdX1_answers : yX1_answers.cls = RX1 ∧ yX1_answers.cls ≠ "java/lang/invoke/MethodHandle" ∧ yX1_answers.cls ≠ "java/lang/invoke/VarHandle" ∧ (parseMethodDescriptor yX1_answers.desc).map (fun d => d.parameters.length) = some 1 := by decide +kernel
theorem hdX1_becomes : yX1_becomes.cls = RX1 ∧ yX1_becomes.cls ≠ "java/lang/invoke/MethodHandle" ∧ yX1_becomes.cls ≠ "java/lang/invoke/VarHandle" ∧ (parseMethodDescriptor yX1_becomes.desc).map (fun d => d.parameters.length) = some 1 := by decide +kernel
theorem hdX1_buries : yX1_buries.cls = RX1 ∧ yX1_buries.cls ≠ "java/lang/invoke/MethodHandle" ∧ yX1_buries.cls ≠ "java/lang/invoke/VarHandle" ∧ (parseMethodDescriptor yX1_buries.desc).map (fun d => d.parameters.length) = some 3 := by decide +kernel
theorem hdX1_day : yX1_day.cls = RX1 ∧ yX1_day.cls ≠ "java/lang/invoke/MethodHandle" ∧ yX1_day.cls ≠ "java/lang/invoke/VarHandle" ∧ (parseMethodDescriptor yX1_day.desc).map (fun d => d.parameters.length) = some 0 := by decide +kernel
theorem hdX1_draw : yX1_draw.cls = RX1 ∧ yX1_draw.cls ≠ "java/lang/invoke/MethodHandle" ∧ yX1_draw.cls ≠ "java/lang/invoke/VarHandle" ∧ (parseMethodDescriptor yX1_draw.desc).map (fun d => d.parameters.length) = some 1 := by decide +kernel
theorem hdX1_fails : yX1_fails.cls = RX1 ∧ yX1_fails.cls ≠ "java/lang/invoke/MethodHandle" ∧ yX1_fails.cls ≠ "java/lang/invoke/VarHandle" ∧ (parseMethodDescriptor yX1_fails.desc).map (fun d => d.parameters.length) = some 3 := by decide +kernel
theorem hdX1_gives : yX1_gives.cls = RX1 ∧ yX1_gives.cls ≠ "java/lang/invoke/MethodHandle" ∧ yX1_gives.cls ≠ "java/lang/invoke/VarHandle" ∧ (parseMethodDescriptor yX1_gives.desc).map (fun d => d.parameters.length) = some 1 := by decide +kernel
theorem hdX1_held : yX1_held.cls = RX1 ∧ yX1_held.cls ≠ "java/lang/invoke/MethodHandle" ∧ yX1_held.cls ≠ "java/lang/invoke/VarHandle" ∧ (parseMethodDescriptor yX1_held.desc).map (fun d => d.parameters.length) = some 2 := by decide +kernel
theorem hdX1_isOf : yX1_isOf.cls = RX1 ∧ yX1_isOf.cls ≠ "java/lang/invoke/MethodHandle" ∧ yX1_isOf.cls ≠ "java/lang/invoke/VarHandle" ∧ (parseMethodDescriptor yX1_isOf.desc).map (fun d => d.parameters.length) = some 2 := by decide +kernel
theorem hdX1_leaves : yX1_leaves.cls = RX1 ∧ yX1_leaves.cls ≠ "java/lang/invoke/MethodHandle" ∧ yX1_leaves.cls ≠ "java/lang/invoke/VarHandle" ∧ (parseMethodDescriptor yX1_leaves.desc).map (fun d => d.parameters.length) = some 1 := by decide +kernel
theorem hdX1_passes : yX1_passes.cls = RX1 ∧ yX1_passes.cls ≠ "java/lang/invoke/MethodHandle" ∧ yX1_passes.cls ≠ "java/lang/invoke/VarHandle" ∧ (parseMethodDescriptor yX1_passes.desc).map (fun d => d.parameters.length) = some 0 := by decide +kernel
theorem hdX1_publishes : yX1_publishes.cls = RX1 ∧ yX1_publishes.cls ≠ "java/lang/invoke/MethodHandle" ∧ yX1_publishes.cls ≠ "java/lang/invoke/VarHandle" ∧ (parseMethodDescriptor yX1_publishes.desc).map (fun d => d.parameters.length) = some 1 := by decide +kernel
theorem hdX1_queueOf : yX1_queueOf.cls = RX1 ∧ yX1_queueOf.cls ≠ "java/lang/invoke/MethodHandle" ∧ yX1_queueOf.cls ≠ "java/lang/invoke/VarHandle" ∧ (parseMethodDescriptor yX1_queueOf.desc).map (fun d => d.parameters.length) = some 1 := by decide +kernel
theorem hdX1_refuses : yX1_refuses.cls = RX1 ∧ yX1_refuses.cls ≠ "java/lang/invoke/MethodHandle" ∧ yX1_refuses.cls ≠ "java/lang/invoke/VarHandle" ∧ (parseMethodDescriptor yX1_refuses.desc).map (fun d => d.parameters.length) = some 2 := by decide +kernel
theorem hdX1_returns : yX1_returns.cls = RX1 ∧ yX1_returns.cls ≠ "java/lang/invoke/MethodHandle" ∧ yX1_returns.cls ≠ "java/lang/invoke/VarHandle" ∧ (parseMethodDescriptor yX1_returns.desc).map (fun d => d.parameters.length) = some 1 := by decide +kernel
theorem hdX1_who : yX1_who.cls = RX1 ∧ yX1_who.cls ≠ "java/lang/invoke/MethodHandle" ∧ yX1_who.cls ≠ "java/lang/invoke/VarHandle" ∧ (parseMethodDescriptor yX1_who.desc).map (fun d => d.parameters.length) = some 1 := by decide +kernel
theorem hdJ23_intValue : yJ23_intValue.cls = RJ23 ∧ yJ23_intValue.cls ≠ "java/lang/invoke/MethodHandle" ∧ yJ23_intValue.cls ≠ "java/lang/invoke/VarHandle" ∧ (parseMethodDescriptor yJ23_intValue.desc).map (fun d => d.parameters.length) = some 0 := by decide +kernel
theorem hdJ23_valueOf : yJ23_valueOf.cls ≠ "java/lang/invoke/MethodHandle" ∧ yJ23_valueOf.cls ≠ "java/lang/invoke/VarHandle" ∧ (parseMethodDescriptor yJ23_valueOf.desc).map (fun d => d.parameters.length) = some 1 := by decide +kernel
theorem hdJ9_charAt : yJ9_charAt.cls = RJ9 ∧ yJ9_charAt.cls ≠ "java/lang/invoke/MethodHandle" ∧ yJ9_charAt.cls ≠ "java/lang/invoke/VarHandle" ∧ (parseMethodDescriptor yJ9_charAt.desc).map (fun d => d.parameters.length) = some 1 := by decide +kernel
theorem hdJ9_equals : yJ9_equals.cls = RJ9 ∧ yJ9_equals.cls ≠ "java/lang/invoke/MethodHandle" ∧ yJ9_equals.cls ≠ "java/lang/invoke/VarHandle" ∧ (parseMethodDescriptor yJ9_equals.desc).map (fun d => d.parameters.length) = some 1 := by decide +kernel
theorem hdJ9_length : yJ9_length.cls = RJ9 ∧ yJ9_length.cls ≠ "java/lang/invoke/MethodHandle" ∧ yJ9_length.cls ≠ "java/lang/invoke/VarHandle" ∧ (parseMethodDescriptor yJ9_length.desc).map (fun d => d.parameters.length) = some 0 := by decide +kernel
theorem hdJ15_append_3 : yJ15_append_3.cls = RJ15 ∧ yJ15_append_3.cls ≠ "java/lang/invoke/MethodHandle" ∧ yJ15_append_3.cls ≠ "java/lang/invoke/VarHandle" ∧ (parseMethodDescriptor yJ15_append_3.desc).map (fun d => d.parameters.length) = some 1 := by decide +kernel
theorem hdJ15_append : yJ15_append.cls = RJ15 ∧ yJ15_append.cls ≠ "java/lang/invoke/MethodHandle" ∧ yJ15_append.cls ≠ "java/lang/invoke/VarHandle" ∧ (parseMethodDescriptor yJ15_append.desc).map (fun d => d.parameters.length) = some 1 := by decide +kernel
theorem hdJ15_length : yJ15_length.cls = RJ15 ∧ yJ15_length.cls ≠ "java/lang/invoke/MethodHandle" ∧ yJ15_length.cls ≠ "java/lang/invoke/VarHandle" ∧ (parseMethodDescriptor yJ15_length.desc).map (fun d => d.parameters.length) = some 0 := by decide +kernel
theorem hdJ15_toString : yJ15_toString.cls = RJ15 ∧ yJ15_toString.cls ≠ "java/lang/invoke/MethodHandle" ∧ yJ15_toString.cls ≠ "java/lang/invoke/VarHandle" ∧ (parseMethodDescriptor yJ15_toString.desc).map (fun d => d.parameters.length) = some 0 := by decide +kernel
theorem hdJ28_addLast : yJ28_addLast.cls = RJ28 ∧ yJ28_addLast.cls ≠ "java/lang/invoke/MethodHandle" ∧ yJ28_addLast.cls ≠ "java/lang/invoke/VarHandle" ∧ (parseMethodDescriptor yJ28_addLast.desc).map (fun d => d.parameters.length) = some 1 := by decide +kernel
theorem hdJ28_isEmpty : yJ28_isEmpty.cls = RJ28 ∧ yJ28_isEmpty.cls ≠ "java/lang/invoke/MethodHandle" ∧ yJ28_isEmpty.cls ≠ "java/lang/invoke/VarHandle" ∧ (parseMethodDescriptor yJ28_isEmpty.desc).map (fun d => d.parameters.length) = some 0 := by decide +kernel
theorem hdJ28_iterator : yJ28_iterator.cls = RJ28 ∧ yJ28_iterator.cls ≠ "java/lang/invoke/MethodHandle" ∧ yJ28_iterator.cls ≠ "java/lang/invoke/VarHandle" ∧ (parseMethodDescriptor yJ28_iterator.desc).map (fun d => d.parameters.length) = some 0 := by decide +kernel
theorem hdJ28_pollFirst : yJ28_pollFirst.cls = RJ28 ∧ yJ28_pollFirst.cls ≠ "java/lang/invoke/MethodHandle" ∧ yJ28_pollFirst.cls ≠ "java/lang/invoke/VarHandle" ∧ (parseMethodDescriptor yJ28_pollFirst.desc).map (fun d => d.parameters.length) = some 0 := by decide +kernel
theorem hdJ2_add_3 : yJ2_add_3.cls = RJ2 ∧ yJ2_add_3.cls ≠ "java/lang/invoke/MethodHandle" ∧ yJ2_add_3.cls ≠ "java/lang/invoke/VarHandle" ∧ (parseMethodDescriptor yJ2_add_3.desc).map (fun d => d.parameters.length) = some 2 := by decide +kernel
theorem hdJ2_add : yJ2_add.cls = RJ2 ∧ yJ2_add.cls ≠ "java/lang/invoke/MethodHandle" ∧ yJ2_add.cls ≠ "java/lang/invoke/VarHandle" ∧ (parseMethodDescriptor yJ2_add.desc).map (fun d => d.parameters.length) = some 1 := by decide +kernel
theorem hdJ2_addAll : yJ2_addAll.cls = RJ2 ∧ yJ2_addAll.cls ≠ "java/lang/invoke/MethodHandle" ∧ yJ2_addAll.cls ≠ "java/lang/invoke/VarHandle" ∧ (parseMethodDescriptor yJ2_addAll.desc).map (fun d => d.parameters.length) = some 1 := by decide +kernel
theorem hdJ2_clear : yJ2_clear.cls = RJ2 ∧ yJ2_clear.cls ≠ "java/lang/invoke/MethodHandle" ∧ yJ2_clear.cls ≠ "java/lang/invoke/VarHandle" ∧ (parseMethodDescriptor yJ2_clear.desc).map (fun d => d.parameters.length) = some 0 := by decide +kernel
theorem hdJ2_get : yJ2_get.cls = RJ2 ∧ yJ2_get.cls ≠ "java/lang/invoke/MethodHandle" ∧ yJ2_get.cls ≠ "java/lang/invoke/VarHandle" ∧ (parseMethodDescriptor yJ2_get.desc).map (fun d => d.parameters.length) = some 1 := by decide +kernel
theorem hdJ2_isEmpty : yJ2_isEmpty.cls = RJ2 ∧ yJ2_isEmpty.cls ≠ "java/lang/invoke/MethodHandle" ∧ yJ2_isEmpty.cls ≠ "java/lang/invoke/VarHandle" ∧ (parseMethodDescriptor yJ2_isEmpty.desc).map (fun d => d.parameters.length) = some 0 := by decide +kernel
theorem hdJ2_iterator : yJ2_iterator.cls = RJ2 ∧ yJ2_iterator.cls ≠ "java/lang/invoke/MethodHandle" ∧ yJ2_iterator.cls ≠ "java/lang/invoke/VarHandle" ∧ (parseMethodDescriptor yJ2_iterator.desc).map (fun d => d.parameters.length) = some 0 := by decide +kernel
theorem hdJ2_remove_2 : yJ2_remove_2.cls = RJ2 ∧ yJ2_remove_2.cls ≠ "java/lang/invoke/MethodHandle" ∧ yJ2_remove_2.cls ≠ "java/lang/invoke/VarHandle" ∧ (parseMethodDescriptor yJ2_remove_2.desc).map (fun d => d.parameters.length) = some 1 := by decide +kernel
theorem hdJ2_remove : yJ2_remove.cls = RJ2 ∧ yJ2_remove.cls ≠ "java/lang/invoke/MethodHandle" ∧ yJ2_remove.cls ≠ "java/lang/invoke/VarHandle" ∧ (parseMethodDescriptor yJ2_remove.desc).map (fun d => d.parameters.length) = some 1 := by decide +kernel
theorem hdJ2_size : yJ2_size.cls = RJ2 ∧ yJ2_size.cls ≠ "java/lang/invoke/MethodHandle" ∧ yJ2_size.cls ≠ "java/lang/invoke/VarHandle" ∧ (parseMethodDescriptor yJ2_size.desc).map (fun d => d.parameters.length) = some 0 := by decide +kernel
theorem hdJ4_addAll : yJ4_addAll.cls = RJ4 ∧ yJ4_addAll.cls ≠ "java/lang/invoke/MethodHandle" ∧ yJ4_addAll.cls ≠ "java/lang/invoke/VarHandle" ∧ (parseMethodDescriptor yJ4_addAll.desc).map (fun d => d.parameters.length) = some 1 := by decide +kernel
theorem hdJ4_addLast : yJ4_addLast.cls = RJ4 ∧ yJ4_addLast.cls ≠ "java/lang/invoke/MethodHandle" ∧ yJ4_addLast.cls ≠ "java/lang/invoke/VarHandle" ∧ (parseMethodDescriptor yJ4_addLast.desc).map (fun d => d.parameters.length) = some 1 := by decide +kernel
theorem hdJ4_clear : yJ4_clear.cls = RJ4 ∧ yJ4_clear.cls ≠ "java/lang/invoke/MethodHandle" ∧ yJ4_clear.cls ≠ "java/lang/invoke/VarHandle" ∧ (parseMethodDescriptor yJ4_clear.desc).map (fun d => d.parameters.length) = some 0 := by decide +kernel
theorem hdJ4_get : yJ4_get.cls = RJ4 ∧ yJ4_get.cls ≠ "java/lang/invoke/MethodHandle" ∧ yJ4_get.cls ≠ "java/lang/invoke/VarHandle" ∧ (parseMethodDescriptor yJ4_get.desc).map (fun d => d.parameters.length) = some 1 := by decide +kernel
theorem hdJ4_remove : yJ4_remove.cls = RJ4 ∧ yJ4_remove.cls ≠ "java/lang/invoke/MethodHandle" ∧ yJ4_remove.cls ≠ "java/lang/invoke/VarHandle" ∧ (parseMethodDescriptor yJ4_remove.desc).map (fun d => d.parameters.length) = some 1 := by decide +kernel
theorem hdJ4_removeFirst : yJ4_removeFirst.cls = RJ4 ∧ yJ4_removeFirst.cls ≠ "java/lang/invoke/MethodHandle" ∧ yJ4_removeFirst.cls ≠ "java/lang/invoke/VarHandle" ∧ (parseMethodDescriptor yJ4_removeFirst.desc).map (fun d => d.parameters.length) = some 0 := by decide +kernel
theorem hdJ4_size : yJ4_size.cls = RJ4 ∧ yJ4_size.cls ≠ "java/lang/invoke/MethodHandle" ∧ yJ4_size.cls ≠ "java/lang/invoke/VarHandle" ∧ (parseMethodDescriptor yJ4_size.desc).map (fun d => d.parameters.length) = some 0 := by decide +kernel
theorem hdJ36_add : yJ36_add.cls = RJ36 ∧ yJ36_add.cls ≠ "java/lang/invoke/MethodHandle" ∧ yJ36_add.cls ≠ "java/lang/invoke/VarHandle" ∧ (parseMethodDescriptor yJ36_add.desc).map (fun d => d.parameters.length) = some 1 := by decide +kernel
theorem hdJ36_iterator : yJ36_iterator.cls = RJ36 ∧ yJ36_iterator.cls ≠ "java/lang/invoke/MethodHandle" ∧ yJ36_iterator.cls ≠ "java/lang/invoke/VarHandle" ∧ (parseMethodDescriptor yJ36_iterator.desc).map (fun d => d.parameters.length) = some 0 := by decide +kernel
theorem hdJ36_size : yJ36_size.cls = RJ36 ∧ yJ36_size.cls ≠ "java/lang/invoke/MethodHandle" ∧ yJ36_size.cls ≠ "java/lang/invoke/VarHandle" ∧ (parseMethodDescriptor yJ36_size.desc).map (fun d => d.parameters.length) = some 0 := by decide +kernel
theorem hsuX12_kind : yX12_kind.name ≠ "<init>" ∧ (parseMethodDescriptor yX12_kind.desc).map (fun d => d.parameters.length) = some 0 := by decide +kernel
theorem hsuX17_kind : yX17_kind.name ≠ "<init>" ∧ (parseMethodDescriptor yX17_kind.desc).map (fun d => d.parameters.length) = some 0 := by decide +kernel
theorem hsuX13_kind : yX13_kind.name ≠ "<init>" ∧ (parseMethodDescriptor yX13_kind.desc).map (fun d => d.parameters.length) = some 0 := by decide +kernel
theorem hdiX9_init : yX9_init.cls ≠ "java/lang/invoke/MethodHandle" ∧ yX9_init.cls ≠ "java/lang/invoke/VarHandle" ∧ (parseMethodDescriptor yX9_init.desc).map (fun d => d.parameters.length) = some 0 := by decide +kernel
theorem hdiX12_init : yX12_init.cls ≠ "java/lang/invoke/MethodHandle" ∧ yX12_init.cls ≠ "java/lang/invoke/VarHandle" ∧ (parseMethodDescriptor yX12_init.desc).map (fun d => d.parameters.length) = some 2 := by decide +kernel
theorem hdiX12_init_2 : yX12_init_2.cls ≠ "java/lang/invoke/MethodHandle" ∧ yX12_init_2.cls ≠ "java/lang/invoke/VarHandle" ∧ (parseMethodDescriptor yX12_init_2.desc).map (fun d => d.parameters.length) = some 3 := by decide +kernel
theorem hdiX10_init : yX10_init.cls ≠ "java/lang/invoke/MethodHandle" ∧ yX10_init.cls ≠ "java/lang/invoke/VarHandle" ∧ (parseMethodDescriptor yX10_init.desc).map (fun d => d.parameters.length) = some 2 := by decide +kernel
theorem hdiX10_init_2 : yX10_init_2.cls ≠ "java/lang/invoke/MethodHandle" ∧ yX10_init_2.cls ≠ "java/lang/invoke/VarHandle" ∧ (parseMethodDescriptor yX10_init_2.desc).map (fun d => d.parameters.length) = some 1 := by decide +kernel
theorem hdiX15_init : yX15_init.cls ≠ "java/lang/invoke/MethodHandle" ∧ yX15_init.cls ≠ "java/lang/invoke/VarHandle" ∧ (parseMethodDescriptor yX15_init.desc).map (fun d => d.parameters.length) = some 3 := by decide +kernel
theorem hdiX17_init_2 : yX17_init_2.cls ≠ "java/lang/invoke/MethodHandle" ∧ yX17_init_2.cls ≠ "java/lang/invoke/VarHandle" ∧ (parseMethodDescriptor yX17_init_2.desc).map (fun d => d.parameters.length) = some 4 := by decide +kernel
theorem hdiX17_init : yX17_init.cls ≠ "java/lang/invoke/MethodHandle" ∧ yX17_init.cls ≠ "java/lang/invoke/VarHandle" ∧ (parseMethodDescriptor yX17_init.desc).map (fun d => d.parameters.length) = some 2 := by decide +kernel
theorem hdiX7_init : yX7_init.cls ≠ "java/lang/invoke/MethodHandle" ∧ yX7_init.cls ≠ "java/lang/invoke/VarHandle" ∧ (parseMethodDescriptor yX7_init.desc).map (fun d => d.parameters.length) = some 1 := by decide +kernel
theorem hdiX19_init : yX19_init.cls ≠ "java/lang/invoke/MethodHandle" ∧ yX19_init.cls ≠ "java/lang/invoke/VarHandle" ∧ (parseMethodDescriptor yX19_init.desc).map (fun d => d.parameters.length) = some 2 := by decide +kernel
theorem hdiX16_init_2 : yX16_init_2.cls ≠ "java/lang/invoke/MethodHandle" ∧ yX16_init_2.cls ≠ "java/lang/invoke/VarHandle" ∧ (parseMethodDescriptor yX16_init_2.desc).map (fun d => d.parameters.length) = some 1 := by decide +kernel
theorem hdiX16_init : yX16_init.cls ≠ "java/lang/invoke/MethodHandle" ∧ yX16_init.cls ≠ "java/lang/invoke/VarHandle" ∧ (parseMethodDescriptor yX16_init.desc).map (fun d => d.parameters.length) = some 1 := by decide +kernel
theorem hdiX13_init : yX13_init.cls ≠ "java/lang/invoke/MethodHandle" ∧ yX13_init.cls ≠ "java/lang/invoke/VarHandle" ∧ (parseMethodDescriptor yX13_init.desc).map (fun d => d.parameters.length) = some 2 := by decide +kernel
theorem hdiX11_init : yX11_init.cls ≠ "java/lang/invoke/MethodHandle" ∧ yX11_init.cls ≠ "java/lang/invoke/VarHandle" ∧ (parseMethodDescriptor yX11_init.desc).map (fun d => d.parameters.length) = some 4 := by decide +kernel
theorem hdiX20_init : yX20_init.cls ≠ "java/lang/invoke/MethodHandle" ∧ yX20_init.cls ≠ "java/lang/invoke/VarHandle" ∧ (parseMethodDescriptor yX20_init.desc).map (fun d => d.parameters.length) = some 2 := by decide +kernel
theorem hdiX14_init : yX14_init.cls ≠ "java/lang/invoke/MethodHandle" ∧ yX14_init.cls ≠ "java/lang/invoke/VarHandle" ∧ (parseMethodDescriptor yX14_init.desc).map (fun d => d.parameters.length) = some 2 := by decide +kernel
theorem hdiX6_init : yX6_init.cls ≠ "java/lang/invoke/MethodHandle" ∧ yX6_init.cls ≠ "java/lang/invoke/VarHandle" ∧ (parseMethodDescriptor yX6_init.desc).map (fun d => d.parameters.length) = some 1 := by decide +kernel
theorem hdiX8_init : yX8_init.cls ≠ "java/lang/invoke/MethodHandle" ∧ yX8_init.cls ≠ "java/lang/invoke/VarHandle" ∧ (parseMethodDescriptor yX8_init.desc).map (fun d => d.parameters.length) = some 3 := by decide +kernel
theorem hdiX8_init_2 : yX8_init_2.cls ≠ "java/lang/invoke/MethodHandle" ∧ yX8_init_2.cls ≠ "java/lang/invoke/VarHandle" ∧ (parseMethodDescriptor yX8_init_2.desc).map (fun d => d.parameters.length) = some 1 := by decide +kernel
theorem hdiX5_init : yX5_init.cls ≠ "java/lang/invoke/MethodHandle" ∧ yX5_init.cls ≠ "java/lang/invoke/VarHandle" ∧ (parseMethodDescriptor yX5_init.desc).map (fun d => d.parameters.length) = some 1 := by decide +kernel
theorem hdiX4_init : yX4_init.cls ≠ "java/lang/invoke/MethodHandle" ∧ yX4_init.cls ≠ "java/lang/invoke/VarHandle" ∧ (parseMethodDescriptor yX4_init.desc).map (fun d => d.parameters.length) = some 1 := by decide +kernel
theorem hdiX18_init : yX18_init.cls ≠ "java/lang/invoke/MethodHandle" ∧ yX18_init.cls ≠ "java/lang/invoke/VarHandle" ∧ (parseMethodDescriptor yX18_init.desc).map (fun d => d.parameters.length) = some 2 := by decide +kernel
theorem hdiX2_init : yX2_init.cls ≠ "java/lang/invoke/MethodHandle" ∧ yX2_init.cls ≠ "java/lang/invoke/VarHandle" ∧ (parseMethodDescriptor yX2_init.desc).map (fun d => d.parameters.length) = some 0 := by decide +kernel
theorem hdiX1_init : yX1_init.cls ≠ "java/lang/invoke/MethodHandle" ∧ yX1_init.cls ≠ "java/lang/invoke/VarHandle" ∧ (parseMethodDescriptor yX1_init.desc).map (fun d => d.parameters.length) = some 0 := by decide +kernel
theorem hdiJ6_init_2 : yJ6_init_2.cls ≠ "java/lang/invoke/MethodHandle" ∧ yJ6_init_2.cls ≠ "java/lang/invoke/VarHandle" ∧ (parseMethodDescriptor yJ6_init_2.desc).map (fun d => d.parameters.length) = some 4 := by decide +kernel
theorem hdiJ7_init_2 : yJ7_init_2.cls ≠ "java/lang/invoke/MethodHandle" ∧ yJ7_init_2.cls ≠ "java/lang/invoke/VarHandle" ∧ (parseMethodDescriptor yJ7_init_2.desc).map (fun d => d.parameters.length) = some 4 := by decide +kernel
theorem hdiJ15_init : yJ15_init.cls ≠ "java/lang/invoke/MethodHandle" ∧ yJ15_init.cls ≠ "java/lang/invoke/VarHandle" ∧ (parseMethodDescriptor yJ15_init.desc).map (fun d => d.parameters.length) = some 0 := by decide +kernel
theorem hdiJ5_init_3 : yJ5_init_3.cls ≠ "java/lang/invoke/MethodHandle" ∧ yJ5_init_3.cls ≠ "java/lang/invoke/VarHandle" ∧ (parseMethodDescriptor yJ5_init_3.desc).map (fun d => d.parameters.length) = some 4 := by decide +kernel
theorem hdiJ28_init : yJ28_init.cls ≠ "java/lang/invoke/MethodHandle" ∧ yJ28_init.cls ≠ "java/lang/invoke/VarHandle" ∧ (parseMethodDescriptor yJ28_init.desc).map (fun d => d.parameters.length) = some 0 := by decide +kernel
theorem hdiJ2_init : yJ2_init.cls ≠ "java/lang/invoke/MethodHandle" ∧ yJ2_init.cls ≠ "java/lang/invoke/VarHandle" ∧ (parseMethodDescriptor yJ2_init.desc).map (fun d => d.parameters.length) = some 0 := by decide +kernel
theorem hdiJ4_init : yJ4_init.cls ≠ "java/lang/invoke/MethodHandle" ∧ yJ4_init.cls ≠ "java/lang/invoke/VarHandle" ∧ (parseMethodDescriptor yJ4_init.desc).map (fun d => d.parameters.length) = some 0 := by decide +kernel
theorem hdiJ36_init : yJ36_init.cls ≠ "java/lang/invoke/MethodHandle" ∧ yJ36_init.cls ≠ "java/lang/invoke/VarHandle" ∧ (parseMethodDescriptor yJ36_init.desc).map (fun d => d.parameters.length) = some 2 := by decide +kernel
theorem hduJ3_iterator : "java/util/AbstractSequentialList" ≠ "java/lang/invoke/MethodHandle" ∧ "java/util/AbstractSequentialList" ≠ "java/lang/invoke/VarHandle" ∧ (parseMethodDescriptor "()Ljava/util/Iterator;").map (fun d => d.parameters.length) = some 0 := by decide +kernel
theorem hdx_hasNext : ((⟨"java/util/Iterator", "hasNext", "()Z"⟩ : MethodName).cls ≠ "java/lang/invoke/MethodHandle" ∧ (⟨"java/util/Iterator", "hasNext", "()Z"⟩ : MethodName).cls ≠ "java/lang/invoke/VarHandle") ∧ ((⟨"java/util/Iterator", "hasNext", "()Z"⟩ : MethodName).cls ≠ "java/lang/invoke/MethodHandle" ∧ (⟨"java/util/Iterator", "hasNext", "()Z"⟩ : MethodName).cls ≠ "java/lang/invoke/VarHandle" ∧ (parseMethodDescriptor (⟨"java/util/Iterator", "hasNext", "()Z"⟩ : MethodName).desc).map (fun d => d.parameters.length) = some 0) := by decide +kernel
theorem hdx_next : ((⟨"java/util/Iterator", "next", "()Ljava/lang/Object;"⟩ : MethodName).cls ≠ "java/lang/invoke/MethodHandle" ∧ (⟨"java/util/Iterator", "next", "()Ljava/lang/Object;"⟩ : MethodName).cls ≠ "java/lang/invoke/VarHandle") ∧ ((⟨"java/util/Iterator", "next", "()Ljava/lang/Object;"⟩ : MethodName).cls ≠ "java/lang/invoke/MethodHandle" ∧ (⟨"java/util/Iterator", "next", "()Ljava/lang/Object;"⟩ : MethodName).cls ≠ "java/lang/invoke/VarHandle" ∧ (parseMethodDescriptor (⟨"java/util/Iterator", "next", "()Ljava/lang/Object;"⟩ : MethodName).desc).map (fun d => d.parameters.length) = some 0) := by decide +kernel
theorem hdx_remove : ((⟨"java/util/Iterator", "remove", "()V"⟩ : MethodName).cls ≠ "java/lang/invoke/MethodHandle" ∧ (⟨"java/util/Iterator", "remove", "()V"⟩ : MethodName).cls ≠ "java/lang/invoke/VarHandle") ∧ ((⟨"java/util/Iterator", "remove", "()V"⟩ : MethodName).cls ≠ "java/lang/invoke/MethodHandle" ∧ (⟨"java/util/Iterator", "remove", "()V"⟩ : MethodName).cls ≠ "java/lang/invoke/VarHandle" ∧ (parseMethodDescriptor (⟨"java/util/Iterator", "remove", "()V"⟩ : MethodName).desc).map (fun d => d.parameters.length) = some 0) := by decide +kernel
theorem tsw4 {x : Int32} (h0 : ¬ x = 0) (h1 : ¬ x = 1) (h2 : ¬ x = 2) (h3 : ¬ x = 3) (h4 : ¬ x = 4) : x.toInt < 0 ∨ 4 < x.toInt := by
  have g0 : ¬ x.toInt = 0 := fun e => h0 (Int32.toInt_inj.mp (e.trans (by decide)))
  have g1 : ¬ x.toInt = 1 := fun e => h1 (Int32.toInt_inj.mp (e.trans (by decide)))
  have g2 : ¬ x.toInt = 2 := fun e => h2 (Int32.toInt_inj.mp (e.trans (by decide)))
  have g3 : ¬ x.toInt = 3 := fun e => h3 (Int32.toInt_inj.mp (e.trans (by decide)))
  have g4 : ¬ x.toInt = 4 := fun e => h4 (Int32.toInt_inj.mp (e.trans (by decide)))
  omega
theorem tsw9 {x : Int32} (h0 : ¬ x = 0) (h1 : ¬ x = 1) (h2 : ¬ x = 2) (h3 : ¬ x = 3) (h4 : ¬ x = 4) (h5 : ¬ x = 5) (h6 : ¬ x = 6) (h7 : ¬ x = 7) (h8 : ¬ x = 8) (h9 : ¬ x = 9) : x.toInt < 0 ∨ 9 < x.toInt := by
  have g0 : ¬ x.toInt = 0 := fun e => h0 (Int32.toInt_inj.mp (e.trans (by decide)))
  have g1 : ¬ x.toInt = 1 := fun e => h1 (Int32.toInt_inj.mp (e.trans (by decide)))
  have g2 : ¬ x.toInt = 2 := fun e => h2 (Int32.toInt_inj.mp (e.trans (by decide)))
  have g3 : ¬ x.toInt = 3 := fun e => h3 (Int32.toInt_inj.mp (e.trans (by decide)))
  have g4 : ¬ x.toInt = 4 := fun e => h4 (Int32.toInt_inj.mp (e.trans (by decide)))
  have g5 : ¬ x.toInt = 5 := fun e => h5 (Int32.toInt_inj.mp (e.trans (by decide)))
  have g6 : ¬ x.toInt = 6 := fun e => h6 (Int32.toInt_inj.mp (e.trans (by decide)))
  have g7 : ¬ x.toInt = 7 := fun e => h7 (Int32.toInt_inj.mp (e.trans (by decide)))
  have g8 : ¬ x.toInt = 8 := fun e => h8 (Int32.toInt_inj.mp (e.trans (by decide)))
  have g9 : ¬ x.toInt = 9 := fun e => h9 (Int32.toInt_inj.mp (e.trans (by decide)))
  omega
theorem gE_L {G : gG} {U : State} {H : Heap} (h : gE G U H) : gL G U H := h.2.2.2.2.2.2.2.2.1
theorem ly1 : yX0_lambda_manyOut_0 = ⟨lsh1.implClass, lsh1.implName, lsh1.implDesc.toString⟩ := by decide +kernel
theorem ly2 : yX0_lambda_queueOf_1 = ⟨lsh2.implClass, lsh2.implName, lsh2.implDesc.toString⟩ := by decide +kernel
theorem ly3 : yX0_lambda_held_2 = ⟨lsh3.implClass, lsh3.implName, lsh3.implDesc.toString⟩ := by decide +kernel
theorem ly4 : yX0_lambda_messageOf_3 = ⟨lsh4.implClass, lsh4.implName, lsh4.implDesc.toString⟩ := by decide +kernel
theorem ly5 : yX0_lambda_blocked_4 = ⟨lsh5.implClass, lsh5.implName, lsh5.implDesc.toString⟩ := by decide +kernel
theorem ly6 : yX1_lambda_answers_0 = ⟨lsh6.implClass, lsh6.implName, lsh6.implDesc.toString⟩ := by decide +kernel
theorem ly7 : yX0_lambda_status_5 = ⟨lsh7.implClass, lsh7.implName, lsh7.implDesc.toString⟩ := by decide +kernel
theorem ly8 : yX0_lambda_status_6 = ⟨lsh8.implClass, lsh8.implName, lsh8.implDesc.toString⟩ := by decide +kernel
section
variable {p : Program} {l : Launch} {e : Env} {s : State} {m : MethodId} {args : Array Value} {below : List Frame} {meth : Method} {c : Code} {G : gG} {Rp : gM → gM → Nat → Prop} {mc ms : Nat}
section
variable {r : Int32} {Sf : gS}
def fX0_isIn (l0 : Int32) (l1 : Int32) (l2 : Int32) (S : gS) : gO Int32 :=
  if l0 < l1 then
    zg (nI 0) S
  else
    if l2 < l0 then
      zg (nI 0) S
    else
      zg (nI 1) S
theorem wX0_isIn_b0 (hk : rOK Rp) (hJ : JDK l G Rp) (hc : gC p s m args meth c G RX0 "isIn" cX0_isIn 3 (some .boolean)) (l0 : Int32) (l1 : Int32) (l2 : Int32) (S : gS) (H : Heap) (locs : List Loc) (ls : Array Slot) (kc ks C N : Nat) (hkc : kc + C ≤ mc) (hks : ks + N ≤ ms) (hH : hp G Rp S H) (hS : va_S G.2.2.2 s.heap H locs) (hl : lv_has ls 3 [(0, .int l0), (1, .int l1), (2, .int l2)]) (hf : fX0_isIn l0 l1 l2 S = some (r, Sf, C, N)) : W p l e (gR 1 40 mc ms) s m args below meth c H locs kc ks (gQ below G Rp (some (.int r)) Sf args s mc ms) (F0 m 0 ls []) := by
  obtain ⟨hx, hb, hr, hlk, hml, hown, hts, hE, hA, hnm⟩ := hc
  have hc : gC p s m args meth c G RX0 "isIn" cX0_isIn 3 (some .boolean) := ⟨hx, hb, hr, hlk, hml, hown, hts, hE, hA, hnm⟩
  unfold fX0_isIn at hf
  refine lv_iload_n (pc := 0) hx hb dX0_isIn_0 rfl (lv_at hl 0 rfl) ?_
  refine lv_iload_n (pc := 1) hx hb dX0_isIn_1 rfl (lv_at hl 1 rfl) ?_
  refine lv_icmp_lt (pc := 2) (tgt := 14) hx hb dX0_isIn_2 (by decide) (fun c1 => ?_) (fun c1 => ?_)
  · rw [if_pos c1] at hf
    refine lv_iconst (pc := 14) (v := nI 0) hx hb dX0_isIn_14 rfl ?_
    exact g_zret (pc := 15) hx hb hr hlk hH hS hkc hks hf dX0_isIn_15
  · rw [if_neg c1] at hf
    refine lv_iload_n (pc := 5) hx hb dX0_isIn_5 rfl (lv_at hl 0 rfl) ?_
    refine lv_iload_n (pc := 6) hx hb dX0_isIn_6 rfl (lv_at hl 2 rfl) ?_
    refine lv_icmp_gt (pc := 7) (tgt := 14) hx hb dX0_isIn_7 (by decide) (fun c2 => ?_) (fun c2 => ?_)
    · rw [if_pos c2] at hf
      refine lv_iconst (pc := 14) (v := nI 0) hx hb dX0_isIn_14 rfl ?_
      exact g_zret (pc := 15) hx hb hr hlk hH hS hkc hks hf dX0_isIn_15
    · rw [if_neg c2] at hf
      refine lv_iconst (pc := 10) (v := nI 1) hx hb dX0_isIn_10 rfl ?_
      refine lv_goto (pc := 11) (tgt := 15) hx hb dX0_isIn_11 (by decide) ?_
      exact g_zret (pc := 15) hx hb hr hlk hH hS hkc hks hf dX0_isIn_15
theorem mX0_isIn {l : Launch} {G : gG} {Rp : gM → gM → Nat → Prop} (hk : rOK Rp) (hJ : JDK l G Rp) {S S2 : gS} {r2 : Int32} {C N : Nat} {l0 : Int32} {l1 : Int32} {l2 : Int32} (hf : fX0_isIn l0 l1 l2 S = some (r2, S2, C, N)) : gMet l yX0_isIn cX0_isIn 3 (some .boolean) 1 40 G Rp [.int l0, .int l1, .int l2] S (some (.int r2)) S2 C N := by
  refine g_start (by decide) (Nat.le_of_ble_eq_true rfl) (fun p e s m args below meth c ls hc hl hH => ?_)
  have hl : lv_has ls 3 [(0, .int l0), (1, .int l1), (2, .int l2)] := hl
  exact wX0_isIn_b0 hk hJ hc l0 l1 l2 S _ _ ls 0 0 C N (by omega) (by omega) hH va_S.rf (lv_sub hl [0, 1, 2] rfl) hf
end
section
variable {r : Int32} {Sf : gS}
def fX0_isConsumer (l0 : Nat) (l1 : Int32) (S : gS) : gO Int32 :=
  bd (rdR S l0 0 0) fun v1 =>
  bd v1 fun a2 =>
  bd (rdR S a2 1 1) fun v3 =>
  bd v3 fun a5 =>
  gb (nAL_size a5  S) fun v4 S4 =>
  gb (fX0_isIn l1 (nI 0) (v4 - (nI 1)) S4) fun v6 S6 =>
  zg v6 S6
theorem wX0_isConsumer_b0 (hk : rOK Rp) (hJ : JDK l G Rp) (hc : gC p s m args meth c G RX0 "isConsumer" cX0_isConsumer 2 (some .boolean)) (l0 : Nat) (l1 : Int32) (S : gS) (H : Heap) (locs : List Loc) (ls : Array Slot) (kc ks C N : Nat) (hkc : kc + C ≤ mc) (hks : ks + N ≤ ms) (hH : hp G Rp S H) (hS : va_S G.2.2.2 s.heap H locs) (hl : lv_has ls 2 [(0, .ref l0), (1, .int l1)]) (hf : fX0_isConsumer l0 l1 S = some (r, Sf, C, N)) : W p l e (gR 15 540 mc ms) s m args below meth c H locs kc ks (gQ below G Rp (some (.int r)) Sf args s mc ms) (F0 m 0 ls []) := by
  obtain ⟨hx, hb, hr, hlk, hml, hown, hts, hE, hA, hnm⟩ := hc
  have hc : gC p s m args meth c G RX0 "isConsumer" cX0_isConsumer 2 (some .boolean) := ⟨hx, hb, hr, hlk, hml, hown, hts, hE, hA, hnm⟩
  unfold fX0_isConsumer at hf
  refine lv_iload_n (pc := 0) hx hb dX0_isConsumer_0 rfl (lv_at hl 1 rfl) ?_
  refine lv_iconst (pc := 1) (v := nI 0) hx hb dX0_isConsumer_1 rfl ?_
  refine lv_aload_n (pc := 2) hx hb dX0_isConsumer_2 rfl (lv_at hl 0 rfl) ?_
  obtain ⟨v1, e1, hf⟩ := bdo hf
  refine g_get (pc := 3) (o := (some l0)) (a := l0) (ci := 0) (k := 0) (v := va_rf v1) (C := RX0) (T := TX0) (N := 7) hx hb hts hown hE hk hH in_X0 rfl (by decide) (hts _ q272) (fun _ h9 => h9) rfl (rdR_o e1) dX0_isConsumer_3 ?_
  obtain ⟨a2, ea2, hf⟩ := bdo hf
  obtain ⟨v3, e3, hf⟩ := bdo hf
  refine g_get (pc := 6) (o := v1) (a := a2) (ci := 1) (k := 1) (v := va_rf v3) (C := RX1) (T := TX1) (N := 7) hx hb hts hown hE hk hH in_X1 rfl (by decide) (hts _ q234) (fun _ h9 => h9) ea2 (rdR_o e3) dX0_isConsumer_6 ?_
  obtain ⟨a5, ea5, hf⟩ := bdo hf
  obtain ⟨v4, S4, c4, n4, c2_4, n2_4, e4, hf, hC4, hN4⟩ := gbo hf
  refine g_callV (pc := 9) (o := v3) (b := a5) (As := []) (rest := [.int (nI 0), .int l1]) (st1 := [.int v4, .int (nI 0), .int l1]) hc (j_nAL_size hJ a5  S v4 S4 c4 n4 e4) (cwV 0 hts (lw_V q1134 q1120 q1121 q101 q1122) rfl rfl rfl hdJ2_size ⟨Nat.le_of_ble_eq_true rfl, Nat.le_of_ble_eq_true rfl⟩) (j_recv hJ _ _ _ _ 0 _ _ hE hH hS (adtR (t := 0) (show bd _ _ = some _ from e4)).choose_spec) ea5 rfl hl.1 rfl rfl (lv_room (Nat.le_of_ble_eq_true rfl)) dX0_isConsumer_9 hH hS (by omega) (by omega) (fun H locs hH hS => ?_)
  have hkc : kc + c4 + c2_4 ≤ mc := by omega
  have hks : ks + n4 + n2_4 ≤ ms := by omega
  refine lv_iconst (pc := 12) (v := nI 1) hx hb dX0_isConsumer_12 rfl ?_
  refine lv_isub (pc := 13) hx hb dX0_isConsumer_13 ?_
  obtain ⟨v6, S6, c6, n6, c2_6, n2_6, e6, hf, hC6, hN6⟩ := gbo hf
  refine g_callS (pc := 14) (As := [.int l1, .int (nI 0), .int (v4 - (nI 1))]) (rest := []) (st1 := [.int v6]) hc (mX0_isIn hk hJ (l0 := l1) (l1 := (nI 0)) (l2 := (v4 - (nI 1))) e6) (va_cwS 3 hts (lw_S q395 q396 q97 q397) rfl rfl rfl hdX0_isIn ⟨Nat.le_of_ble_eq_true rfl, Nat.le_of_ble_eq_true rfl⟩) rfl hl.1 rfl rfl (lv_room (Nat.le_of_ble_eq_true rfl)) dX0_isConsumer_14 hH hS (by omega) (by omega) (fun H locs hH hS => ?_)
  have hkc : kc + c4 + c6 + c2_6 ≤ mc := by omega
  have hks : ks + n4 + n6 + n2_6 ≤ ms := by omega
  exact g_zret (pc := 17) hx hb hr hlk hH hS hkc hks hf dX0_isConsumer_17
theorem mX0_isConsumer {l : Launch} {G : gG} {Rp : gM → gM → Nat → Prop} (hk : rOK Rp) (hJ : JDK l G Rp) {S S2 : gS} {r2 : Int32} {C N : Nat} {l0 : Nat} {l1 : Int32} (hf : fX0_isConsumer l0 l1 S = some (r2, S2, C, N)) : gMet l yX0_isConsumer cX0_isConsumer 2 (some .boolean) 15 540 G Rp [.ref l0, .int l1] S (some (.int r2)) S2 C N := by
  refine g_start (by decide) (Nat.le_of_ble_eq_true rfl) (fun p e s m args below meth c ls hc hl hH => ?_)
  have hl : lv_has ls 2 [(0, .ref l0), (1, .int l1)] := hl
  exact wX0_isConsumer_b0 hk hJ hc l0 l1 S _ _ ls 0 0 C N (by omega) (by omega) hH va_S.rf (lv_sub hl [0, 1] rfl) hf
end
section
variable {r : Int32} {Sf : gS}
def fX0_isHere (l0 : Nat) (l1 : Int32) (S : gS) : gO Int32 :=
  bd (chk S l0 0) fun _ =>
  gb (fX0_isConsumer l0 l1 S) fun v1 S1 =>
  if v1 = 0 then
    zg (nI 0) S1
  else
    bd (rdR S1 l0 0 0) fun v3 =>
    bd v3 fun a4 =>
    bd (rdR S1 a4 1 1) fun v5 =>
    bd v5 fun a7 =>
    gb (nAL_get a7 l1 S1) fun v6 S6 =>
    bd (ckc S6 v6 6) fun _ =>
    bd v6 fun a9 =>
    bd (rdI S6 a9 6 4) fun v10 =>
    if v10 = 0 then
      zg (nI 1) S6
    else
      zg (nI 0) S6
theorem wX0_isHere_b0 (hk : rOK Rp) (hJ : JDK l G Rp) (hc : gC p s m args meth c G RX0 "isHere" cX0_isHere 2 (some .boolean)) (l0 : Nat) (l1 : Int32) (S : gS) (H : Heap) (locs : List Loc) (ls : Array Slot) (kc ks C N : Nat) (hkc : kc + C ≤ mc) (hks : ks + N ≤ ms) (hH : hp G Rp S H) (hS : va_S G.2.2.2 s.heap H locs) (hl : lv_has ls 2 [(0, .ref l0), (1, .int l1)]) (hf : fX0_isHere l0 l1 S = some (r, Sf, C, N)) : W p l e (gR 16 561 mc ms) s m args below meth c H locs kc ks (gQ below G Rp (some (.int r)) Sf args s mc ms) (F0 m 0 ls []) := by
  obtain ⟨hx, hb, hr, hlk, hml, hown, hts, hE, hA, hnm⟩ := hc
  have hc : gC p s m args meth c G RX0 "isHere" cX0_isHere 2 (some .boolean) := ⟨hx, hb, hr, hlk, hml, hown, hts, hE, hA, hnm⟩
  unfold fX0_isHere at hf
  refine lv_aload_n (pc := 0) hx hb dX0_isHere_0 rfl (lv_at hl 0 rfl) ?_
  refine lv_iload_n (pc := 1) hx hb dX0_isHere_1 rfl (lv_at hl 1 rfl) ?_
  obtain ⟨_, ek1, hf⟩ := bdo hf
  obtain ⟨v1, S1, c1, n1, c2_1, n2_1, e1, hf, hC1, hN1⟩ := gbo hf
  refine g_callV (pc := 2) (o := (some l0)) (b := l0) (As := [.int l1]) (rest := []) (st1 := [.int v1]) hc (mX0_isConsumer hk hJ (l0 := l0) (l1 := l1) e1) (cwV 1 hts (lw_V q1278 q1280 qs20 q97 q1281) rfl rfl rfl hdX0_isConsumer ⟨Nat.le_of_ble_eq_true rfl, Nat.le_of_ble_eq_true rfl⟩) (g_recv hE hk hH (ci := 0) (q := (RX0, TX0, 7)) rfl (chk_o ek1).choose_spec) rfl rfl hl.1 rfl rfl (lv_room (Nat.le_of_ble_eq_true rfl)) dX0_isHere_2 hH hS (by omega) (by omega) (fun H locs hH hS => ?_)
  have hkc : kc + c1 + c2_1 ≤ mc := by omega
  have hks : ks + n1 + n2_1 ≤ ms := by omega
  refine lv_if_eq (pc := 5) (tgt := 32) hx hb dX0_isHere_5 (by decide) (fun c2 => ?_) (fun c2 => ?_)
  · rw [if_pos c2] at hf
    refine lv_iconst (pc := 32) (v := nI 0) hx hb dX0_isHere_32 rfl ?_
    exact g_zret (pc := 33) hx hb hr hlk hH hS hkc hks hf dX0_isHere_33
  · rw [if_neg c2] at hf
    refine lv_aload_n (pc := 8) hx hb dX0_isHere_8 rfl (lv_at hl 0 rfl) ?_
    obtain ⟨v3, e3, hf⟩ := bdo hf
    refine g_get (pc := 9) (o := (some l0)) (a := l0) (ci := 0) (k := 0) (v := va_rf v3) (C := RX0) (T := TX0) (N := 7) hx hb hts hown hE hk hH in_X0 rfl (by decide) (hts _ q272) (fun _ h9 => h9) rfl (rdR_o e3) dX0_isHere_9 ?_
    obtain ⟨a4, ea4, hf⟩ := bdo hf
    obtain ⟨v5, e5, hf⟩ := bdo hf
    refine g_get (pc := 12) (o := v3) (a := a4) (ci := 1) (k := 1) (v := va_rf v5) (C := RX1) (T := TX1) (N := 7) hx hb hts hown hE hk hH in_X1 rfl (by decide) (hts _ q234) (fun _ h9 => h9) ea4 (rdR_o e5) dX0_isHere_12 ?_
    refine lv_iload_n (pc := 15) hx hb dX0_isHere_15 rfl (lv_at hl 1 rfl) ?_
    obtain ⟨a7, ea7, hf⟩ := bdo hf
    obtain ⟨v6, S6, c6, n6, c2_6, n2_6, e6, hf, hC6, hN6⟩ := gbo hf
    refine g_callV (pc := 16) (o := v5) (b := a7) (As := [.int l1]) (rest := []) (st1 := [va_rf v6]) hc (j_nAL_get hJ a7 l1 S1 v6 S6 c6 n6 e6) (cwV 1 hts (lw_V q1222 q1223 q1224 q101 q1225) rfl rfl rfl hdJ2_get ⟨Nat.le_of_ble_eq_true rfl, Nat.le_of_ble_eq_true rfl⟩) (j_recv hJ _ _ _ _ 0 _ _ hE hH hS (adtR (t := 0) (show bd _ _ = some _ from e6)).choose_spec) ea7 rfl hl.1 rfl rfl (lv_room (Nat.le_of_ble_eq_true rfl)) dX0_isHere_16 hH hS (by omega) (by omega) (fun H locs hH hS => ?_)
    have hkc : kc + c1 + c6 + c2_6 ≤ mc := by omega
    have hks : ks + n1 + n6 + n2_6 ≤ ms := by omega
    obtain ⟨_, e8, hf⟩ := bdo hf
    refine g_cast (pc := 19) (o := v6) (ci := 6) (C := RX10) (T := TX10) (N := 5) hx hb hts hown hE hk hH rfl q1238 e8 dX0_isHere_19 ?_
    obtain ⟨a9, ea9, hf⟩ := bdo hf
    obtain ⟨v10, e10, hf⟩ := bdo hf
    refine g_get (pc := 22) (o := v6) (a := a9) (ci := 6) (k := 4) (v := .int v10) (C := RX10) (T := TX10) (N := 5) hx hb hts hown hE hk hH in_X10 rfl (by decide) (hts _ q1258) (fun _ h9 => h9) ea9 (rdI_o e10) dX0_isHere_22 ?_
    refine lv_if_ne (pc := 25) (tgt := 32) hx hb dX0_isHere_25 (by decide) (fun c11 => ?_) (fun c11 => ?_)
    · rw [if_neg c11] at hf
      refine lv_iconst (pc := 32) (v := nI 0) hx hb dX0_isHere_32 rfl ?_
      exact g_zret (pc := 33) hx hb hr hlk hH hS hkc hks hf dX0_isHere_33
    · rw [if_pos c11] at hf
      refine lv_iconst (pc := 28) (v := nI 1) hx hb dX0_isHere_28 rfl ?_
      refine lv_goto (pc := 29) (tgt := 33) hx hb dX0_isHere_29 (by decide) ?_
      exact g_zret (pc := 33) hx hb hr hlk hH hS hkc hks hf dX0_isHere_33
theorem mX0_isHere {l : Launch} {G : gG} {Rp : gM → gM → Nat → Prop} (hk : rOK Rp) (hJ : JDK l G Rp) {S S2 : gS} {r2 : Int32} {C N : Nat} {l0 : Nat} {l1 : Int32} (hf : fX0_isHere l0 l1 S = some (r2, S2, C, N)) : gMet l yX0_isHere cX0_isHere 2 (some .boolean) 16 561 G Rp [.ref l0, .int l1] S (some (.int r2)) S2 C N := by
  refine g_start (by decide) (Nat.le_of_ble_eq_true rfl) (fun p e s m args below meth c ls hc hl hH => ?_)
  have hl : lv_has ls 2 [(0, .ref l0), (1, .int l1)] := hl
  exact wX0_isHere_b0 hk hJ hc l0 l1 S _ _ ls 0 0 C N (by omega) (by omega) hH va_S.rf (lv_sub hl [0, 1] rfl) hf
end
section
variable {r : Int32} {Sf : gS}
def fX16_isHeldBy (l0 : Nat) (l1 : Int32) (S : gS) : gO Int32 :=
  bd (rdI S l0 4 1) fun v1 =>
  if v1 = (nI 2) then
    bd (rdI S l0 4 4) fun v3 =>
    if v3 = l1 then
      zg (nI 1) S
    else
      zg (nI 0) S
  else
    zg (nI 0) S
theorem wX16_isHeldBy_b0 (hk : rOK Rp) (hJ : JDK l G Rp) (hc : gC p s m args meth c G RX16 "isHeldBy" cX16_isHeldBy 2 (some .boolean)) (l0 : Nat) (l1 : Int32) (S : gS) (H : Heap) (locs : List Loc) (ls : Array Slot) (kc ks C N : Nat) (hkc : kc + C ≤ mc) (hks : ks + N ≤ ms) (hH : hp G Rp S H) (hS : va_S G.2.2.2 s.heap H locs) (hl : lv_has ls 2 [(0, .ref l0), (1, .int l1)]) (hf : fX16_isHeldBy l0 l1 S = some (r, Sf, C, N)) : W p l e (gR 1 40 mc ms) s m args below meth c H locs kc ks (gQ below G Rp (some (.int r)) Sf args s mc ms) (F0 m 0 ls []) := by
  obtain ⟨hx, hb, hr, hlk, hml, hown, hts, hE, hA, hnm⟩ := hc
  have hc : gC p s m args meth c G RX16 "isHeldBy" cX16_isHeldBy 2 (some .boolean) := ⟨hx, hb, hr, hlk, hml, hown, hts, hE, hA, hnm⟩
  unfold fX16_isHeldBy at hf
  refine lv_aload_n (pc := 0) hx hb dX16_isHeldBy_0 rfl (lv_at hl 0 rfl) ?_
  obtain ⟨v1, e1, hf⟩ := bdo hf
  refine g_get (pc := 1) (o := (some l0)) (a := l0) (ci := 4) (k := 1) (v := .int v1) (C := RX16) (T := TX16) (N := 6) hx hb hts hown hE hk hH in_X16 rfl (by decide) (hts _ q1713) (fun _ h9 => h9) rfl (rdI_o e1) dX16_isHeldBy_1 ?_
  refine lv_iconst (pc := 4) (v := nI 2) hx hb dX16_isHeldBy_4 rfl ?_
  refine lv_icmp_ne (pc := 5) (tgt := 20) hx hb dX16_isHeldBy_5 (by decide) (fun c2 => ?_) (fun c2 => ?_)
  · rw [if_neg c2] at hf
    refine lv_iconst (pc := 20) (v := nI 0) hx hb dX16_isHeldBy_20 rfl ?_
    exact g_zret (pc := 21) hx hb hr hlk hH hS hkc hks hf dX16_isHeldBy_21
  · rw [if_pos c2] at hf
    refine lv_aload_n (pc := 8) hx hb dX16_isHeldBy_8 rfl (lv_at hl 0 rfl) ?_
    obtain ⟨v3, e3, hf⟩ := bdo hf
    refine g_get (pc := 9) (o := (some l0)) (a := l0) (ci := 4) (k := 4) (v := .int v3) (C := RX16) (T := TX16) (N := 6) hx hb hts hown hE hk hH in_X16 rfl (by decide) (hts _ q1725) (fun _ h9 => h9) rfl (rdI_o e3) dX16_isHeldBy_9 ?_
    refine lv_iload_n (pc := 12) hx hb dX16_isHeldBy_12 rfl (lv_at hl 1 rfl) ?_
    refine lv_icmp_ne (pc := 13) (tgt := 20) hx hb dX16_isHeldBy_13 (by decide) (fun c4 => ?_) (fun c4 => ?_)
    · rw [if_neg c4] at hf
      refine lv_iconst (pc := 20) (v := nI 0) hx hb dX16_isHeldBy_20 rfl ?_
      exact g_zret (pc := 21) hx hb hr hlk hH hS hkc hks hf dX16_isHeldBy_21
    · rw [if_pos c4] at hf
      refine lv_iconst (pc := 16) (v := nI 1) hx hb dX16_isHeldBy_16 rfl ?_
      refine lv_goto (pc := 17) (tgt := 21) hx hb dX16_isHeldBy_17 (by decide) ?_
      exact g_zret (pc := 21) hx hb hr hlk hH hS hkc hks hf dX16_isHeldBy_21
theorem mX16_isHeldBy {l : Launch} {G : gG} {Rp : gM → gM → Nat → Prop} (hk : rOK Rp) (hJ : JDK l G Rp) {S S2 : gS} {r2 : Int32} {C N : Nat} {l0 : Nat} {l1 : Int32} (hf : fX16_isHeldBy l0 l1 S = some (r2, S2, C, N)) : gMet l yX16_isHeldBy cX16_isHeldBy 2 (some .boolean) 1 40 G Rp [.ref l0, .int l1] S (some (.int r2)) S2 C N := by
  refine g_start (by decide) (Nat.le_of_ble_eq_true rfl) (fun p e s m args below meth c ls hc hl hH => ?_)
  have hl : lv_has ls 2 [(0, .ref l0), (1, .int l1)] := hl
  exact wX16_isHeldBy_b0 hk hJ hc l0 l1 S _ _ ls 0 0 C N (by omega) (by omega) hH va_S.rf (lv_sub hl [0, 1] rfl) hf
end
section
variable {r : Option Nat} {Sf : gS}
def fX1_held_b31 : Nat → Int32 → Int32 → (Option Nat) → Int32 → gS → gO (Option Nat)
  | 0, _, _, _, _, _ => none
  | n + 1, l1, l2, l3, l4, S =>
    bd l3 fun a2 =>
    gb (nAL_size a2  S) fun v1 S1 =>
    if v1 ≤ l4 then
      some (none, S1, 0, 0)
    else
      gb (nAL_get a2 l4 S1) fun v4 S4 =>
      bd (ckc S4 v4 4) fun _ =>
      bd v4 fun a6 =>
      bd (rdR S4 a6 4 0) fun v7 =>
      bd v7 fun a8 =>
      bd (rdI S4 a8 5 0) fun v9 =>
      if v9 = l2 then
        gb (nAL_get a2 l4 S4) fun v11 S11 =>
        bd (ckc S11 v11 4) fun _ =>
        bd v11 fun a14 =>
        bd (chk S11 a14 4) fun _ =>
        gb (fX16_isHeldBy a14 l1 S11) fun v13 S13 =>
        if v13 = 0 then
          fX1_held_b31 n l1 l2 l3 (l4 + (nI 1)) S13
        else
          gb (nAL_get a2 l4 S13) fun v16 S16 =>
          bd (ckc S16 v16 4) fun _ =>
          some (v16, S16, 0, 0)
      else
        fX1_held_b31 n l1 l2 l3 (l4 + (nI 1)) S4
theorem wX1_held_b31 (hk : rOK Rp) (hJ : JDK l G Rp) (hc : gC p s m args meth c G RX1 "held" cX1_held 5 (some (.object "CreditBroker$Letter"))) : ∀ (n : Nat) (l1 : Int32) (l2 : Int32) (l3 : Option Nat) (l4 : Int32) (S : gS) (H : Heap) (locs : List Loc) (ls : Array Slot) (kc ks C N : Nat), kc + C ≤ mc → ks + N ≤ ms → hp G Rp S H → va_S G.2.2.2 s.heap H locs → lv_has ls 5 [(1, .int l1), (2, .int l2), (3, va_rf l3), (4, .int l4)] → fX1_held_b31 n l1 l2 l3 l4 S = some (r, Sf, C, N) → W p l e (gR 15 540 mc ms) s m args below meth c H locs kc ks (gQ below G Rp (some (va_rf r)) Sf args s mc ms) (F0 m 31 ls []) := by
  obtain ⟨hx, hb, hr, hlk, hml, hown, hts, hE, hA, hnm⟩ := hc
  have hc : gC p s m args meth c G RX1 "held" cX1_held 5 (some (.object "CreditBroker$Letter")) := ⟨hx, hb, hr, hlk, hml, hown, hts, hE, hA, hnm⟩
  intro n
  induction n with
  | zero => intro l1 l2 l3 l4 S H locs ls kc ks C N _ _ _ _ _ hf; exact absurd hf (fun h => by cases h)
  | succ n ih =>
    intro l1 l2 l3 l4 S H locs ls kc ks C N hkc hks hH hS hl hf
    rw [fX1_held_b31] at hf
    refine lv_iload (pc := 31) hx hb dX1_held_31 (lv_at hl 3 rfl) ?_
    refine g_aload_n (pc := 33) (o := l3) hx hb dX1_held_33 rfl (lv_at hl 2 rfl) ?_
    obtain ⟨a2, ea2, hf⟩ := bdo hf
    obtain ⟨v1, S1, c1, n1, c2_1, n2_1, e1, hf, hC1, hN1⟩ := gbo hf
    refine g_callV (pc := 34) (o := l3) (b := a2) (As := []) (rest := [.int l4]) (st1 := [.int v1, .int l4]) hc (j_nAL_size hJ a2  S v1 S1 c1 n1 e1) (cwV 0 hts (lw_V q1539 q1120 q1121 q101 q1122) rfl rfl rfl hdJ2_size ⟨Nat.le_of_ble_eq_true rfl, Nat.le_of_ble_eq_true rfl⟩) (j_recv hJ _ _ _ _ 0 _ _ hE hH hS (adtR (t := 0) (show bd _ _ = some _ from e1)).choose_spec) ea2 rfl hl.1 rfl rfl (lv_room (Nat.le_of_ble_eq_true rfl)) dX1_held_34 hH hS (by omega) (by omega) (fun H locs hH hS => ?_)
    have hkc : kc + c1 + c2_1 ≤ mc := by omega
    have hks : ks + n1 + n2_1 ≤ ms := by omega
    refine lv_icmp_ge (pc := 37) (tgt := 91) hx hb dX1_held_37 (by decide) (fun c3 => ?_) (fun c3 => ?_)
    · rw [if_pos c3] at hf
      refine lv_null (pc := 91) hx hb dX1_held_91 ?_
      exact g_aret (pc := 92) (v := none) hx hb hr (Or.inl ⟨_, rfl⟩) hlk hH hS hkc hks hf dX1_held_92
    · rw [if_neg c3] at hf
      refine g_aload_n (pc := 40) (o := l3) hx hb dX1_held_40 rfl (lv_at hl 2 rfl) ?_
      refine lv_iload (pc := 41) hx hb dX1_held_41 (lv_at hl 3 rfl) ?_
      obtain ⟨v4, S4, c4, n4, c2_4, n2_4, e4, hf, hC4, hN4⟩ := gbo hf
      refine g_callV (pc := 43) (o := l3) (b := a2) (As := [.int l4]) (rest := []) (st1 := [va_rf v4]) hc (j_nAL_get hJ a2 l4 S1 v4 S4 c4 n4 e4) (cwV 1 hts (lw_V q1290 q1223 q1224 q101 q1225) rfl rfl rfl hdJ2_get ⟨Nat.le_of_ble_eq_true rfl, Nat.le_of_ble_eq_true rfl⟩) (j_recv hJ _ _ _ _ 0 _ _ hE hH hS (adtR (t := 0) (show bd _ _ = some _ from e4)).choose_spec) ea2 rfl hl.1 rfl rfl (lv_room (Nat.le_of_ble_eq_true rfl)) dX1_held_43 hH hS (by omega) (by omega) (fun H locs hH hS => ?_)
      have hkc : kc + c1 + c4 + c2_4 ≤ mc := by omega
      have hks : ks + n1 + n4 + n2_4 ≤ ms := by omega
      obtain ⟨_, e5, hf⟩ := bdo hf
      refine g_cast (pc := 46) (o := v4) (ci := 4) (C := RX16) (T := TX16) (N := 6) hx hb hts hown hE hk hH rfl q1512 e5 dX1_held_46 ?_
      obtain ⟨a6, ea6, hf⟩ := bdo hf
      obtain ⟨v7, e7, hf⟩ := bdo hf
      refine g_get (pc := 49) (o := v4) (a := a6) (ci := 4) (k := 0) (v := va_rf v7) (C := RX16) (T := TX16) (N := 6) hx hb hts hown hE hk hH in_X16 rfl (by decide) (hts _ q1710) (fun _ h9 => h9) ea6 (rdR_o e7) dX1_held_49 ?_
      obtain ⟨a8, ea8, hf⟩ := bdo hf
      obtain ⟨v9, e9, hf⟩ := bdo hf
      refine g_get (pc := 52) (o := v7) (a := a8) (ci := 5) (k := 0) (v := .int v9) (C := RX11) (T := TX11) (N := 6) hx hb hts hown hE hk hH in_X11 rfl (by decide) (hts _ q1547) (fun _ h9 => h9) ea8 (rdI_o e9) dX1_held_52 ?_
      refine lv_iload_n (pc := 55) hx hb dX1_held_55 rfl (lv_at hl 1 rfl) ?_
      refine lv_icmp_ne (pc := 56) (tgt := 85) hx hb dX1_held_56 (by decide) (fun c10 => ?_) (fun c10 => ?_)
      · rw [if_neg c10] at hf
        refine lv_iinc (pc := 85) (v := l4 + (nI 1)) (lv' := [(4, .int (l4 + (nI 1))), (1, .int l1), (2, .int l2), (3, va_rf l3)]) hx hb dX1_held_85 hl (k := 3) rfl rfl (by decide) (by simp [va_rf_cat, cat_i, cat_j, cat_r] <;> rfl) (fun ls hl => ?_)
        refine lv_goto (pc := 88) (tgt := 31) hx hb dX1_held_88 (by decide) ?_
        exact ih l1 l2 l3 (l4 + (nI 1)) S4 _ _ ls _ _ _ _ hkc hks hH hS (lv_sub hl [1, 2, 3, 0] rfl) hf
      · rw [if_pos c10] at hf
        refine g_aload_n (pc := 59) (o := l3) hx hb dX1_held_59 rfl (lv_at hl 2 rfl) ?_
        refine lv_iload (pc := 60) hx hb dX1_held_60 (lv_at hl 3 rfl) ?_
        obtain ⟨v11, S11, c11, n11, c2_11, n2_11, e11, hf, hC11, hN11⟩ := gbo hf
        refine g_callV (pc := 62) (o := l3) (b := a2) (As := [.int l4]) (rest := []) (st1 := [va_rf v11]) hc (j_nAL_get hJ a2 l4 S4 v11 S11 c11 n11 e11) (cwV 1 hts (lw_V q1290 q1223 q1224 q101 q1225) rfl rfl rfl hdJ2_get ⟨Nat.le_of_ble_eq_true rfl, Nat.le_of_ble_eq_true rfl⟩) (j_recv hJ _ _ _ _ 0 _ _ hE hH hS (adtR (t := 0) (show bd _ _ = some _ from e11)).choose_spec) ea2 rfl hl.1 rfl rfl (lv_room (Nat.le_of_ble_eq_true rfl)) dX1_held_62 hH hS (by omega) (by omega) (fun H locs hH hS => ?_)
        have hkc : kc + c1 + c4 + c11 + c2_11 ≤ mc := by omega
        have hks : ks + n1 + n4 + n11 + n2_11 ≤ ms := by omega
        obtain ⟨_, e12, hf⟩ := bdo hf
        refine g_cast (pc := 65) (o := v11) (ci := 4) (C := RX16) (T := TX16) (N := 6) hx hb hts hown hE hk hH rfl q1512 e12 dX1_held_65 ?_
        refine lv_iload_n (pc := 68) hx hb dX1_held_68 rfl (lv_at hl 0 rfl) ?_
        obtain ⟨a14, ea14, hf⟩ := bdo hf
        obtain ⟨_, ek13, hf⟩ := bdo hf
        obtain ⟨v13, S13, c13, n13, c2_13, n2_13, e13, hf, hC13, hN13⟩ := gbo hf
        refine g_callV (pc := 69) (o := v11) (b := a14) (As := [.int l1]) (rest := []) (st1 := [.int v13]) hc (mX16_isHeldBy hk hJ (l0 := a14) (l1 := l1) e13) (cwV 1 hts (lw_V q1513 q1514 q1515 q144 q1516) rfl rfl rfl hdX16_isHeldBy ⟨Nat.le_of_ble_eq_true rfl, Nat.le_of_ble_eq_true rfl⟩) (g_recv hE hk hH (ci := 4) (q := (RX16, TX16, 6)) rfl (chk_o ek13).choose_spec) ea14 rfl hl.1 rfl rfl (lv_room (Nat.le_of_ble_eq_true rfl)) dX1_held_69 hH hS (by omega) (by omega) (fun H locs hH hS => ?_)
        have hkc : kc + c1 + c4 + c11 + c13 + c2_13 ≤ mc := by omega
        have hks : ks + n1 + n4 + n11 + n13 + n2_13 ≤ ms := by omega
        refine lv_if_eq (pc := 72) (tgt := 85) hx hb dX1_held_72 (by decide) (fun c15 => ?_) (fun c15 => ?_)
        · rw [if_pos c15] at hf
          refine lv_iinc (pc := 85) (v := l4 + (nI 1)) (lv' := [(4, .int (l4 + (nI 1))), (1, .int l1), (2, .int l2), (3, va_rf l3)]) hx hb dX1_held_85 hl (k := 3) rfl rfl (by decide) (by simp [va_rf_cat, cat_i, cat_j, cat_r] <;> rfl) (fun ls hl => ?_)
          refine lv_goto (pc := 88) (tgt := 31) hx hb dX1_held_88 (by decide) ?_
          exact ih l1 l2 l3 (l4 + (nI 1)) S13 _ _ ls _ _ _ _ hkc hks hH hS (lv_sub hl [1, 2, 3, 0] rfl) hf
        · rw [if_neg c15] at hf
          refine g_aload_n (pc := 75) (o := l3) hx hb dX1_held_75 rfl (lv_at hl 2 rfl) ?_
          refine lv_iload (pc := 76) hx hb dX1_held_76 (lv_at hl 3 rfl) ?_
          obtain ⟨v16, S16, c16, n16, c2_16, n2_16, e16, hf, hC16, hN16⟩ := gbo hf
          refine g_callV (pc := 78) (o := l3) (b := a2) (As := [.int l4]) (rest := []) (st1 := [va_rf v16]) hc (j_nAL_get hJ a2 l4 S13 v16 S16 c16 n16 e16) (cwV 1 hts (lw_V q1290 q1223 q1224 q101 q1225) rfl rfl rfl hdJ2_get ⟨Nat.le_of_ble_eq_true rfl, Nat.le_of_ble_eq_true rfl⟩) (j_recv hJ _ _ _ _ 0 _ _ hE hH hS (adtR (t := 0) (show bd _ _ = some _ from e16)).choose_spec) ea2 rfl hl.1 rfl rfl (lv_room (Nat.le_of_ble_eq_true rfl)) dX1_held_78 hH hS (by omega) (by omega) (fun H locs hH hS => ?_)
          have hkc : kc + c1 + c4 + c11 + c13 + c16 + c2_16 ≤ mc := by omega
          have hks : ks + n1 + n4 + n11 + n13 + n16 + n2_16 ≤ ms := by omega
          obtain ⟨_, e17, hf⟩ := bdo hf
          refine g_cast (pc := 81) (o := v16) (ci := 4) (C := RX16) (T := TX16) (N := 6) hx hb hts hown hE hk hH rfl q1512 e17 dX1_held_81 ?_
          exact g_aret (pc := 84) (v := v16) hx hb hr (Or.inl ⟨_, rfl⟩) hlk hH hS hkc hks hf dX1_held_84
def fX1_held (l0 : Nat) (l1 : Int32) (l2 : Int32) (S : gS) : gO (Option Nat) :=
  bd (rdR S l0 1 0) fun v1 =>
  bd (rdR S l0 1 1) fun v2 =>
  bd v2 fun a4 =>
  gb (nAL_get a4 l1 S) fun v3 S3 =>
  bd (ckc S3 v3 6) fun _ =>
  bd v3 fun a6 =>
  bd (rdI S3 a6 6 1) fun v7 =>
  bd v1 fun a9 =>
  gb (nAL_get a9 v7 S3) fun v8 S8 =>
  bd (ckc S8 v8 3) fun _ =>
  bd v8 fun a11 =>
  bd (rdR S8 a11 3 7) fun v12 =>
  fX1_held_b31 FU l1 l2 v12 (nI 0) S8
theorem wX1_held_b0 (hk : rOK Rp) (hJ : JDK l G Rp) (hc : gC p s m args meth c G RX1 "held" cX1_held 5 (some (.object "CreditBroker$Letter"))) (l0 : Nat) (l1 : Int32) (l2 : Int32) (S : gS) (H : Heap) (locs : List Loc) (ls : Array Slot) (kc ks C N : Nat) (hkc : kc + C ≤ mc) (hks : ks + N ≤ ms) (hH : hp G Rp S H) (hS : va_S G.2.2.2 s.heap H locs) (hl : lv_has ls 5 [(0, .ref l0), (1, .int l1), (2, .int l2)]) (hf : fX1_held l0 l1 l2 S = some (r, Sf, C, N)) : W p l e (gR 15 540 mc ms) s m args below meth c H locs kc ks (gQ below G Rp (some (va_rf r)) Sf args s mc ms) (F0 m 0 ls []) := by
  obtain ⟨hx, hb, hr, hlk, hml, hown, hts, hE, hA, hnm⟩ := hc
  have hc : gC p s m args meth c G RX1 "held" cX1_held 5 (some (.object "CreditBroker$Letter")) := ⟨hx, hb, hr, hlk, hml, hown, hts, hE, hA, hnm⟩
  unfold fX1_held at hf
  refine lv_aload_n (pc := 0) hx hb dX1_held_0 rfl (lv_at hl 0 rfl) ?_
  obtain ⟨v1, e1, hf⟩ := bdo hf
  refine g_get (pc := 1) (o := (some l0)) (a := l0) (ci := 1) (k := 0) (v := va_rf v1) (C := RX1) (T := TX1) (N := 7) hx hb hts hown hE hk hH in_X1 rfl (by decide) (hts _ q231) (fun _ h9 => h9) rfl (rdR_o e1) dX1_held_1 ?_
  refine lv_aload_n (pc := 4) hx hb dX1_held_4 rfl (lv_at hl 0 rfl) ?_
  obtain ⟨v2, e2, hf⟩ := bdo hf
  refine g_get (pc := 5) (o := (some l0)) (a := l0) (ci := 1) (k := 1) (v := va_rf v2) (C := RX1) (T := TX1) (N := 7) hx hb hts hown hE hk hH in_X1 rfl (by decide) (hts _ q233) (fun _ h9 => h9) rfl (rdR_o e2) dX1_held_5 ?_
  refine lv_iload_n (pc := 8) hx hb dX1_held_8 rfl (lv_at hl 1 rfl) ?_
  obtain ⟨a4, ea4, hf⟩ := bdo hf
  obtain ⟨v3, S3, c3, n3, c2_3, n2_3, e3, hf, hC3, hN3⟩ := gbo hf
  refine g_callV (pc := 9) (o := v2) (b := a4) (As := [.int l1]) (rest := [va_rf v1]) (st1 := [va_rf v3, va_rf v1]) hc (j_nAL_get hJ a4 l1 S v3 S3 c3 n3 e3) (cwV 1 hts (lw_V q1290 q1223 q1224 q101 q1225) rfl rfl rfl hdJ2_get ⟨Nat.le_of_ble_eq_true rfl, Nat.le_of_ble_eq_true rfl⟩) (j_recv hJ _ _ _ _ 0 _ _ hE hH hS (adtR (t := 0) (show bd _ _ = some _ from e3)).choose_spec) ea4 rfl hl.1 rfl rfl (lv_room (by simp [va_rf_cat, cat_i, cat_j, cat_r])) dX1_held_9 hH hS (by omega) (by omega) (fun H locs hH hS => ?_)
  have hkc : kc + c3 + c2_3 ≤ mc := by omega
  have hks : ks + n3 + n2_3 ≤ ms := by omega
  obtain ⟨_, e5, hf⟩ := bdo hf
  refine g_cast (pc := 12) (o := v3) (ci := 6) (C := RX10) (T := TX10) (N := 5) hx hb hts hown hE hk hH rfl q1767 e5 dX1_held_12 ?_
  obtain ⟨a6, ea6, hf⟩ := bdo hf
  obtain ⟨v7, e7, hf⟩ := bdo hf
  refine g_get (pc := 15) (o := v3) (a := a6) (ci := 6) (k := 1) (v := .int v7) (C := RX10) (T := TX10) (N := 5) hx hb hts hown hE hk hH in_X10 rfl (by decide) (hts _ q1248) (fun _ h9 => h9) ea6 (rdI_o e7) dX1_held_15 ?_
  obtain ⟨a9, ea9, hf⟩ := bdo hf
  obtain ⟨v8, S8, c8, n8, c2_8, n2_8, e8, hf, hC8, hN8⟩ := gbo hf
  refine g_callV (pc := 18) (o := v1) (b := a9) (As := [.int v7]) (rest := []) (st1 := [va_rf v8]) hc (j_nAL_get hJ a9 v7 S3 v8 S8 c8 n8 e8) (cwV 1 hts (lw_V q1290 q1223 q1224 q101 q1225) rfl rfl rfl hdJ2_get ⟨Nat.le_of_ble_eq_true rfl, Nat.le_of_ble_eq_true rfl⟩) (j_recv hJ _ _ _ _ 0 _ _ hE hH hS (adtR (t := 0) (show bd _ _ = some _ from e8)).choose_spec) ea9 rfl hl.1 rfl rfl (lv_room (Nat.le_of_ble_eq_true rfl)) dX1_held_18 hH hS (by omega) (by omega) (fun H locs hH hS => ?_)
  have hkc : kc + c3 + c8 + c2_8 ≤ mc := by omega
  have hks : ks + n3 + n8 + n2_8 ≤ ms := by omega
  obtain ⟨_, e10, hf⟩ := bdo hf
  refine g_cast (pc := 21) (o := v8) (ci := 3) (C := RX8) (T := TX8) (N := 13) hx hb hts hown hE hk hH rfl q1291 e10 dX1_held_21 ?_
  obtain ⟨a11, ea11, hf⟩ := bdo hf
  obtain ⟨v12, e12, hf⟩ := bdo hf
  refine g_get (pc := 24) (o := v8) (a := a11) (ci := 3) (k := 7) (v := va_rf v12) (C := RX8) (T := TX8) (N := 13) hx hb hts hown hE hk hH in_X8 rfl (by decide) (hts _ q1168) (fun _ h9 => h9) ea11 (rdR_o e12) dX1_held_24 ?_
  refine g_astore_n (pc := 27) (i := 3) (o := v12) (lv' := [(3, va_rf v12), (0, .ref l0), (1, .int l1), (2, .int l2)]) hx hb dX1_held_27 rfl hl (by decide) rfl (fun ls hl => ?_)
  refine lv_iconst (pc := 28) (v := nI 0) hx hb dX1_held_28 rfl ?_
  refine lv_istore (pc := 29) (i := 4) (lv' := [(4, .int (nI 0)), (3, va_rf v12), (0, .ref l0), (1, .int l1), (2, .int l2)]) hx hb dX1_held_29 hl (by decide) (by simp [va_rf_cat, cat_i, cat_j, cat_r] <;> rfl) (fun ls hl => ?_)
  exact wX1_held_b31 hk hJ hc FU l1 l2 v12 (nI 0) S8 _ _ ls _ _ _ _ hkc hks hH hS (lv_sub hl [3, 4, 1, 0] rfl) hf
theorem mX1_held {l : Launch} {G : gG} {Rp : gM → gM → Nat → Prop} (hk : rOK Rp) (hJ : JDK l G Rp) {S S2 : gS} {r2 : Option Nat} {C N : Nat} {l0 : Nat} {l1 : Int32} {l2 : Int32} (hf : fX1_held l0 l1 l2 S = some (r2, S2, C, N)) : gMet l yX1_held cX1_held 5 (some (.object "CreditBroker$Letter")) 15 540 G Rp [.ref l0, .int l1, .int l2] S (some (va_rf r2)) S2 C N := by
  refine g_start (by decide) (Nat.le_of_ble_eq_true rfl) (fun p e s m args below meth c ls hc hl hH => ?_)
  have hl : lv_has ls 5 [(0, .ref l0), (1, .int l1), (2, .int l2)] := hl
  exact wX1_held_b0 hk hJ hc l0 l1 l2 S _ _ ls 0 0 C N (by omega) (by omega) hH va_S.rf (lv_sub hl [0, 1, 2] rfl) hf
end
section
variable {r : Int32} {Sf : gS}
def fX0_no (l0 : Nat) (l1 : Int32) (S : gS) : gO Int32 :=
  bd (rdR S l0 0 6) fun v1 =>
  bd v1 fun a3 =>
  bd (rdAi S a3 0 ((-80) - l1)) fun v4 =>
  bd (wrAi S a3 ((-80) - l1) (v4 + (nI 1))) fun S5 =>
  some (l1, S5, 0, 0)
theorem wX0_no_b0 (hk : rOK Rp) (hJ : JDK l G Rp) (hc : gC p s m args meth c G RX0 "no" cX0_no 2 (some .int)) (l0 : Nat) (l1 : Int32) (S : gS) (H : Heap) (locs : List Loc) (ls : Array Slot) (kc ks C N : Nat) (hkc : kc + C ≤ mc) (hks : ks + N ≤ ms) (hH : hp G Rp S H) (hS : va_S G.2.2.2 s.heap H locs) (hl : lv_has ls 2 [(0, .ref l0), (1, .int l1)]) (hf : fX0_no l0 l1 S = some (r, Sf, C, N)) : W p l e (gR 1 40 mc ms) s m args below meth c H locs kc ks (gQ below G Rp (some (.int r)) Sf args s mc ms) (F0 m 0 ls []) := by
  obtain ⟨hx, hb, hr, hlk, hml, hown, hts, hE, hA, hnm⟩ := hc
  have hc : gC p s m args meth c G RX0 "no" cX0_no 2 (some .int) := ⟨hx, hb, hr, hlk, hml, hown, hts, hE, hA, hnm⟩
  unfold fX0_no at hf
  refine lv_aload_n (pc := 0) hx hb dX0_no_0 rfl (lv_at hl 0 rfl) ?_
  obtain ⟨v1, e1, hf⟩ := bdo hf
  refine g_get (pc := 1) (o := (some l0)) (a := l0) (ci := 0) (k := 6) (v := va_rf v1) (C := RX0) (T := TX0) (N := 7) hx hb hts hown hE hk hH in_X0 rfl (by decide) (hts _ q280) (fun _ h9 => h9) rfl (rdR_o e1) dX0_no_1 ?_
  refine lv_bipush (pc := 4) (v := -80) hx hb dX0_no_4 gkbm80 ?_
  refine lv_iload_n (pc := 6) hx hb dX0_no_6 rfl (lv_at hl 1 rfl) ?_
  refine lv_isub (pc := 7) hx hb dX0_no_7 ?_
  refine lv_dup2_11 (pc := 8) hx hb dX0_no_8 rfl (va_rf_cat _) ?_
  obtain ⟨a3, ea3, hf⟩ := bdo hf
  obtain ⟨v4, e4, hf⟩ := bdo hf
  refine g_iald (pc := 9) (o := v1) (a := a3) hx hb hE hk hH ea3 e4 dX0_no_9 ?_
  refine lv_iconst (pc := 10) (v := nI 1) hx hb dX0_no_10 rfl ?_
  refine lv_iadd (pc := 11) hx hb dX0_no_11 ?_
  obtain ⟨S5, e5, hf⟩ := bdo hf
  refine g_iast (pc := 12) (o := v1) (a := a3) hx hb hE hk hH hS ea3 e5 dX0_no_12 (fun H locs hH hS => ?_)
  refine lv_iload_n (pc := 13) hx hb dX0_no_13 rfl (lv_at hl 1 rfl) ?_
  exact g_iret (pc := 14) hx hb hr hlk hH hS hkc hks hf dX0_no_14
theorem mX0_no {l : Launch} {G : gG} {Rp : gM → gM → Nat → Prop} (hk : rOK Rp) (hJ : JDK l G Rp) {S S2 : gS} {r2 : Int32} {C N : Nat} {l0 : Nat} {l1 : Int32} (hf : fX0_no l0 l1 S = some (r2, S2, C, N)) : gMet l yX0_no cX0_no 2 (some .int) 1 40 G Rp [.ref l0, .int l1] S (some (.int r2)) S2 C N := by
  refine g_start (by decide) (Nat.le_of_ble_eq_true rfl) (fun p e s m args below meth c ls hc hl hH => ?_)
  have hl : lv_has ls 2 [(0, .ref l0), (1, .int l1)] := hl
  exact wX0_no_b0 hk hJ hc l0 l1 S _ _ ls 0 0 C N (by omega) (by omega) hH va_S.rf (lv_sub hl [0, 1] rfl) hf
end
section
variable {r : Option Nat} {Sf : gS}
def fX1_returns (l0 : Nat) (l1 : Option Nat) (S : gS) : gO (Option Nat) :=
  bd (rdR S l0 1 1) fun v1 =>
  bd l1 fun a2 =>
  bd (rdI S a2 4 4) fun v3 =>
  bd v1 fun a5 =>
  gb (nAL_get a5 v3 S) fun v4 S4 =>
  bd (ckc S4 v4 6) fun _ =>
  some (v4, S4, 0, 0)
theorem wX1_returns_b0 (hk : rOK Rp) (hJ : JDK l G Rp) (hc : gC p s m args meth c G RX1 "returns" cX1_returns 2 (some (.object "CreditBroker$Consumer"))) (l0 : Nat) (l1 : Option Nat) (S : gS) (H : Heap) (locs : List Loc) (ls : Array Slot) (kc ks C N : Nat) (hkc : kc + C ≤ mc) (hks : ks + N ≤ ms) (hH : hp G Rp S H) (hS : va_S G.2.2.2 s.heap H locs) (hl : lv_has ls 2 [(0, .ref l0), (1, va_rf l1)]) (hf : fX1_returns l0 l1 S = some (r, Sf, C, N)) : W p l e (gR 15 540 mc ms) s m args below meth c H locs kc ks (gQ below G Rp (some (va_rf r)) Sf args s mc ms) (F0 m 0 ls []) := by
  obtain ⟨hx, hb, hr, hlk, hml, hown, hts, hE, hA, hnm⟩ := hc
  have hc : gC p s m args meth c G RX1 "returns" cX1_returns 2 (some (.object "CreditBroker$Consumer")) := ⟨hx, hb, hr, hlk, hml, hown, hts, hE, hA, hnm⟩
  unfold fX1_returns at hf
  refine lv_aload_n (pc := 0) hx hb dX1_returns_0 rfl (lv_at hl 0 rfl) ?_
  obtain ⟨v1, e1, hf⟩ := bdo hf
  refine g_get (pc := 1) (o := (some l0)) (a := l0) (ci := 1) (k := 1) (v := va_rf v1) (C := RX1) (T := TX1) (N := 7) hx hb hts hown hE hk hH in_X1 rfl (by decide) (hts _ q233) (fun _ h9 => h9) rfl (rdR_o e1) dX1_returns_1 ?_
  refine g_aload_n (pc := 4) (o := l1) hx hb dX1_returns_4 rfl (lv_at hl 1 rfl) ?_
  obtain ⟨a2, ea2, hf⟩ := bdo hf
  obtain ⟨v3, e3, hf⟩ := bdo hf
  refine g_get (pc := 5) (o := l1) (a := a2) (ci := 4) (k := 4) (v := .int v3) (C := RX16) (T := TX16) (N := 6) hx hb hts hown hE hk hH in_X16 rfl (by decide) (hts _ q1726) (fun _ h9 => h9) ea2 (rdI_o e3) dX1_returns_5 ?_
  obtain ⟨a5, ea5, hf⟩ := bdo hf
  obtain ⟨v4, S4, c4, n4, c2_4, n2_4, e4, hf, hC4, hN4⟩ := gbo hf
  refine g_callV (pc := 8) (o := v1) (b := a5) (As := [.int v3]) (rest := []) (st1 := [va_rf v4]) hc (j_nAL_get hJ a5 v3 S v4 S4 c4 n4 e4) (cwV 1 hts (lw_V q1290 q1223 q1224 q101 q1225) rfl rfl rfl hdJ2_get ⟨Nat.le_of_ble_eq_true rfl, Nat.le_of_ble_eq_true rfl⟩) (j_recv hJ _ _ _ _ 0 _ _ hE hH hS (adtR (t := 0) (show bd _ _ = some _ from e4)).choose_spec) ea5 rfl hl.1 rfl rfl (lv_room (Nat.le_of_ble_eq_true rfl)) dX1_returns_8 hH hS (by omega) (by omega) (fun H locs hH hS => ?_)
  have hkc : kc + c4 + c2_4 ≤ mc := by omega
  have hks : ks + n4 + n2_4 ≤ ms := by omega
  obtain ⟨_, e6, hf⟩ := bdo hf
  refine g_cast (pc := 11) (o := v4) (ci := 6) (C := RX10) (T := TX10) (N := 5) hx hb hts hown hE hk hH rfl q1767 e6 dX1_returns_11 ?_
  exact g_aret (pc := 14) (v := v4) hx hb hr (Or.inl ⟨_, rfl⟩) hlk hH hS hkc hks hf dX1_returns_14
theorem mX1_returns {l : Launch} {G : gG} {Rp : gM → gM → Nat → Prop} (hk : rOK Rp) (hJ : JDK l G Rp) {S S2 : gS} {r2 : Option Nat} {C N : Nat} {l0 : Nat} {l1 : Option Nat} (hf : fX1_returns l0 l1 S = some (r2, S2, C, N)) : gMet l yX1_returns cX1_returns 2 (some (.object "CreditBroker$Consumer")) 15 540 G Rp [.ref l0, va_rf l1] S (some (va_rf r2)) S2 C N := by
  refine g_start (by decide) (by simp [lg_sl, va_rf_cat, cat_i, cat_j, cat_r]) (fun p e s m args below meth c ls hc hl hH => ?_)
  have hl : lv_has ls 2 [(0, .ref l0), (1, va_rf l1)] := by simpa [lv_args, va_rf_cat, cat_i, cat_j, cat_r] using hl
  exact wX1_returns_b0 hk hJ hc l0 l1 S _ _ ls 0 0 C N (by omega) (by omega) hH va_S.rf (lv_sub hl [0, 1] rfl) hf
end
section
variable {r : Unit} {Sf : gS}
def fX10_gains (l0 : Nat) (S : gS) : gO Unit :=
  bd (rdI S l0 6 2) fun v1 =>
  bd (wr S l0 6 2 (.int (if (v1 + (nI 1)) < (nI 9) then (v1 + (nI 1)) else (nI 9)))) fun S3 =>
  some ((), S3, 0, 0)
theorem wX10_gains_b0 (hk : rOK Rp) (hJ : JDK l G Rp) (hc : gC p s m args meth c G RX10 "gains" cX10_gains 1 (none)) (l0 : Nat) (S : gS) (H : Heap) (locs : List Loc) (ls : Array Slot) (kc ks C N : Nat) (hkc : kc + C ≤ mc) (hks : ks + N ≤ ms) (hH : hp G Rp S H) (hS : va_S G.2.2.2 s.heap H locs) (hl : lv_has ls 1 [(0, .ref l0)]) (hf : fX10_gains l0 S = some (r, Sf, C, N)) : W p l e (gR 1 40 mc ms) s m args below meth c H locs kc ks (gQ below G Rp none Sf args s mc ms) (F0 m 0 ls []) := by
  obtain ⟨hx, hb, hr, hlk, hml, hown, hts, hE, hA, hnm⟩ := hc
  have hc : gC p s m args meth c G RX10 "gains" cX10_gains 1 (none) := ⟨hx, hb, hr, hlk, hml, hown, hts, hE, hA, hnm⟩
  unfold fX10_gains at hf
  refine lv_aload_n (pc := 0) hx hb dX10_gains_0 rfl (lv_at hl 0 rfl) ?_
  refine lv_bipush (pc := 1) (v := nI 9) hx hb dX10_gains_1 gkb9 ?_
  refine lv_aload_n (pc := 3) hx hb dX10_gains_3 rfl (lv_at hl 0 rfl) ?_
  obtain ⟨v1, e1, hf⟩ := bdo hf
  refine g_get (pc := 4) (o := (some l0)) (a := l0) (ci := 6) (k := 2) (v := .int v1) (C := RX10) (T := TX10) (N := 5) hx hb hts hown hE hk hH in_X10 rfl (by decide) (hts _ q1250) (fun _ h9 => h9) rfl (rdI_o e1) dX10_gains_4 ?_
  refine lv_iconst (pc := 7) (v := nI 1) hx hb dX10_gains_7 rfl ?_
  refine lv_iadd (pc := 8) hx hb dX10_gains_8 ?_
  refine va_mmin (pc := 9) hx hb (hml.trans hl.1.symm) hown (hts _ q1797) (hts _ q683) (hts _ q121) (hts _ q684) (Nat.le_of_ble_eq_true rfl) (Nat.le_of_ble_eq_true rfl) (Nat.le_trans (by omega) hkc) (Nat.le_trans (by omega) hks) dX10_gains_9 ?_
  obtain ⟨S3, e3, hf⟩ := bdo hf
  refine g_put (pc := 12) (o := (some l0)) (a := l0) (ci := 6) (k := 2) (v := .int (if (v1 + (nI 1)) < (nI 9) then (v1 + (nI 1)) else (nI 9))) (C := RX10) (T := TX10) (N := 5) (ty := .int) hx hb hts hown hE hk hH hS rfl in_X10 tyX10_ok nmX10 rfl (by decide) (hts _ q1250) (fun _ h9 => h9) rfl rfl rfl rfl rfl e3 dX10_gains_12 (fun H locs hH hS => ?_)
  exact g_vret (pc := 15) hx hb hr hlk hH hS hkc hks hf dX10_gains_15
theorem mX10_gains {l : Launch} {G : gG} {Rp : gM → gM → Nat → Prop} (hk : rOK Rp) (hJ : JDK l G Rp) {S S2 : gS} {r2 : Unit} {C N : Nat} {l0 : Nat} (hf : fX10_gains l0 S = some (r2, S2, C, N)) : gMet l yX10_gains cX10_gains 1 (none) 1 40 G Rp [.ref l0] S none S2 C N := by
  refine g_start (by decide) (Nat.le_of_ble_eq_true rfl) (fun p e s m args below meth c ls hc hl hH => ?_)
  have hl : lv_has ls 1 [(0, .ref l0)] := hl
  exact wX10_gains_b0 hk hJ hc l0 S _ _ ls 0 0 C N (by omega) (by omega) hH va_S.rf (lv_sub hl [0] rfl) hf
end
section
variable {r : Option Nat} {Sf : gS}
def fX1_queueOf (l0 : Nat) (l1 : Option Nat) (S : gS) : gO (Option Nat) :=
  bd (rdR S l0 1 0) fun v1 =>
  bd l1 fun a2 =>
  bd (rdI S a2 6 1) fun v3 =>
  bd v1 fun a5 =>
  gb (nAL_get a5 v3 S) fun v4 S4 =>
  bd (ckc S4 v4 3) fun _ =>
  some (v4, S4, 0, 0)
theorem wX1_queueOf_b0 (hk : rOK Rp) (hJ : JDK l G Rp) (hc : gC p s m args meth c G RX1 "queueOf" cX1_queueOf 2 (some (.object "CreditBroker$Queue"))) (l0 : Nat) (l1 : Option Nat) (S : gS) (H : Heap) (locs : List Loc) (ls : Array Slot) (kc ks C N : Nat) (hkc : kc + C ≤ mc) (hks : ks + N ≤ ms) (hH : hp G Rp S H) (hS : va_S G.2.2.2 s.heap H locs) (hl : lv_has ls 2 [(0, .ref l0), (1, va_rf l1)]) (hf : fX1_queueOf l0 l1 S = some (r, Sf, C, N)) : W p l e (gR 15 540 mc ms) s m args below meth c H locs kc ks (gQ below G Rp (some (va_rf r)) Sf args s mc ms) (F0 m 0 ls []) := by
  obtain ⟨hx, hb, hr, hlk, hml, hown, hts, hE, hA, hnm⟩ := hc
  have hc : gC p s m args meth c G RX1 "queueOf" cX1_queueOf 2 (some (.object "CreditBroker$Queue")) := ⟨hx, hb, hr, hlk, hml, hown, hts, hE, hA, hnm⟩
  unfold fX1_queueOf at hf
  refine lv_aload_n (pc := 0) hx hb dX1_queueOf_0 rfl (lv_at hl 0 rfl) ?_
  obtain ⟨v1, e1, hf⟩ := bdo hf
  refine g_get (pc := 1) (o := (some l0)) (a := l0) (ci := 1) (k := 0) (v := va_rf v1) (C := RX1) (T := TX1) (N := 7) hx hb hts hown hE hk hH in_X1 rfl (by decide) (hts _ q231) (fun _ h9 => h9) rfl (rdR_o e1) dX1_queueOf_1 ?_
  refine g_aload_n (pc := 4) (o := l1) hx hb dX1_queueOf_4 rfl (lv_at hl 1 rfl) ?_
  obtain ⟨a2, ea2, hf⟩ := bdo hf
  obtain ⟨v3, e3, hf⟩ := bdo hf
  refine g_get (pc := 5) (o := l1) (a := a2) (ci := 6) (k := 1) (v := .int v3) (C := RX10) (T := TX10) (N := 5) hx hb hts hown hE hk hH in_X10 rfl (by decide) (hts _ q1248) (fun _ h9 => h9) ea2 (rdI_o e3) dX1_queueOf_5 ?_
  obtain ⟨a5, ea5, hf⟩ := bdo hf
  obtain ⟨v4, S4, c4, n4, c2_4, n2_4, e4, hf, hC4, hN4⟩ := gbo hf
  refine g_callV (pc := 8) (o := v1) (b := a5) (As := [.int v3]) (rest := []) (st1 := [va_rf v4]) hc (j_nAL_get hJ a5 v3 S v4 S4 c4 n4 e4) (cwV 1 hts (lw_V q1290 q1223 q1224 q101 q1225) rfl rfl rfl hdJ2_get ⟨Nat.le_of_ble_eq_true rfl, Nat.le_of_ble_eq_true rfl⟩) (j_recv hJ _ _ _ _ 0 _ _ hE hH hS (adtR (t := 0) (show bd _ _ = some _ from e4)).choose_spec) ea5 rfl hl.1 rfl rfl (lv_room (Nat.le_of_ble_eq_true rfl)) dX1_queueOf_8 hH hS (by omega) (by omega) (fun H locs hH hS => ?_)
  have hkc : kc + c4 + c2_4 ≤ mc := by omega
  have hks : ks + n4 + n2_4 ≤ ms := by omega
  obtain ⟨_, e6, hf⟩ := bdo hf
  refine g_cast (pc := 11) (o := v4) (ci := 3) (C := RX8) (T := TX8) (N := 13) hx hb hts hown hE hk hH rfl q1291 e6 dX1_queueOf_11 ?_
  exact g_aret (pc := 14) (v := v4) hx hb hr (Or.inl ⟨_, rfl⟩) hlk hH hS hkc hks hf dX1_queueOf_14
theorem mX1_queueOf {l : Launch} {G : gG} {Rp : gM → gM → Nat → Prop} (hk : rOK Rp) (hJ : JDK l G Rp) {S S2 : gS} {r2 : Option Nat} {C N : Nat} {l0 : Nat} {l1 : Option Nat} (hf : fX1_queueOf l0 l1 S = some (r2, S2, C, N)) : gMet l yX1_queueOf cX1_queueOf 2 (some (.object "CreditBroker$Queue")) 15 540 G Rp [.ref l0, va_rf l1] S (some (va_rf r2)) S2 C N := by
  refine g_start (by decide) (by simp [lg_sl, va_rf_cat, cat_i, cat_j, cat_r]) (fun p e s m args below meth c ls hc hl hH => ?_)
  have hl : lv_has ls 2 [(0, .ref l0), (1, va_rf l1)] := by simpa [lv_args, va_rf_cat, cat_i, cat_j, cat_r] using hl
  exact wX1_queueOf_b0 hk hJ hc l0 l1 S _ _ ls 0 0 C N (by omega) (by omega) hH va_S.rf (lv_sub hl [0, 1] rfl) hf
end
section
variable {r : Unit} {Sf : gS}
def fX1_acknowledges (l0 : Nat) (l1 : Option Nat) (l2 : Option Nat) (S : gS) : gO Unit :=
  bd (chk S l0 1) fun _ =>
  gb (fX1_returns l0 l2 S) fun v1 S1 =>
  bd v1 fun a3 =>
  bd (chk S1 a3 6) fun _ =>
  gb (fX10_gains a3 S1) fun _ S2 =>
  bd (chk S2 l0 1) fun _ =>
  gb (fX1_queueOf l0 l1 S2) fun v4 S4 =>
  bd v4 fun a5 =>
  bd (rdR S4 a5 3 7) fun v6 =>
  bd v6 fun a8 =>
  gb (nAL_removeO a8 l2 S4) fun v7 S7 =>
  bd (chk S7 l0 1) fun _ =>
  gb (fX1_queueOf l0 l1 S7) fun v9 S9 =>
  bd v9 fun a10 =>
  bd (rdI S9 a10 3 11) fun v11 =>
  bd (wr S9 a10 3 11 (.int (v11 + (nI 1)))) fun S12 =>
  some ((), S12, 0, 0)
theorem wX1_acknowledges_b0 (hk : rOK Rp) (hJ : JDK l G Rp) (hc : gC p s m args meth c G RX1 "acknowledges" cX1_acknowledges 3 (none)) (l0 : Nat) (l1 : Option Nat) (l2 : Option Nat) (S : gS) (H : Heap) (locs : List Loc) (ls : Array Slot) (kc ks C N : Nat) (hkc : kc + C ≤ mc) (hks : ks + N ≤ ms) (hH : hp G Rp S H) (hS : va_S G.2.2.2 s.heap H locs) (hl : lv_has ls 3 [(0, .ref l0), (1, va_rf l1), (2, va_rf l2)]) (hf : fX1_acknowledges l0 l1 l2 S = some (r, Sf, C, N)) : W p l e (gR 16 561 mc ms) s m args below meth c H locs kc ks (gQ below G Rp none Sf args s mc ms) (F0 m 0 ls []) := by
  obtain ⟨hx, hb, hr, hlk, hml, hown, hts, hE, hA, hnm⟩ := hc
  have hc : gC p s m args meth c G RX1 "acknowledges" cX1_acknowledges 3 (none) := ⟨hx, hb, hr, hlk, hml, hown, hts, hE, hA, hnm⟩
  unfold fX1_acknowledges at hf
  refine lv_aload_n (pc := 0) hx hb dX1_acknowledges_0 rfl (lv_at hl 0 rfl) ?_
  refine g_aload_n (pc := 1) (o := l2) hx hb dX1_acknowledges_1 rfl (lv_at hl 2 rfl) ?_
  obtain ⟨_, ek1, hf⟩ := bdo hf
  obtain ⟨v1, S1, c1, n1, c2_1, n2_1, e1, hf, hC1, hN1⟩ := gbo hf
  refine g_callV (pc := 2) (o := (some l0)) (b := l0) (As := [va_rf l2]) (rest := []) (st1 := [va_rf v1]) hc (mX1_returns hk hJ (l0 := l0) (l1 := l2) e1) (cwV 1 hts (lw_V q1789 q1791 qs28 q98 q1792) rfl rfl rfl hdX1_returns ⟨Nat.le_of_ble_eq_true rfl, Nat.le_of_ble_eq_true rfl⟩) (g_recv hE hk hH (ci := 1) (q := (RX1, TX1, 7)) rfl (chk_o ek1).choose_spec) rfl rfl hl.1 rfl rfl (lv_room (Nat.le_of_ble_eq_true rfl)) dX1_acknowledges_2 hH hS (by omega) (by omega) (fun H locs hH hS => ?_)
  have hkc : kc + c1 + c2_1 ≤ mc := by omega
  have hks : ks + n1 + n2_1 ≤ ms := by omega
  obtain ⟨a3, ea3, hf⟩ := bdo hf
  obtain ⟨_, ek2, hf⟩ := bdo hf
  obtain ⟨_, S2, c2, n2, c2_2, n2_2, e2, hf, hC2, hN2⟩ := gbo hf
  refine g_callV (pc := 5) (o := v1) (b := a3) (As := []) (rest := []) (st1 := []) hc (mX10_gains hk hJ (l0 := a3) e2) (cwV 0 hts (lw_V q1793 q1794 q1795 q134 q1796) rfl rfl rfl hdX10_gains ⟨Nat.le_of_ble_eq_true rfl, Nat.le_of_ble_eq_true rfl⟩) (g_recv hE hk hH (ci := 6) (q := (RX10, TX10, 5)) rfl (chk_o ek2).choose_spec) ea3 rfl hl.1 rfl rfl (lv_room (Nat.le_of_ble_eq_true rfl)) dX1_acknowledges_5 hH hS (by omega) (by omega) (fun H locs hH hS => ?_)
  have hkc : kc + c1 + c2 + c2_2 ≤ mc := by omega
  have hks : ks + n1 + n2 + n2_2 ≤ ms := by omega
  refine lv_aload_n (pc := 8) hx hb dX1_acknowledges_8 rfl (lv_at hl 0 rfl) ?_
  refine g_aload_n (pc := 9) (o := l1) hx hb dX1_acknowledges_9 rfl (lv_at hl 1 rfl) ?_
  obtain ⟨_, ek4, hf⟩ := bdo hf
  obtain ⟨v4, S4, c4, n4, c2_4, n2_4, e4, hf, hC4, hN4⟩ := gbo hf
  refine g_callV (pc := 10) (o := (some l0)) (b := l0) (As := [va_rf l1]) (rest := []) (st1 := [va_rf v4]) hc (mX1_queueOf hk hJ (l0 := l0) (l1 := l1) e4) (cwV 1 hts (lw_V q1286 q1287 q1288 q98 q1289) rfl rfl rfl hdX1_queueOf ⟨Nat.le_of_ble_eq_true rfl, Nat.le_of_ble_eq_true rfl⟩) (g_recv hE hk hH (ci := 1) (q := (RX1, TX1, 7)) rfl (chk_o ek4).choose_spec) rfl rfl hl.1 rfl rfl (lv_room (Nat.le_of_ble_eq_true rfl)) dX1_acknowledges_10 hH hS (by omega) (by omega) (fun H locs hH hS => ?_)
  have hkc : kc + c1 + c2 + c4 + c2_4 ≤ mc := by omega
  have hks : ks + n1 + n2 + n4 + n2_4 ≤ ms := by omega
  obtain ⟨a5, ea5, hf⟩ := bdo hf
  obtain ⟨v6, e6, hf⟩ := bdo hf
  refine g_get (pc := 13) (o := v4) (a := a5) (ci := 3) (k := 7) (v := va_rf v6) (C := RX8) (T := TX8) (N := 13) hx hb hts hown hE hk hH in_X8 rfl (by decide) (hts _ q1168) (fun _ h9 => h9) ea5 (rdR_o e6) dX1_acknowledges_13 ?_
  refine g_aload_n (pc := 16) (o := l2) hx hb dX1_acknowledges_16 rfl (lv_at hl 2 rfl) ?_
  obtain ⟨a8, ea8, hf⟩ := bdo hf
  obtain ⟨v7, S7, c7, n7, c2_7, n2_7, e7, hf, hC7, hN7⟩ := gbo hf
  refine g_callV (pc := 17) (o := v6) (b := a8) (As := [va_rf l2]) (rest := []) (st1 := [.int v7]) hc (j_nAL_removeO hJ a8 l2 S4 v7 S7 c7 n7 e7) (cwV 1 hts (lw_V q1798 q1799 q1800 q101 q1801) rfl rfl rfl hdJ2_remove ⟨Nat.le_of_ble_eq_true rfl, Nat.le_of_ble_eq_true rfl⟩) (j_recv hJ _ _ _ _ 0 _ _ hE hH hS (adtR (t := 0) (show bd _ _ = some _ from e7)).choose_spec) ea8 rfl hl.1 rfl rfl (lv_room (Nat.le_of_ble_eq_true rfl)) dX1_acknowledges_17 hH hS (by omega) (by omega) (fun H locs hH hS => ?_)
  have hkc : kc + c1 + c2 + c4 + c7 + c2_7 ≤ mc := by omega
  have hks : ks + n1 + n2 + n4 + n7 + n2_7 ≤ ms := by omega
  refine lv_pop (pc := 20) hx hb dX1_acknowledges_20 rfl ?_
  refine lv_aload_n (pc := 21) hx hb dX1_acknowledges_21 rfl (lv_at hl 0 rfl) ?_
  refine g_aload_n (pc := 22) (o := l1) hx hb dX1_acknowledges_22 rfl (lv_at hl 1 rfl) ?_
  obtain ⟨_, ek9, hf⟩ := bdo hf
  obtain ⟨v9, S9, c9, n9, c2_9, n2_9, e9, hf, hC9, hN9⟩ := gbo hf
  refine g_callV (pc := 23) (o := (some l0)) (b := l0) (As := [va_rf l1]) (rest := []) (st1 := [va_rf v9]) hc (mX1_queueOf hk hJ (l0 := l0) (l1 := l1) e9) (cwV 1 hts (lw_V q1286 q1287 q1288 q98 q1289) rfl rfl rfl hdX1_queueOf ⟨Nat.le_of_ble_eq_true rfl, Nat.le_of_ble_eq_true rfl⟩) (g_recv hE hk hH (ci := 1) (q := (RX1, TX1, 7)) rfl (chk_o ek9).choose_spec) rfl rfl hl.1 rfl rfl (lv_room (Nat.le_of_ble_eq_true rfl)) dX1_acknowledges_23 hH hS (by omega) (by omega) (fun H locs hH hS => ?_)
  have hkc : kc + c1 + c2 + c4 + c7 + c9 + c2_9 ≤ mc := by omega
  have hks : ks + n1 + n2 + n4 + n7 + n9 + n2_9 ≤ ms := by omega
  refine lv_dup (pc := 26) hx hb dX1_acknowledges_26 (va_rf_cat _) ?_
  obtain ⟨a10, ea10, hf⟩ := bdo hf
  obtain ⟨v11, e11, hf⟩ := bdo hf
  refine g_get (pc := 27) (o := v9) (a := a10) (ci := 3) (k := 11) (v := .int v11) (C := RX8) (T := TX8) (N := 13) hx hb hts hown hE hk hH in_X8 rfl (by decide) (hts _ q1177) (fun _ h9 => h9) ea10 (rdI_o e11) dX1_acknowledges_27 ?_
  refine lv_iconst (pc := 30) (v := nI 1) hx hb dX1_acknowledges_30 rfl ?_
  refine lv_iadd (pc := 31) hx hb dX1_acknowledges_31 ?_
  obtain ⟨S12, e12, hf⟩ := bdo hf
  refine g_put (pc := 32) (o := v9) (a := a10) (ci := 3) (k := 11) (v := .int (v11 + (nI 1))) (C := RX8) (T := TX8) (N := 13) (ty := .int) hx hb hts hown hE hk hH hS rfl in_X8 tyX8_ok nmX8 rfl (by decide) (hts _ q1177) (fun _ h9 => h9) rfl rfl rfl rfl ea10 e12 dX1_acknowledges_32 (fun H locs hH hS => ?_)
  exact g_vret (pc := 35) hx hb hr hlk hH hS hkc hks hf dX1_acknowledges_35
theorem mX1_acknowledges {l : Launch} {G : gG} {Rp : gM → gM → Nat → Prop} (hk : rOK Rp) (hJ : JDK l G Rp) {S S2 : gS} {r2 : Unit} {C N : Nat} {l0 : Nat} {l1 : Option Nat} {l2 : Option Nat} (hf : fX1_acknowledges l0 l1 l2 S = some (r2, S2, C, N)) : gMet l yX1_acknowledges cX1_acknowledges 3 (none) 16 561 G Rp [.ref l0, va_rf l1, va_rf l2] S none S2 C N := by
  refine g_start (by decide) (by simp [lg_sl, va_rf_cat, cat_i, cat_j, cat_r]) (fun p e s m args below meth c ls hc hl hH => ?_)
  have hl : lv_has ls 3 [(0, .ref l0), (1, va_rf l1), (2, va_rf l2)] := by simpa [lv_args, va_rf_cat, cat_i, cat_j, cat_r] using hl
  exact wX1_acknowledges_b0 hk hJ hc l0 l1 l2 S _ _ ls 0 0 C N (by omega) (by omega) hH va_S.rf (lv_sub hl [0, 1, 2] rfl) hf
end
section
variable {r : Int32} {Sf : gS}
def fX0_lambda_blocked_4 (l0 : Option Nat) (S : gS) : gO Int32 :=
  bd l0 fun a1 =>
  bd (rdI S a1 4 1) fun v2 =>
  if v2 = 0 then
    zg (nI 1) S
  else
    zg (nI 0) S
theorem wX0_lambda_blocked_4_b0 (hk : rOK Rp) (hJ : JDK l G Rp) (hc : gC p s m args meth c G RX0 "lambda$blocked$4" cX0_lambda_blocked_4 1 (some .boolean)) (l0 : Option Nat) (S : gS) (H : Heap) (locs : List Loc) (ls : Array Slot) (kc ks C N : Nat) (hkc : kc + C ≤ mc) (hks : ks + N ≤ ms) (hH : hp G Rp S H) (hS : va_S G.2.2.2 s.heap H locs) (hl : lv_has ls 1 [(0, va_rf l0)]) (hf : fX0_lambda_blocked_4 l0 S = some (r, Sf, C, N)) : W p l e (gR 1 40 mc ms) s m args below meth c H locs kc ks (gQ below G Rp (some (.int r)) Sf args s mc ms) (F0 m 0 ls []) := by
  obtain ⟨hx, hb, hr, hlk, hml, hown, hts, hE, hA, hnm⟩ := hc
  have hc : gC p s m args meth c G RX0 "lambda$blocked$4" cX0_lambda_blocked_4 1 (some .boolean) := ⟨hx, hb, hr, hlk, hml, hown, hts, hE, hA, hnm⟩
  unfold fX0_lambda_blocked_4 at hf
  refine g_aload_n (pc := 0) (o := l0) hx hb dX0_lambda_blocked_4_0 rfl (lv_at hl 0 rfl) ?_
  obtain ⟨a1, ea1, hf⟩ := bdo hf
  obtain ⟨v2, e2, hf⟩ := bdo hf
  refine g_get (pc := 1) (o := l0) (a := a1) (ci := 4) (k := 1) (v := .int v2) (C := RX16) (T := TX16) (N := 6) hx hb hts hown hE hk hH in_X16 rfl (by decide) (hts _ q1716) (fun _ h9 => h9) ea1 (rdI_o e2) dX0_lambda_blocked_4_1 ?_
  refine lv_if_ne (pc := 4) (tgt := 11) hx hb dX0_lambda_blocked_4_4 (by decide) (fun c3 => ?_) (fun c3 => ?_)
  · rw [if_neg c3] at hf
    refine lv_iconst (pc := 11) (v := nI 0) hx hb dX0_lambda_blocked_4_11 rfl ?_
    exact g_zret (pc := 12) hx hb hr hlk hH hS hkc hks hf dX0_lambda_blocked_4_12
  · rw [if_pos c3] at hf
    refine lv_iconst (pc := 7) (v := nI 1) hx hb dX0_lambda_blocked_4_7 rfl ?_
    refine lv_goto (pc := 8) (tgt := 12) hx hb dX0_lambda_blocked_4_8 (by decide) ?_
    exact g_zret (pc := 12) hx hb hr hlk hH hS hkc hks hf dX0_lambda_blocked_4_12
theorem mX0_lambda_blocked_4 {l : Launch} {G : gG} {Rp : gM → gM → Nat → Prop} (hk : rOK Rp) (hJ : JDK l G Rp) {S S2 : gS} {r2 : Int32} {C N : Nat} {l0 : Option Nat} (hf : fX0_lambda_blocked_4 l0 S = some (r2, S2, C, N)) : gMet l yX0_lambda_blocked_4 cX0_lambda_blocked_4 1 (some .boolean) 1 40 G Rp [va_rf l0] S (some (.int r2)) S2 C N := by
  refine g_start (by decide) (by simp [lg_sl, va_rf_cat, cat_i, cat_j, cat_r]) (fun p e s m args below meth c ls hc hl hH => ?_)
  have hl : lv_has ls 1 [(0, va_rf l0)] := by simpa [lv_args, va_rf_cat, cat_i, cat_j, cat_r] using hl
  exact wX0_lambda_blocked_4_b0 hk hJ hc l0 S _ _ ls 0 0 C N (by omega) (by omega) hH va_S.rf (lv_sub hl [0] rfl) hf
end
section
variable {r : Int32} {Sf : gS}
def fX0_lambda_manyOut_0 (l0 : Option Nat) (l1 : Option Nat) (S : gS) : gO Int32 :=
  bd l0 fun a1 =>
  bd (rdI S a1 6 0) fun v2 =>
  bd l1 fun a4 =>
  bd (chk S a4 4) fun _ =>
  gb (fX16_isHeldBy a4 v2 S) fun v3 S3 =>
  zg v3 S3
theorem wX0_lambda_manyOut_0_b0 (hk : rOK Rp) (hJ : JDK l G Rp) (hc : gC p s m args meth c G RX0 "lambda$manyOut$0" cX0_lambda_manyOut_0 2 (some .boolean)) (l0 : Option Nat) (l1 : Option Nat) (S : gS) (H : Heap) (locs : List Loc) (ls : Array Slot) (kc ks C N : Nat) (hkc : kc + C ≤ mc) (hks : ks + N ≤ ms) (hH : hp G Rp S H) (hS : va_S G.2.2.2 s.heap H locs) (hl : lv_has ls 2 [(0, va_rf l0), (1, va_rf l1)]) (hf : fX0_lambda_manyOut_0 l0 l1 S = some (r, Sf, C, N)) : W p l e (gR 2 61 mc ms) s m args below meth c H locs kc ks (gQ below G Rp (some (.int r)) Sf args s mc ms) (F0 m 0 ls []) := by
  obtain ⟨hx, hb, hr, hlk, hml, hown, hts, hE, hA, hnm⟩ := hc
  have hc : gC p s m args meth c G RX0 "lambda$manyOut$0" cX0_lambda_manyOut_0 2 (some .boolean) := ⟨hx, hb, hr, hlk, hml, hown, hts, hE, hA, hnm⟩
  unfold fX0_lambda_manyOut_0 at hf
  refine g_aload_n (pc := 0) (o := l1) hx hb dX0_lambda_manyOut_0_0 rfl (lv_at hl 1 rfl) ?_
  refine g_aload_n (pc := 1) (o := l0) hx hb dX0_lambda_manyOut_0_1 rfl (lv_at hl 0 rfl) ?_
  obtain ⟨a1, ea1, hf⟩ := bdo hf
  obtain ⟨v2, e2, hf⟩ := bdo hf
  refine g_get (pc := 2) (o := l0) (a := a1) (ci := 6) (k := 0) (v := .int v2) (C := RX10) (T := TX10) (N := 5) hx hb hts hown hE hk hH in_X10 rfl (by decide) (hts _ q1246) (fun _ h9 => h9) ea1 (rdI_o e2) dX0_lambda_manyOut_0_2 ?_
  obtain ⟨a4, ea4, hf⟩ := bdo hf
  obtain ⟨_, ek3, hf⟩ := bdo hf
  obtain ⟨v3, S3, c3, n3, c2_3, n2_3, e3, hf, hC3, hN3⟩ := gbo hf
  refine g_callV (pc := 5) (o := l1) (b := a4) (As := [.int v2]) (rest := []) (st1 := [.int v3]) hc (mX16_isHeldBy hk hJ (l0 := a4) (l1 := v2) e3) (cwV 1 hts (lw_V q1855 q1514 q1515 q144 q1516) rfl rfl rfl hdX16_isHeldBy ⟨Nat.le_of_ble_eq_true rfl, Nat.le_of_ble_eq_true rfl⟩) (g_recv hE hk hH (ci := 4) (q := (RX16, TX16, 6)) rfl (chk_o ek3).choose_spec) ea4 rfl hl.1 rfl rfl (lv_room (Nat.le_of_ble_eq_true rfl)) dX0_lambda_manyOut_0_5 hH hS (by omega) (by omega) (fun H locs hH hS => ?_)
  have hkc : kc + c3 + c2_3 ≤ mc := by omega
  have hks : ks + n3 + n2_3 ≤ ms := by omega
  exact g_zret (pc := 8) hx hb hr hlk hH hS hkc hks hf dX0_lambda_manyOut_0_8
theorem mX0_lambda_manyOut_0 {l : Launch} {G : gG} {Rp : gM → gM → Nat → Prop} (hk : rOK Rp) (hJ : JDK l G Rp) {S S2 : gS} {r2 : Int32} {C N : Nat} {l0 : Option Nat} {l1 : Option Nat} (hf : fX0_lambda_manyOut_0 l0 l1 S = some (r2, S2, C, N)) : gMet l yX0_lambda_manyOut_0 cX0_lambda_manyOut_0 2 (some .boolean) 2 61 G Rp [va_rf l0, va_rf l1] S (some (.int r2)) S2 C N := by
  refine g_start (by decide) (by simp [lg_sl, va_rf_cat, cat_i, cat_j, cat_r]) (fun p e s m args below meth c ls hc hl hH => ?_)
  have hl : lv_has ls 2 [(0, va_rf l0), (1, va_rf l1)] := by simpa [lv_args, va_rf_cat, cat_i, cat_j, cat_r] using hl
  exact wX0_lambda_manyOut_0_b0 hk hJ hc l0 l1 S _ _ ls 0 0 C N (by omega) (by omega) hH va_S.rf (lv_sub hl [0, 1] rfl) hf
end
section
variable {r : Int32} {Sf : gS}
def fX0_lambda_queueOf_1 (l0 : Int32) (l1 : Option Nat) (S : gS) : gO Int32 :=
  bd l1 fun a1 =>
  bd (rdI S a1 4 1) fun v2 =>
  if v2 = (l0 - (nI 1)) then
    zg (nI 1) S
  else
    zg (nI 0) S
theorem wX0_lambda_queueOf_1_b0 (hk : rOK Rp) (hJ : JDK l G Rp) (hc : gC p s m args meth c G RX0 "lambda$queueOf$1" cX0_lambda_queueOf_1 2 (some .boolean)) (l0 : Int32) (l1 : Option Nat) (S : gS) (H : Heap) (locs : List Loc) (ls : Array Slot) (kc ks C N : Nat) (hkc : kc + C ≤ mc) (hks : ks + N ≤ ms) (hH : hp G Rp S H) (hS : va_S G.2.2.2 s.heap H locs) (hl : lv_has ls 2 [(0, .int l0), (1, va_rf l1)]) (hf : fX0_lambda_queueOf_1 l0 l1 S = some (r, Sf, C, N)) : W p l e (gR 1 40 mc ms) s m args below meth c H locs kc ks (gQ below G Rp (some (.int r)) Sf args s mc ms) (F0 m 0 ls []) := by
  obtain ⟨hx, hb, hr, hlk, hml, hown, hts, hE, hA, hnm⟩ := hc
  have hc : gC p s m args meth c G RX0 "lambda$queueOf$1" cX0_lambda_queueOf_1 2 (some .boolean) := ⟨hx, hb, hr, hlk, hml, hown, hts, hE, hA, hnm⟩
  unfold fX0_lambda_queueOf_1 at hf
  refine g_aload_n (pc := 0) (o := l1) hx hb dX0_lambda_queueOf_1_0 rfl (lv_at hl 1 rfl) ?_
  obtain ⟨a1, ea1, hf⟩ := bdo hf
  obtain ⟨v2, e2, hf⟩ := bdo hf
  refine g_get (pc := 1) (o := l1) (a := a1) (ci := 4) (k := 1) (v := .int v2) (C := RX16) (T := TX16) (N := 6) hx hb hts hown hE hk hH in_X16 rfl (by decide) (hts _ q1716) (fun _ h9 => h9) ea1 (rdI_o e2) dX0_lambda_queueOf_1_1 ?_
  refine lv_iload_n (pc := 4) hx hb dX0_lambda_queueOf_1_4 rfl (lv_at hl 0 rfl) ?_
  refine lv_iconst (pc := 5) (v := nI 1) hx hb dX0_lambda_queueOf_1_5 rfl ?_
  refine lv_isub (pc := 6) hx hb dX0_lambda_queueOf_1_6 ?_
  refine lv_icmp_ne (pc := 7) (tgt := 14) hx hb dX0_lambda_queueOf_1_7 (by decide) (fun c3 => ?_) (fun c3 => ?_)
  · rw [if_neg c3] at hf
    refine lv_iconst (pc := 14) (v := nI 0) hx hb dX0_lambda_queueOf_1_14 rfl ?_
    exact g_zret (pc := 15) hx hb hr hlk hH hS hkc hks hf dX0_lambda_queueOf_1_15
  · rw [if_pos c3] at hf
    refine lv_iconst (pc := 10) (v := nI 1) hx hb dX0_lambda_queueOf_1_10 rfl ?_
    refine lv_goto (pc := 11) (tgt := 15) hx hb dX0_lambda_queueOf_1_11 (by decide) ?_
    exact g_zret (pc := 15) hx hb hr hlk hH hS hkc hks hf dX0_lambda_queueOf_1_15
theorem mX0_lambda_queueOf_1 {l : Launch} {G : gG} {Rp : gM → gM → Nat → Prop} (hk : rOK Rp) (hJ : JDK l G Rp) {S S2 : gS} {r2 : Int32} {C N : Nat} {l0 : Int32} {l1 : Option Nat} (hf : fX0_lambda_queueOf_1 l0 l1 S = some (r2, S2, C, N)) : gMet l yX0_lambda_queueOf_1 cX0_lambda_queueOf_1 2 (some .boolean) 1 40 G Rp [.int l0, va_rf l1] S (some (.int r2)) S2 C N := by
  refine g_start (by decide) (by simp [lg_sl, va_rf_cat, cat_i, cat_j, cat_r]) (fun p e s m args below meth c ls hc hl hH => ?_)
  have hl : lv_has ls 2 [(0, .int l0), (1, va_rf l1)] := by simpa [lv_args, va_rf_cat, cat_i, cat_j, cat_r] using hl
  exact wX0_lambda_queueOf_1_b0 hk hJ hc l0 l1 S _ _ ls 0 0 C N (by omega) (by omega) hH va_S.rf (lv_sub hl [0, 1] rfl) hf
end
section
variable {r : Int32} {Sf : gS}
def fX0_lambda_held_2 (l0 : Int32) (l1 : Option Nat) (S : gS) : gO Int32 :=
  bd l1 fun a2 =>
  bd (chk S a2 4) fun _ =>
  gb (fX16_isHeldBy a2 l0 S) fun v1 S1 =>
  zg v1 S1
theorem wX0_lambda_held_2_b0 (hk : rOK Rp) (hJ : JDK l G Rp) (hc : gC p s m args meth c G RX0 "lambda$held$2" cX0_lambda_held_2 2 (some .boolean)) (l0 : Int32) (l1 : Option Nat) (S : gS) (H : Heap) (locs : List Loc) (ls : Array Slot) (kc ks C N : Nat) (hkc : kc + C ≤ mc) (hks : ks + N ≤ ms) (hH : hp G Rp S H) (hS : va_S G.2.2.2 s.heap H locs) (hl : lv_has ls 2 [(0, .int l0), (1, va_rf l1)]) (hf : fX0_lambda_held_2 l0 l1 S = some (r, Sf, C, N)) : W p l e (gR 2 61 mc ms) s m args below meth c H locs kc ks (gQ below G Rp (some (.int r)) Sf args s mc ms) (F0 m 0 ls []) := by
  obtain ⟨hx, hb, hr, hlk, hml, hown, hts, hE, hA, hnm⟩ := hc
  have hc : gC p s m args meth c G RX0 "lambda$held$2" cX0_lambda_held_2 2 (some .boolean) := ⟨hx, hb, hr, hlk, hml, hown, hts, hE, hA, hnm⟩
  unfold fX0_lambda_held_2 at hf
  refine g_aload_n (pc := 0) (o := l1) hx hb dX0_lambda_held_2_0 rfl (lv_at hl 1 rfl) ?_
  refine lv_iload_n (pc := 1) hx hb dX0_lambda_held_2_1 rfl (lv_at hl 0 rfl) ?_
  obtain ⟨a2, ea2, hf⟩ := bdo hf
  obtain ⟨_, ek1, hf⟩ := bdo hf
  obtain ⟨v1, S1, c1, n1, c2_1, n2_1, e1, hf, hC1, hN1⟩ := gbo hf
  refine g_callV (pc := 2) (o := l1) (b := a2) (As := [.int l0]) (rest := []) (st1 := [.int v1]) hc (mX16_isHeldBy hk hJ (l0 := a2) (l1 := l0) e1) (cwV 1 hts (lw_V q1855 q1514 q1515 q144 q1516) rfl rfl rfl hdX16_isHeldBy ⟨Nat.le_of_ble_eq_true rfl, Nat.le_of_ble_eq_true rfl⟩) (g_recv hE hk hH (ci := 4) (q := (RX16, TX16, 6)) rfl (chk_o ek1).choose_spec) ea2 rfl hl.1 rfl rfl (lv_room (Nat.le_of_ble_eq_true rfl)) dX0_lambda_held_2_2 hH hS (by omega) (by omega) (fun H locs hH hS => ?_)
  have hkc : kc + c1 + c2_1 ≤ mc := by omega
  have hks : ks + n1 + n2_1 ≤ ms := by omega
  exact g_zret (pc := 5) hx hb hr hlk hH hS hkc hks hf dX0_lambda_held_2_5
theorem mX0_lambda_held_2 {l : Launch} {G : gG} {Rp : gM → gM → Nat → Prop} (hk : rOK Rp) (hJ : JDK l G Rp) {S S2 : gS} {r2 : Int32} {C N : Nat} {l0 : Int32} {l1 : Option Nat} (hf : fX0_lambda_held_2 l0 l1 S = some (r2, S2, C, N)) : gMet l yX0_lambda_held_2 cX0_lambda_held_2 2 (some .boolean) 2 61 G Rp [.int l0, va_rf l1] S (some (.int r2)) S2 C N := by
  refine g_start (by decide) (by simp [lg_sl, va_rf_cat, cat_i, cat_j, cat_r]) (fun p e s m args below meth c ls hc hl hH => ?_)
  have hl : lv_has ls 2 [(0, .int l0), (1, va_rf l1)] := by simpa [lv_args, va_rf_cat, cat_i, cat_j, cat_r] using hl
  exact wX0_lambda_held_2_b0 hk hJ hc l0 l1 S _ _ ls 0 0 C N (by omega) (by omega) hH va_S.rf (lv_sub hl [0, 1] rfl) hf
end
section
variable {r : Int32} {Sf : gS}
def fX0_lambda_messageOf_3 (l0 : Option Nat) (l1 : Option Nat) (S : gS) : gO Int32 :=
  bd l1 fun a1 =>
  bd (rdR S a1 4 0) fun v2 =>
  if v2 = l0 then
    zg (nI 1) S
  else
    zg (nI 0) S
theorem wX0_lambda_messageOf_3_b0 (hk : rOK Rp) (hJ : JDK l G Rp) (hc : gC p s m args meth c G RX0 "lambda$messageOf$3" cX0_lambda_messageOf_3 2 (some .boolean)) (l0 : Option Nat) (l1 : Option Nat) (S : gS) (H : Heap) (locs : List Loc) (ls : Array Slot) (kc ks C N : Nat) (hkc : kc + C ≤ mc) (hks : ks + N ≤ ms) (hH : hp G Rp S H) (hS : va_S G.2.2.2 s.heap H locs) (hl : lv_has ls 2 [(0, va_rf l0), (1, va_rf l1)]) (hf : fX0_lambda_messageOf_3 l0 l1 S = some (r, Sf, C, N)) : W p l e (gR 1 40 mc ms) s m args below meth c H locs kc ks (gQ below G Rp (some (.int r)) Sf args s mc ms) (F0 m 0 ls []) := by
  obtain ⟨hx, hb, hr, hlk, hml, hown, hts, hE, hA, hnm⟩ := hc
  have hc : gC p s m args meth c G RX0 "lambda$messageOf$3" cX0_lambda_messageOf_3 2 (some .boolean) := ⟨hx, hb, hr, hlk, hml, hown, hts, hE, hA, hnm⟩
  unfold fX0_lambda_messageOf_3 at hf
  refine g_aload_n (pc := 0) (o := l1) hx hb dX0_lambda_messageOf_3_0 rfl (lv_at hl 1 rfl) ?_
  obtain ⟨a1, ea1, hf⟩ := bdo hf
  obtain ⟨v2, e2, hf⟩ := bdo hf
  refine g_get (pc := 1) (o := l1) (a := a1) (ci := 4) (k := 0) (v := va_rf v2) (C := RX16) (T := TX16) (N := 6) hx hb hts hown hE hk hH in_X16 rfl (by decide) (hts _ q1712) (fun _ h9 => h9) ea1 (rdR_o e2) dX0_lambda_messageOf_3_1 ?_
  refine g_aload_n (pc := 4) (o := l0) hx hb dX0_lambda_messageOf_3_4 rfl (lv_at hl 0 rfl) ?_
  refine lv_acmp_ne (pc := 5) (rx := v2) (ry := l0) (tgt := 12) hx hb dX0_lambda_messageOf_3_5 (by decide) (fun c3 => ?_) (fun c3 => ?_)
  · rw [if_neg c3] at hf
    refine lv_iconst (pc := 12) (v := nI 0) hx hb dX0_lambda_messageOf_3_12 rfl ?_
    exact g_zret (pc := 13) hx hb hr hlk hH hS hkc hks hf dX0_lambda_messageOf_3_13
  · rw [if_pos c3] at hf
    refine lv_iconst (pc := 8) (v := nI 1) hx hb dX0_lambda_messageOf_3_8 rfl ?_
    refine lv_goto (pc := 9) (tgt := 13) hx hb dX0_lambda_messageOf_3_9 (by decide) ?_
    exact g_zret (pc := 13) hx hb hr hlk hH hS hkc hks hf dX0_lambda_messageOf_3_13
theorem mX0_lambda_messageOf_3 {l : Launch} {G : gG} {Rp : gM → gM → Nat → Prop} (hk : rOK Rp) (hJ : JDK l G Rp) {S S2 : gS} {r2 : Int32} {C N : Nat} {l0 : Option Nat} {l1 : Option Nat} (hf : fX0_lambda_messageOf_3 l0 l1 S = some (r2, S2, C, N)) : gMet l yX0_lambda_messageOf_3 cX0_lambda_messageOf_3 2 (some .boolean) 1 40 G Rp [va_rf l0, va_rf l1] S (some (.int r2)) S2 C N := by
  refine g_start (by decide) (by simp [lg_sl, va_rf_cat, cat_i, cat_j, cat_r]) (fun p e s m args below meth c ls hc hl hH => ?_)
  have hl : lv_has ls 2 [(0, va_rf l0), (1, va_rf l1)] := by simpa [lv_args, va_rf_cat, cat_i, cat_j, cat_r] using hl
  exact wX0_lambda_messageOf_3_b0 hk hJ hc l0 l1 S _ _ ls 0 0 C N (by omega) (by omega) hH va_S.rf (lv_sub hl [0, 1] rfl) hf
end
section
variable {r : Int32} {Sf : gS}
def fX1_lambda_answers_0 (l0 : Option Nat) (l1 : Option Nat) (S : gS) : gO Int32 :=
  bd l0 fun a1 =>
  bd (rdI S a1 6 0) fun v2 =>
  bd l1 fun a4 =>
  bd (chk S a4 4) fun _ =>
  gb (fX16_isHeldBy a4 v2 S) fun v3 S3 =>
  zg v3 S3
theorem wX1_lambda_answers_0_b0 (hk : rOK Rp) (hJ : JDK l G Rp) (hc : gC p s m args meth c G RX1 "lambda$answers$0" cX1_lambda_answers_0 2 (some .boolean)) (l0 : Option Nat) (l1 : Option Nat) (S : gS) (H : Heap) (locs : List Loc) (ls : Array Slot) (kc ks C N : Nat) (hkc : kc + C ≤ mc) (hks : ks + N ≤ ms) (hH : hp G Rp S H) (hS : va_S G.2.2.2 s.heap H locs) (hl : lv_has ls 2 [(0, va_rf l0), (1, va_rf l1)]) (hf : fX1_lambda_answers_0 l0 l1 S = some (r, Sf, C, N)) : W p l e (gR 2 61 mc ms) s m args below meth c H locs kc ks (gQ below G Rp (some (.int r)) Sf args s mc ms) (F0 m 0 ls []) := by
  obtain ⟨hx, hb, hr, hlk, hml, hown, hts, hE, hA, hnm⟩ := hc
  have hc : gC p s m args meth c G RX1 "lambda$answers$0" cX1_lambda_answers_0 2 (some .boolean) := ⟨hx, hb, hr, hlk, hml, hown, hts, hE, hA, hnm⟩
  unfold fX1_lambda_answers_0 at hf
  refine g_aload_n (pc := 0) (o := l1) hx hb dX1_lambda_answers_0_0 rfl (lv_at hl 1 rfl) ?_
  refine g_aload_n (pc := 1) (o := l0) hx hb dX1_lambda_answers_0_1 rfl (lv_at hl 0 rfl) ?_
  obtain ⟨a1, ea1, hf⟩ := bdo hf
  obtain ⟨v2, e2, hf⟩ := bdo hf
  refine g_get (pc := 2) (o := l0) (a := a1) (ci := 6) (k := 0) (v := .int v2) (C := RX10) (T := TX10) (N := 5) hx hb hts hown hE hk hH in_X10 rfl (by decide) (hts _ q1245) (fun _ h9 => h9) ea1 (rdI_o e2) dX1_lambda_answers_0_2 ?_
  obtain ⟨a4, ea4, hf⟩ := bdo hf
  obtain ⟨_, ek3, hf⟩ := bdo hf
  obtain ⟨v3, S3, c3, n3, c2_3, n2_3, e3, hf, hC3, hN3⟩ := gbo hf
  refine g_callV (pc := 5) (o := l1) (b := a4) (As := [.int v2]) (rest := []) (st1 := [.int v3]) hc (mX16_isHeldBy hk hJ (l0 := a4) (l1 := v2) e3) (cwV 1 hts (lw_V q1513 q1514 q1515 q144 q1516) rfl rfl rfl hdX16_isHeldBy ⟨Nat.le_of_ble_eq_true rfl, Nat.le_of_ble_eq_true rfl⟩) (g_recv hE hk hH (ci := 4) (q := (RX16, TX16, 6)) rfl (chk_o ek3).choose_spec) ea4 rfl hl.1 rfl rfl (lv_room (Nat.le_of_ble_eq_true rfl)) dX1_lambda_answers_0_5 hH hS (by omega) (by omega) (fun H locs hH hS => ?_)
  have hkc : kc + c3 + c2_3 ≤ mc := by omega
  have hks : ks + n3 + n2_3 ≤ ms := by omega
  exact g_zret (pc := 8) hx hb hr hlk hH hS hkc hks hf dX1_lambda_answers_0_8
theorem mX1_lambda_answers_0 {l : Launch} {G : gG} {Rp : gM → gM → Nat → Prop} (hk : rOK Rp) (hJ : JDK l G Rp) {S S2 : gS} {r2 : Int32} {C N : Nat} {l0 : Option Nat} {l1 : Option Nat} (hf : fX1_lambda_answers_0 l0 l1 S = some (r2, S2, C, N)) : gMet l yX1_lambda_answers_0 cX1_lambda_answers_0 2 (some .boolean) 2 61 G Rp [va_rf l0, va_rf l1] S (some (.int r2)) S2 C N := by
  refine g_start (by decide) (by simp [lg_sl, va_rf_cat, cat_i, cat_j, cat_r]) (fun p e s m args below meth c ls hc hl hH => ?_)
  have hl : lv_has ls 2 [(0, va_rf l0), (1, va_rf l1)] := by simpa [lv_args, va_rf_cat, cat_i, cat_j, cat_r] using hl
  exact wX1_lambda_answers_0_b0 hk hJ hc l0 l1 S _ _ ls 0 0 C N (by omega) (by omega) hH va_S.rf (lv_sub hl [0, 1] rfl) hf
end
section
variable {r : Int32} {Sf : gS}
def fdis (G : gG) (b : Nat) (x : Option Nat) (S : gS) : gO Int32 :=
  if b = G.2.2.1 6 then gb (fX0_lambda_blocked_4  x S) zg
  else match lamK S b with
  | some 21 => bd (lamQ S b 21) fun v => gb (fX0_lambda_manyOut_0 v x S) zg
  | some 22 => bd (lamI S b 22) fun v => gb (fX0_lambda_queueOf_1 v x S) zg
  | some 23 => bd (lamI S b 23) fun v => gb (fX0_lambda_held_2 v x S) zg
  | some 24 => bd (lamQ S b 24) fun v => gb (fX0_lambda_messageOf_3 v x S) zg
  | some 26 => bd (lamQ S b 26) fun v => gb (fX1_lambda_answers_0 v x S) zg
  | _ => none
section
variable {p : Program} {l : Launch} {e : Env} {s : State} {m : MethodId} {args : Array Value} {below : List Frame} {meth : Method} {c : Code} {G : gG} {Rp : gM → gM → Nat → Prop} {R : Room} {H : Heap} {locs : List Loc} {Q : State → Prop} {cc : ByteArray} {ls : Array Slot} {rest : List Value} {pc : Nat} {kc ks : Nat}
theorem gP_is {own nm : String} {nL fr lo index count C9 N mc ms b : Nat} {o x0 : Option Nat} {ret' : Option FieldType} {st0 st1 : List Value} {S S2 : gS} {v : Int32} (hc : gC p s m args meth c G own nm cc nL ret') (hk : rOK Rp) (hJ : JDK l G Rp) (e1 : fdis G b x0 S = some (v, S2, C9, N)) (hl : Cond.methodLink own index lxW ∈ lw_all) (hfr : 4 ≤ fr) (hlo : 95 ≤ lo) (eo : o = some b) (hsize : ls.size = nL) (hst0 : st0 = va_rf x0 :: va_rf o :: rest) (hst : .int v :: rest = st1) (hW : 2 * (F0 m pc ls st0).monitorRoom + (rest.map fun v => v.category).sum ≤ 8) (hdg : decode cc pc = .ok (.invokeinterface index count, 5)) (hH : hp G Rp S H) (hS : va_S G.2.2.2 s.heap H locs) (hkc : kc + C9 ≤ mc) (hks : ks + N ≤ ms)
    (kk : ∀ (H1 : Heap) (locs1 : List Loc), hp G Rp S2 H1 → va_S G.2.2.2 s.heap H1 locs1 → W p l e (gR fr lo mc ms) s m args below meth c H1 locs1 (kc + C9) (ks + N) Q (F0 m (pc + 5) ls st1)) : W p l e (gR fr lo mc ms) s m args below meth c H locs kc ks Q (F0 m pc ls st0) := by
  obtain ⟨hx, hb, hr, hlk, hml, hown, hts, hE, hA, hnm⟩ := hc
  have hc : gC p s m args meth c G own nm cc nL ret' := ⟨hx, hb, hr, hlk, hml, hown, hts, hE, hA, hnm⟩
  unfold fdis at e1
  by_cases h6 : b = G.2.2.1 6
  · rw [if_pos h6] at e1
    obtain ⟨v1, S1, c1, n1, c2, n2, e2, e3, hC, hN⟩ := gbo e1
    obtain ⟨hz, rfl, rfl, h0, h00⟩ := zg_o e3
    obtain rfl : C9 = c1 := by omega
    obtain rfl : N = n1 := by omega
    exact g_lamIs0 (t := 25) (y := yX0_lambda_blocked_4) (x := lxW) hc hk (mX0_lambda_blocked_4 hk hJ (l0 := x0) e2) lC5 (gE_L hE).2.2.2.2.2.2.1 rfl ly5 lx5 hl (gE_L hE).1 (by decide) q2568 q2569 q97 (by decide +kernel) (by decide +kernel) (by rw [h6]; exact (gE_L hE).2.2.2.2.2.2.2.2.2.2.1) (va_rf_ref _) (nar_z hz) (Or.inr rfl) (Nat.le_trans (Nat.le_of_ble_eq_true rfl) hfr) (Nat.le_trans (Nat.le_of_ble_eq_true rfl) hlo) eo hsize hst0 hst hW hdg hH hS hkc hks kk
  · rw [if_neg h6] at e1
    split at e1
    next =>
      obtain ⟨cv, e8, e1⟩ := bdo e1
      obtain ⟨v1, S1, c1, n1, c2, n2, e2, e3, hC, hN⟩ := gbo e1
      obtain ⟨hz, rfl, rfl, h0, h00⟩ := zg_o e3
      obtain rfl : C9 = c1 := by omega
      obtain rfl : N = n1 := by omega
      exact g_lamIs1 (t := 21) (y := yX0_lambda_manyOut_0) (x := lxW) hc hk (mX0_lambda_manyOut_0 hk hJ (l0 := cv) (l1 := x0) e2) lC1 lE1 (gE_L hE).2.2.1 rfl ly1 lx1 hl (gE_L hE).1 (by decide) q1853 q1854 q97 (by decide +kernel) (by decide +kernel) (Or.inl ⟨_, e8, rfl⟩) (va_rf_ref _) (nar_z hz) (Or.inr rfl) (Nat.le_trans (Nat.le_of_ble_eq_true rfl) hfr) (Nat.le_trans (Nat.le_of_ble_eq_true rfl) hlo) eo hsize hst0 hst hW hdg hH hS hkc hks kk
    next =>
      obtain ⟨cv, e8, e1⟩ := bdo e1
      obtain ⟨v1, S1, c1, n1, c2, n2, e2, e3, hC, hN⟩ := gbo e1
      obtain ⟨hz, rfl, rfl, h0, h00⟩ := zg_o e3
      obtain rfl : C9 = c1 := by omega
      obtain rfl : N = n1 := by omega
      exact g_lamIs1 (t := 22) (y := yX0_lambda_queueOf_1) (x := lxW) hc hk (mX0_lambda_queueOf_1 hk hJ (l0 := cv) (l1 := x0) e2) lC2 lE2 (gE_L hE).2.2.2.1 rfl ly2 lx2 hl (gE_L hE).1 (by decide) q2437 q2438 q97 (by decide +kernel) (by decide +kernel) (Or.inr ⟨_, e8, rfl⟩) (va_rf_ref _) (nar_z hz) (Or.inr rfl) (Nat.le_trans (Nat.le_of_ble_eq_true rfl) hfr) (Nat.le_trans (Nat.le_of_ble_eq_true rfl) hlo) eo hsize hst0 hst hW hdg hH hS hkc hks kk
    next =>
      obtain ⟨cv, e8, e1⟩ := bdo e1
      obtain ⟨v1, S1, c1, n1, c2, n2, e2, e3, hC, hN⟩ := gbo e1
      obtain ⟨hz, rfl, rfl, h0, h00⟩ := zg_o e3
      obtain rfl : C9 = c1 := by omega
      obtain rfl : N = n1 := by omega
      exact g_lamIs1 (t := 23) (y := yX0_lambda_held_2) (x := lxW) hc hk (mX0_lambda_held_2 hk hJ (l0 := cv) (l1 := x0) e2) lC3 lE3 (gE_L hE).2.2.2.2.1 rfl ly3 lx3 hl (gE_L hE).1 (by decide) q2504 q2505 q97 (by decide +kernel) (by decide +kernel) (Or.inr ⟨_, e8, rfl⟩) (va_rf_ref _) (nar_z hz) (Or.inr rfl) (Nat.le_trans (Nat.le_of_ble_eq_true rfl) hfr) (Nat.le_trans (Nat.le_of_ble_eq_true rfl) hlo) eo hsize hst0 hst hW hdg hH hS hkc hks kk
    next =>
      obtain ⟨cv, e8, e1⟩ := bdo e1
      obtain ⟨v1, S1, c1, n1, c2, n2, e2, e3, hC, hN⟩ := gbo e1
      obtain ⟨hz, rfl, rfl, h0, h00⟩ := zg_o e3
      obtain rfl : C9 = c1 := by omega
      obtain rfl : N = n1 := by omega
      exact g_lamIs1 (t := 24) (y := yX0_lambda_messageOf_3) (x := lxW) hc hk (mX0_lambda_messageOf_3 hk hJ (l0 := cv) (l1 := x0) e2) lC4 lE4 (gE_L hE).2.2.2.2.2.1 rfl ly4 lx4 hl (gE_L hE).1 (by decide) q2515 q2516 q97 (by decide +kernel) (by decide +kernel) (Or.inl ⟨_, e8, rfl⟩) (va_rf_ref _) (nar_z hz) (Or.inr rfl) (Nat.le_trans (Nat.le_of_ble_eq_true rfl) hfr) (Nat.le_trans (Nat.le_of_ble_eq_true rfl) hlo) eo hsize hst0 hst hW hdg hH hS hkc hks kk
    next =>
      obtain ⟨cv, e8, e1⟩ := bdo e1
      obtain ⟨v1, S1, c1, n1, c2, n2, e2, e3, hC, hN⟩ := gbo e1
      obtain ⟨hz, rfl, rfl, h0, h00⟩ := zg_o e3
      obtain rfl : C9 = c1 := by omega
      obtain rfl : N = n1 := by omega
      exact g_lamIs1 (t := 26) (y := yX1_lambda_answers_0) (x := lxW) hc hk (mX1_lambda_answers_0 hk hJ (l0 := cv) (l1 := x0) e2) lC6 lE6 (gE_L hE).2.2.2.2.2.2.2.1 rfl ly6 lx6 hl (gE_L hE).1 (by decide) q2794 q2795 q98 (by decide +kernel) (by decide +kernel) (Or.inl ⟨_, e8, rfl⟩) (va_rf_ref _) (nar_z hz) (Or.inr rfl) (Nat.le_trans (Nat.le_of_ble_eq_true rfl) hfr) (Nat.le_trans (Nat.le_of_ble_eq_true rfl) hlo) eo hsize hst0 hst hW hdg hH hS hkc hks kk
    next => cases e1
end
end
section
variable {r : Int32} {Sf : gS}
def fX8_many_b4 (G : gG) : Nat → Nat → (Option Nat) → Int32 → Int32 → gS → gO Int32
  | 0, _, _, _, _, _ => none
  | n + 1, l0, l1, l2, l3, S =>
    bd (rdR S l0 3 7) fun v1 =>
    bd v1 fun a3 =>
    gb (nAL_size a3  S) fun v2 S2 =>
    if v2 ≤ l3 then
      some (l2, S2, 0, 0)
    else
      bd (rdR S2 l0 3 7) fun v5 =>
      bd v5 fun a7 =>
      gb (nAL_get a7 l3 S2) fun v6 S6 =>
      bd (ckc S6 v6 4) fun _ =>
      bd l1 fun a10 =>
      gb (fdis G a10 v6 S6) fun v9 S9 =>
      if v9 = 0 then
        fX8_many_b4 G n l0 l1 (l2 + (nI 0)) (l3 + (nI 1)) S9
      else
        fX8_many_b4 G n l0 l1 (l2 + (nI 1)) (l3 + (nI 1)) S9
theorem wX8_many_b4 (hk : rOK Rp) (hJ : JDK l G Rp) (hc : gC p s m args meth c G RX8 "many" cX8_many 4 (some .int)) : ∀ (n : Nat) (l0 : Nat) (l1 : Option Nat) (l2 : Int32) (l3 : Int32) (S : gS) (H : Heap) (locs : List Loc) (ls : Array Slot) (kc ks C N : Nat), kc + C ≤ mc → ks + N ≤ ms → hp G Rp S H → va_S G.2.2.2 s.heap H locs → lv_has ls 4 [(0, .ref l0), (1, va_rf l1), (2, .int l2), (3, .int l3)] → fX8_many_b4 G n l0 l1 l2 l3 S = some (r, Sf, C, N) → W p l e (gR 15 540 mc ms) s m args below meth c H locs kc ks (gQ below G Rp (some (.int r)) Sf args s mc ms) (F0 m 4 ls []) := by
  obtain ⟨hx, hb, hr, hlk, hml, hown, hts, hE, hA, hnm⟩ := hc
  have hc : gC p s m args meth c G RX8 "many" cX8_many 4 (some .int) := ⟨hx, hb, hr, hlk, hml, hown, hts, hE, hA, hnm⟩
  intro n
  induction n with
  | zero => intro l0 l1 l2 l3 S H locs ls kc ks C N _ _ _ _ _ hf; exact absurd hf (fun h => by cases h)
  | succ n ih =>
    intro l0 l1 l2 l3 S H locs ls kc ks C N hkc hks hH hS hl hf
    rw [fX8_many_b4] at hf
    refine lv_iload_n (pc := 4) hx hb dX8_many_4 rfl (lv_at hl 3 rfl) ?_
    refine lv_aload_n (pc := 5) hx hb dX8_many_5 rfl (lv_at hl 0 rfl) ?_
    obtain ⟨v1, e1, hf⟩ := bdo hf
    refine g_get (pc := 6) (o := (some l0)) (a := l0) (ci := 3) (k := 7) (v := va_rf v1) (C := RX8) (T := TX8) (N := 13) hx hb hts hown hE hk hH in_X8 rfl (by decide) (hts _ q1167) (fun _ h9 => h9) rfl (rdR_o e1) dX8_many_6 ?_
    obtain ⟨a3, ea3, hf⟩ := bdo hf
    obtain ⟨v2, S2, c2, n2, c2_2, n2_2, e2, hf, hC2, hN2⟩ := gbo hf
    refine g_callV (pc := 9) (o := v1) (b := a3) (As := []) (rest := [.int l3]) (st1 := [.int v2, .int l3]) hc (j_nAL_size hJ a3  S v2 S2 c2 n2 e2) (cwV 0 hts (lw_V q1605 q1120 q1121 q101 q1122) rfl rfl rfl hdJ2_size ⟨Nat.le_of_ble_eq_true rfl, Nat.le_of_ble_eq_true rfl⟩) (j_recv hJ _ _ _ _ 0 _ _ hE hH hS (adtR (t := 0) (show bd _ _ = some _ from e2)).choose_spec) ea3 rfl hl.1 rfl rfl (lv_room (Nat.le_of_ble_eq_true rfl)) dX8_many_9 hH hS (by omega) (by omega) (fun H locs hH hS => ?_)
    have hkc : kc + c2 + c2_2 ≤ mc := by omega
    have hks : ks + n2 + n2_2 ≤ ms := by omega
    refine lv_icmp_ge (pc := 12) (tgt := 49) hx hb dX8_many_12 (by decide) (fun c4 => ?_) (fun c4 => ?_)
    · rw [if_pos c4] at hf
      refine lv_iload_n (pc := 49) hx hb dX8_many_49 rfl (lv_at hl 2 rfl) ?_
      exact g_iret (pc := 50) hx hb hr hlk hH hS hkc hks hf dX8_many_50
    · rw [if_neg c4] at hf
      refine lv_iload_n (pc := 15) hx hb dX8_many_15 rfl (lv_at hl 2 rfl) ?_
      refine g_aload_n (pc := 16) (o := l1) hx hb dX8_many_16 rfl (lv_at hl 1 rfl) ?_
      refine lv_aload_n (pc := 17) hx hb dX8_many_17 rfl (lv_at hl 0 rfl) ?_
      obtain ⟨v5, e5, hf⟩ := bdo hf
      refine g_get (pc := 18) (o := (some l0)) (a := l0) (ci := 3) (k := 7) (v := va_rf v5) (C := RX8) (T := TX8) (N := 13) hx hb hts hown hE hk hH in_X8 rfl (by decide) (hts _ q1167) (fun _ h9 => h9) rfl (rdR_o e5) dX8_many_18 ?_
      refine lv_iload_n (pc := 21) hx hb dX8_many_21 rfl (lv_at hl 3 rfl) ?_
      obtain ⟨a7, ea7, hf⟩ := bdo hf
      obtain ⟨v6, S6, c6, n6, c2_6, n2_6, e6, hf, hC6, hN6⟩ := gbo hf
      refine g_callV (pc := 22) (o := v5) (b := a7) (As := [.int l3]) (rest := [va_rf l1, .int l2]) (st1 := [va_rf v6, va_rf l1, .int l2]) hc (j_nAL_get hJ a7 l3 S2 v6 S6 c6 n6 e6) (cwV 1 hts (lw_V q1757 q1223 q1224 q101 q1225) rfl rfl rfl hdJ2_get ⟨Nat.le_of_ble_eq_true rfl, Nat.le_of_ble_eq_true rfl⟩) (j_recv hJ _ _ _ _ 0 _ _ hE hH hS (adtR (t := 0) (show bd _ _ = some _ from e6)).choose_spec) ea7 rfl hl.1 rfl rfl (lv_room (by simp [va_rf_cat, cat_i, cat_j, cat_r])) dX8_many_22 hH hS (by omega) (by omega) (fun H locs hH hS => ?_)
      have hkc : kc + c2 + c6 + c2_6 ≤ mc := by omega
      have hks : ks + n2 + n6 + n2_6 ≤ ms := by omega
      obtain ⟨_, e8, hf⟩ := bdo hf
      refine g_cast (pc := 25) (o := v6) (ci := 4) (C := RX16) (T := TX16) (N := 6) hx hb hts hown hE hk hH rfl q1758 e8 dX8_many_25 ?_
      obtain ⟨a10, ea10, hf⟩ := bdo hf
      obtain ⟨v9, S9, c9, n9, c2_9, n2_9, e9, hf, hC9, hN9⟩ := gbo hf
      refine gP_is (pc := 28) (o := l1) (b := a10) (x0 := v6) (rest := [.int l2]) (st1 := [.int v9, .int l2]) hc hk hJ e9 q1861 (Nat.le_of_ble_eq_true rfl) (Nat.le_of_ble_eq_true rfl) ea10 hl.1 rfl rfl (lv_room (Nat.le_of_ble_eq_true rfl)) dX8_many_28 hH hS (by omega) (by omega) (fun H locs hH hS => ?_)
      have hkc : kc + c2 + c6 + c9 + c2_9 ≤ mc := by omega
      have hks : ks + n2 + n6 + n9 + n2_9 ≤ ms := by omega
      refine lv_if_eq (pc := 33) (tgt := 40) hx hb dX8_many_33 (by decide) (fun c11 => ?_) (fun c11 => ?_)
      · rw [if_pos c11] at hf
        refine lv_iconst (pc := 40) (v := nI 0) hx hb dX8_many_40 rfl ?_
        refine lv_iadd (pc := 41) hx hb dX8_many_41 ?_
        refine lv_istore_n (pc := 42) (i := 2) (lv' := [(2, .int (l2 + (nI 0))), (0, .ref l0), (1, va_rf l1), (3, .int l3)]) hx hb dX8_many_42 rfl hl (by decide) (by simp [va_rf_cat, cat_i, cat_j, cat_r] <;> rfl) (fun ls hl => ?_)
        refine lv_iinc (pc := 43) (v := l3 + (nI 1)) (lv' := [(3, .int (l3 + (nI 1))), (2, .int (l2 + (nI 0))), (0, .ref l0), (1, va_rf l1)]) hx hb dX8_many_43 hl (k := 3) rfl rfl (by decide) rfl (fun ls hl => ?_)
        refine lv_goto (pc := 46) (tgt := 4) hx hb dX8_many_46 (by decide) ?_
        exact ih l0 l1 (l2 + (nI 0)) (l3 + (nI 1)) S9 _ _ ls _ _ _ _ hkc hks hH hS (lv_sub hl [2, 3, 1, 0] rfl) hf
      · rw [if_neg c11] at hf
        refine lv_iconst (pc := 36) (v := nI 1) hx hb dX8_many_36 rfl ?_
        refine lv_goto (pc := 37) (tgt := 41) hx hb dX8_many_37 (by decide) ?_
        refine lv_iadd (pc := 41) hx hb dX8_many_41 ?_
        refine lv_istore_n (pc := 42) (i := 2) (lv' := [(2, .int (l2 + (nI 1))), (0, .ref l0), (1, va_rf l1), (3, .int l3)]) hx hb dX8_many_42 rfl hl (by decide) (by simp [va_rf_cat, cat_i, cat_j, cat_r] <;> rfl) (fun ls hl => ?_)
        refine lv_iinc (pc := 43) (v := l3 + (nI 1)) (lv' := [(3, .int (l3 + (nI 1))), (2, .int (l2 + (nI 1))), (0, .ref l0), (1, va_rf l1)]) hx hb dX8_many_43 hl (k := 3) rfl rfl (by decide) rfl (fun ls hl => ?_)
        refine lv_goto (pc := 46) (tgt := 4) hx hb dX8_many_46 (by decide) ?_
        exact ih l0 l1 (l2 + (nI 1)) (l3 + (nI 1)) S9 _ _ ls _ _ _ _ hkc hks hH hS (lv_sub hl [2, 3, 1, 0] rfl) hf
def fX8_many (G : gG) (l0 : Nat) (l1 : Option Nat) (S : gS) : gO Int32 :=
  fX8_many_b4 G FU l0 l1 (nI 0) (nI 0) S
theorem wX8_many_b0 (hk : rOK Rp) (hJ : JDK l G Rp) (hc : gC p s m args meth c G RX8 "many" cX8_many 4 (some .int)) (l0 : Nat) (l1 : Option Nat) (S : gS) (H : Heap) (locs : List Loc) (ls : Array Slot) (kc ks C N : Nat) (hkc : kc + C ≤ mc) (hks : ks + N ≤ ms) (hH : hp G Rp S H) (hS : va_S G.2.2.2 s.heap H locs) (hl : lv_has ls 4 [(0, .ref l0), (1, va_rf l1)]) (hf : fX8_many G l0 l1 S = some (r, Sf, C, N)) : W p l e (gR 15 540 mc ms) s m args below meth c H locs kc ks (gQ below G Rp (some (.int r)) Sf args s mc ms) (F0 m 0 ls []) := by
  obtain ⟨hx, hb, hr, hlk, hml, hown, hts, hE, hA, hnm⟩ := hc
  have hc : gC p s m args meth c G RX8 "many" cX8_many 4 (some .int) := ⟨hx, hb, hr, hlk, hml, hown, hts, hE, hA, hnm⟩
  unfold fX8_many at hf
  refine lv_iconst (pc := 0) (v := nI 0) hx hb dX8_many_0 rfl ?_
  refine lv_istore_n (pc := 1) (i := 2) (lv' := [(2, .int (nI 0)), (0, .ref l0), (1, va_rf l1)]) hx hb dX8_many_1 rfl hl (by decide) (by simp [va_rf_cat, cat_i, cat_j, cat_r] <;> rfl) (fun ls hl => ?_)
  refine lv_iconst (pc := 2) (v := nI 0) hx hb dX8_many_2 rfl ?_
  refine lv_istore_n (pc := 3) (i := 3) (lv' := [(3, .int (nI 0)), (2, .int (nI 0)), (0, .ref l0), (1, va_rf l1)]) hx hb dX8_many_3 rfl hl (by decide) rfl (fun ls hl => ?_)
  exact wX8_many_b4 hk hJ hc FU l0 l1 (nI 0) (nI 0) S _ _ ls _ _ _ _ hkc hks hH hS (lv_sub hl [2, 3, 1, 0] rfl) hf
theorem mX8_many {l : Launch} {G : gG} {Rp : gM → gM → Nat → Prop} (hk : rOK Rp) (hJ : JDK l G Rp) {S S2 : gS} {r2 : Int32} {C N : Nat} {l0 : Nat} {l1 : Option Nat} (hf : fX8_many G l0 l1 S = some (r2, S2, C, N)) : gMet l yX8_many cX8_many 4 (some .int) 15 540 G Rp [.ref l0, va_rf l1] S (some (.int r2)) S2 C N := by
  refine g_start (by decide) (by simp [lg_sl, va_rf_cat, cat_i, cat_j, cat_r]) (fun p e s m args below meth c ls hc hl hH => ?_)
  have hl : lv_has ls 4 [(0, .ref l0), (1, va_rf l1)] := by simpa [lv_args, va_rf_cat, cat_i, cat_j, cat_r] using hl
  exact wX8_many_b0 hk hJ hc l0 l1 S _ _ ls 0 0 C N (by omega) (by omega) hH va_S.rf (lv_sub hl [0, 1] rfl) hf
end
section
variable {r : Int32} {Sf : gS}
def fX0_manyOut (G : gG) (l0 : Nat) (l1 : Option Nat) (S : gS) : gO Int32 :=
  bd (rdR S l0 0 0) fun v1 =>
  bd v1 fun a3 =>
  bd (chk S a3 1) fun _ =>
  gb (fX1_queueOf a3 l1 S) fun v2 S2 =>
  nw S2 (cAq 21 1 (fun _ => l1)) 1 fun S4 =>
  bd v2 fun a6 =>
  bd (chk S4 a6 3) fun _ =>
  gb (fX8_many G a6 (some S2.2) S4) fun v5 S5 =>
  some (v5, S5, 0, 0)
theorem wX0_manyOut_b0 (hk : rOK Rp) (hJ : JDK l G Rp) (hc : gC p s m args meth c G RX0 "manyOut" cX0_manyOut 2 (some .int)) (hnd : s.methodNamed? yX0_manyOut = some m) (l0 : Nat) (l1 : Option Nat) (S : gS) (H : Heap) (locs : List Loc) (ls : Array Slot) (kc ks C N : Nat) (hkc : kc + C ≤ mc) (hks : ks + N ≤ ms) (hH : hp G Rp S H) (hS : va_S G.2.2.2 s.heap H locs) (hl : lv_has ls 2 [(0, .ref l0), (1, va_rf l1)]) (hf : fX0_manyOut G l0 l1 S = some (r, Sf, C, N)) : W p l e (gR 16 3300 mc ms) s m args below meth c H locs kc ks (gQ below G Rp (some (.int r)) Sf args s mc ms) (F0 m 0 ls []) := by
  obtain ⟨hx, hb, hr, hlk, hml, hown, hts, hE, hA, hnm⟩ := hc
  have hc : gC p s m args meth c G RX0 "manyOut" cX0_manyOut 2 (some .int) := ⟨hx, hb, hr, hlk, hml, hown, hts, hE, hA, hnm⟩
  unfold fX0_manyOut at hf
  refine lv_aload_n (pc := 0) hx hb dX0_manyOut_0 rfl (lv_at hl 0 rfl) ?_
  obtain ⟨v1, e1, hf⟩ := bdo hf
  refine g_get (pc := 1) (o := (some l0)) (a := l0) (ci := 0) (k := 0) (v := va_rf v1) (C := RX0) (T := TX0) (N := 7) hx hb hts hown hE hk hH in_X0 rfl (by decide) (hts _ q272) (fun _ h9 => h9) rfl (rdR_o e1) dX0_manyOut_1 ?_
  refine g_aload_n (pc := 4) (o := l1) hx hb dX0_manyOut_4 rfl (lv_at hl 1 rfl) ?_
  obtain ⟨a3, ea3, hf⟩ := bdo hf
  obtain ⟨_, ek2, hf⟩ := bdo hf
  obtain ⟨v2, S2, c2, n2, c2_2, n2_2, e2, hf, hC2, hN2⟩ := gbo hf
  refine g_callV (pc := 5) (o := v1) (b := a3) (As := [va_rf l1]) (rest := []) (st1 := [va_rf v2]) hc (mX1_queueOf hk hJ (l0 := a3) (l1 := l1) e2) (cwV 1 hts (lw_V q1852 q1287 q1288 q98 q1289) rfl rfl rfl hdX1_queueOf ⟨Nat.le_of_ble_eq_true rfl, Nat.le_of_ble_eq_true rfl⟩) (g_recv hE hk hH (ci := 1) (q := (RX1, TX1, 7)) rfl (chk_o ek2).choose_spec) ea3 rfl hl.1 rfl rfl (lv_room (Nat.le_of_ble_eq_true rfl)) dX0_manyOut_5 hH hS (by omega) (by omega) (fun H locs hH hS => ?_)
  have hkc : kc + c2 + c2_2 ≤ mc := by omega
  have hks : ks + n2 + n2_2 ≤ ms := by omega
  refine g_aload_n (pc := 8) (o := l1) hx hb dX0_manyOut_8 rfl (lv_at hl 1 rfl) ?_
  obtain ⟨S4, c2_4, n2_4, eS4, hf, hC4, hN4⟩ := nwo hf
  refine g_lamMake (pc := 9) (t := 21) (v := va_rf l1) (cel := cAq 21 1 (fun _ => l1)) (a0 := (1, .inr (.inr (.inr (.inr (fun _ => l1)))))) (x := lxW) (y := yX0_lambda_manyOut_0) hx hb hml hts hE hA hk hH hS lC1 (gE_L hE).2.2.1 rfl (hts _ q3371) ly1 lx1 (static_ex (hts _ q1853)).choose_spec.choose_spec.1 (va_any rfl (gE_L hE).1.2) hnd lT1 rfl (nar_rf _ _) (fit_rf _ _) (va_rf_cat _) rfl (fun _ => rfl) eS4 hl.1 (by simp [gR, va_rf_cat, cat_i, cat_j, cat_r]) (Nat.le_trans (by omega) hkc) (Nat.le_trans (by omega) hks) dX0_manyOut_9 (fun H hH hS => ?_)
  have hkc : kc + c2 + 1 + c2_4 ≤ mc := by omega
  have hks : ks + n2 + 1 + n2_4 ≤ ms := by omega
  obtain ⟨a6, ea6, hf⟩ := bdo hf
  obtain ⟨_, ek5, hf⟩ := bdo hf
  obtain ⟨v5, S5, c5, n5, c2_5, n2_5, e5, hf, hC5, hN5⟩ := gbo hf
  refine g_callV (pc := 14) (o := v2) (b := a6) (As := [.ref S2.2]) (rest := []) (st1 := [.int v5]) hc (mX8_many hk hJ (l0 := a6) (l1 := (some S2.2)) e5) (cwV 1 hts (lw_V q1856 q1857 q1858 q131 q1859) rfl rfl rfl hdX8_many ⟨Nat.le_of_ble_eq_true rfl, Nat.le_of_ble_eq_true rfl⟩) (g_recv hE hk hH (ci := 3) (q := (RX8, TX8, 13)) rfl (chk_o ek5).choose_spec) ea6 rfl hl.1 rfl rfl (lv_room (Nat.le_of_ble_eq_true rfl)) dX0_manyOut_14 hH hS (by omega) (by omega) (fun H locs hH hS => ?_)
  have hkc : kc + c2 + 1 + c5 + c2_5 ≤ mc := by omega
  have hks : ks + n2 + 1 + n5 + n2_5 ≤ ms := by omega
  exact g_iret (pc := 17) hx hb hr hlk hH hS hkc hks hf dX0_manyOut_17
theorem mX0_manyOut {l : Launch} {G : gG} {Rp : gM → gM → Nat → Prop} (hk : rOK Rp) (hJ : JDK l G Rp) {S S2 : gS} {r2 : Int32} {C N : Nat} {l0 : Nat} {l1 : Option Nat} (hf : fX0_manyOut G l0 l1 S = some (r2, S2, C, N)) : gMet l yX0_manyOut cX0_manyOut 2 (some .int) 16 3300 G Rp [.ref l0, va_rf l1] S (some (.int r2)) S2 C N := by
  refine g_startN (by decide) (by simp [lg_sl, va_rf_cat, cat_i, cat_j, cat_r]) (fun p e s m args below meth c ls hnd hc hl hH => ?_)
  have hl : lv_has ls 2 [(0, .ref l0), (1, va_rf l1)] := by simpa [lv_args, va_rf_cat, cat_i, cat_j, cat_r] using hl
  exact wX0_manyOut_b0 hk hJ hc hnd l0 l1 S _ _ ls 0 0 C N (by omega) (by omega) hH va_S.rf (lv_sub hl [0, 1] rfl) hf
end
section
variable {r : Int32} {Sf : gS}
def fX0_ack_b20 (G : gG) (l0 : Nat) (S : gS) : gO Int32 :=
  bd (chk S l0 0) fun _ =>
  gb (fX0_no l0 (-82) S) fun v1 S1 =>
  some (v1, S1, 0, 0)
theorem wX0_ack_b20 (hk : rOK Rp) (hJ : JDK l G Rp) (hc : gC p s m args meth c G RX0 "ack" cX0_ack 4 (some .int)) (l0 : Nat) (S : gS) (H : Heap) (locs : List Loc) (ls : Array Slot) (kc ks C N : Nat) (hkc : kc + C ≤ mc) (hks : ks + N ≤ ms) (hH : hp G Rp S H) (hS : va_S G.2.2.2 s.heap H locs) (hl : lv_has ls 4 [(0, .ref l0)]) (hf : fX0_ack_b20 G l0 S = some (r, Sf, C, N)) : W p l e (gR 17 3321 mc ms) s m args below meth c H locs kc ks (gQ below G Rp (some (.int r)) Sf args s mc ms) (F0 m 20 ls []) := by
  obtain ⟨hx, hb, hr, hlk, hml, hown, hts, hE, hA, hnm⟩ := hc
  have hc : gC p s m args meth c G RX0 "ack" cX0_ack 4 (some .int) := ⟨hx, hb, hr, hlk, hml, hown, hts, hE, hA, hnm⟩
  unfold fX0_ack_b20 at hf
  refine lv_aload_n (pc := 20) hx hb dX0_ack_20 rfl (lv_at hl 0 rfl) ?_
  refine lv_bipush (pc := 21) (v := -82) hx hb dX0_ack_21 gkbm82 ?_
  obtain ⟨_, ek1, hf⟩ := bdo hf
  obtain ⟨v1, S1, c1, n1, c2_1, n2_1, e1, hf, hC1, hN1⟩ := gbo hf
  refine g_callV (pc := 23) (o := (some l0)) (b := l0) (As := [.int (-82)]) (rest := []) (st1 := [.int v1]) hc (mX0_no hk hJ (l0 := l0) (l1 := (-82)) e1) (cwV 1 hts (lw_V q398 q400 qs2 q97 q401) rfl rfl rfl hdX0_no ⟨Nat.le_of_ble_eq_true rfl, Nat.le_of_ble_eq_true rfl⟩) (g_recv hE hk hH (ci := 0) (q := (RX0, TX0, 7)) rfl (chk_o ek1).choose_spec) rfl rfl hl.1 rfl rfl (lv_room (Nat.le_of_ble_eq_true rfl)) dX0_ack_23 hH hS (by omega) (by omega) (fun H locs hH hS => ?_)
  have hkc : kc + c1 + c2_1 ≤ mc := by omega
  have hks : ks + n1 + n2_1 ≤ ms := by omega
  exact g_iret (pc := 26) hx hb hr hlk hH hS hkc hks hf dX0_ack_26
def fX0_ack (G : gG) (l0 : Nat) (l1 : Int32) (l2 : Int32) (S : gS) : gO Int32 :=
  bd (chk S l0 0) fun _ =>
  gb (fX0_isHere l0 l1 S) fun v1 S1 =>
  if v1 = 0 then
    fX0_ack_b20 G l0 S1
  else
    bd (rdR S1 l0 0 0) fun v3 =>
    bd v3 fun a5 =>
    bd (chk S1 a5 1) fun _ =>
    gb (fX1_held a5 l1 l2 S1) fun v4 S4 =>
    if v4 = none then
      fX0_ack_b20 G l0 S4
    else
      bd (rdR S4 l0 0 0) fun v7 =>
      bd v7 fun a8 =>
      bd (rdR S4 a8 1 1) fun v9 =>
      bd v9 fun a11 =>
      gb (nAL_get a11 l1 S4) fun v10 S10 =>
      bd (ckc S10 v10 6) fun _ =>
      bd (rdR S10 l0 0 0) fun v13 =>
      bd (rdR S10 l0 0 0) fun v14 =>
      bd v14 fun a16 =>
      bd (chk S10 a16 1) fun _ =>
      gb (fX1_held a16 l1 l2 S10) fun v15 S15 =>
      bd v13 fun a18 =>
      bd (chk S15 a18 1) fun _ =>
      gb (fX1_acknowledges a18 v10 v15 S15) fun _ S17 =>
      bd (chk S17 l0 0) fun _ =>
      gb (fX0_manyOut G l0 v10 S17) fun v19 S19 =>
      some (v19, S19, 0, 0)
theorem wX0_ack_b0 (hk : rOK Rp) (hJ : JDK l G Rp) (hc : gC p s m args meth c G RX0 "ack" cX0_ack 4 (some .int)) (l0 : Nat) (l1 : Int32) (l2 : Int32) (S : gS) (H : Heap) (locs : List Loc) (ls : Array Slot) (kc ks C N : Nat) (hkc : kc + C ≤ mc) (hks : ks + N ≤ ms) (hH : hp G Rp S H) (hS : va_S G.2.2.2 s.heap H locs) (hl : lv_has ls 4 [(0, .ref l0), (1, .int l1), (2, .int l2)]) (hf : fX0_ack G l0 l1 l2 S = some (r, Sf, C, N)) : W p l e (gR 17 3321 mc ms) s m args below meth c H locs kc ks (gQ below G Rp (some (.int r)) Sf args s mc ms) (F0 m 0 ls []) := by
  obtain ⟨hx, hb, hr, hlk, hml, hown, hts, hE, hA, hnm⟩ := hc
  have hc : gC p s m args meth c G RX0 "ack" cX0_ack 4 (some .int) := ⟨hx, hb, hr, hlk, hml, hown, hts, hE, hA, hnm⟩
  unfold fX0_ack at hf
  refine lv_aload_n (pc := 0) hx hb dX0_ack_0 rfl (lv_at hl 0 rfl) ?_
  refine lv_iload_n (pc := 1) hx hb dX0_ack_1 rfl (lv_at hl 1 rfl) ?_
  obtain ⟨_, ek1, hf⟩ := bdo hf
  obtain ⟨v1, S1, c1, n1, c2_1, n2_1, e1, hf, hC1, hN1⟩ := gbo hf
  refine g_callV (pc := 2) (o := (some l0)) (b := l0) (As := [.int l1]) (rest := []) (st1 := [.int v1]) hc (mX0_isHere hk hJ (l0 := l0) (l1 := l1) e1) (cwV 1 hts (lw_V q1274 q1276 qs19 q97 q1277) rfl rfl rfl hdX0_isHere ⟨Nat.le_of_ble_eq_true rfl, Nat.le_of_ble_eq_true rfl⟩) (g_recv hE hk hH (ci := 0) (q := (RX0, TX0, 7)) rfl (chk_o ek1).choose_spec) rfl rfl hl.1 rfl rfl (lv_room (Nat.le_of_ble_eq_true rfl)) dX0_ack_2 hH hS (by omega) (by omega) (fun H locs hH hS => ?_)
  have hkc : kc + c1 + c2_1 ≤ mc := by omega
  have hks : ks + n1 + n2_1 ≤ ms := by omega
  refine lv_if_eq (pc := 5) (tgt := 20) hx hb dX0_ack_5 (by decide) (fun c2 => ?_) (fun c2 => ?_)
  · rw [if_pos c2] at hf
    exact wX0_ack_b20 hk hJ hc l0 S1 _ _ ls _ _ _ _ hkc hks hH hS (lv_sub hl [0] rfl) hf
  · rw [if_neg c2] at hf
    refine lv_aload_n (pc := 8) hx hb dX0_ack_8 rfl (lv_at hl 0 rfl) ?_
    obtain ⟨v3, e3, hf⟩ := bdo hf
    refine g_get (pc := 9) (o := (some l0)) (a := l0) (ci := 0) (k := 0) (v := va_rf v3) (C := RX0) (T := TX0) (N := 7) hx hb hts hown hE hk hH in_X0 rfl (by decide) (hts _ q272) (fun _ h9 => h9) rfl (rdR_o e3) dX0_ack_9 ?_
    refine lv_iload_n (pc := 12) hx hb dX0_ack_12 rfl (lv_at hl 1 rfl) ?_
    refine lv_iload_n (pc := 13) hx hb dX0_ack_13 rfl (lv_at hl 2 rfl) ?_
    obtain ⟨a5, ea5, hf⟩ := bdo hf
    obtain ⟨_, ek4, hf⟩ := bdo hf
    obtain ⟨v4, S4, c4, n4, c2_4, n2_4, e4, hf, hC4, hN4⟩ := gbo hf
    refine g_callV (pc := 14) (o := v3) (b := a5) (As := [.int l1, .int l2]) (rest := []) (st1 := [va_rf v4]) hc (mX1_held hk hJ (l0 := a5) (l1 := l1) (l2 := l2) e4) (cwV 2 hts (lw_V q1781 q1782 q1783 q98 q1784) rfl rfl rfl hdX1_held ⟨Nat.le_of_ble_eq_true rfl, Nat.le_of_ble_eq_true rfl⟩) (g_recv hE hk hH (ci := 1) (q := (RX1, TX1, 7)) rfl (chk_o ek4).choose_spec) ea5 rfl hl.1 rfl rfl (lv_room (Nat.le_of_ble_eq_true rfl)) dX0_ack_14 hH hS (by omega) (by omega) (fun H locs hH hS => ?_)
    have hkc : kc + c1 + c4 + c2_4 ≤ mc := by omega
    have hks : ks + n1 + n4 + n2_4 ≤ ms := by omega
    refine g_ifnonnull (pc := 17) (o := v4) (tgt := 27) hx hb dX0_ack_17 (by decide) (fun c6 => ?_) (fun c6 => ?_)
    · rw [if_neg c6] at hf
      refine lv_aload_n (pc := 27) hx hb dX0_ack_27 rfl (lv_at hl 0 rfl) ?_
      obtain ⟨v7, e7, hf⟩ := bdo hf
      refine g_get (pc := 28) (o := (some l0)) (a := l0) (ci := 0) (k := 0) (v := va_rf v7) (C := RX0) (T := TX0) (N := 7) hx hb hts hown hE hk hH in_X0 rfl (by decide) (hts _ q272) (fun _ h9 => h9) rfl (rdR_o e7) dX0_ack_28 ?_
      obtain ⟨a8, ea8, hf⟩ := bdo hf
      obtain ⟨v9, e9, hf⟩ := bdo hf
      refine g_get (pc := 31) (o := v7) (a := a8) (ci := 1) (k := 1) (v := va_rf v9) (C := RX1) (T := TX1) (N := 7) hx hb hts hown hE hk hH in_X1 rfl (by decide) (hts _ q234) (fun _ h9 => h9) ea8 (rdR_o e9) dX0_ack_31 ?_
      refine lv_iload_n (pc := 34) hx hb dX0_ack_34 rfl (lv_at hl 1 rfl) ?_
      obtain ⟨a11, ea11, hf⟩ := bdo hf
      obtain ⟨v10, S10, c10, n10, c2_10, n2_10, e10, hf, hC10, hN10⟩ := gbo hf
      refine g_callV (pc := 35) (o := v9) (b := a11) (As := [.int l1]) (rest := []) (st1 := [va_rf v10]) hc (j_nAL_get hJ a11 l1 S4 v10 S10 c10 n10 e10) (cwV 1 hts (lw_V q1222 q1223 q1224 q101 q1225) rfl rfl rfl hdJ2_get ⟨Nat.le_of_ble_eq_true rfl, Nat.le_of_ble_eq_true rfl⟩) (j_recv hJ _ _ _ _ 0 _ _ hE hH hS (adtR (t := 0) (show bd _ _ = some _ from e10)).choose_spec) ea11 rfl hl.1 rfl rfl (lv_room (Nat.le_of_ble_eq_true rfl)) dX0_ack_35 hH hS (by omega) (by omega) (fun H locs hH hS => ?_)
      have hkc : kc + c1 + c4 + c10 + c2_10 ≤ mc := by omega
      have hks : ks + n1 + n4 + n10 + n2_10 ≤ ms := by omega
      obtain ⟨_, e12, hf⟩ := bdo hf
      refine g_cast (pc := 38) (o := v10) (ci := 6) (C := RX10) (T := TX10) (N := 5) hx hb hts hown hE hk hH rfl q1238 e12 dX0_ack_38 ?_
      refine g_astore_n (pc := 41) (i := 3) (o := v10) (lv' := [(3, va_rf v10), (0, .ref l0), (1, .int l1), (2, .int l2)]) hx hb dX0_ack_41 rfl hl (by decide) rfl (fun ls hl => ?_)
      refine lv_aload_n (pc := 42) hx hb dX0_ack_42 rfl (lv_at hl 1 rfl) ?_
      obtain ⟨v13, e13, hf⟩ := bdo hf
      refine g_get (pc := 43) (o := (some l0)) (a := l0) (ci := 0) (k := 0) (v := va_rf v13) (C := RX0) (T := TX0) (N := 7) hx hb hts hown hE hk hH in_X0 rfl (by decide) (hts _ q272) (fun _ h9 => h9) rfl (rdR_o e13) dX0_ack_43 ?_
      refine g_aload_n (pc := 46) (o := v10) hx hb dX0_ack_46 rfl (lv_at hl 0 rfl) ?_
      refine lv_aload_n (pc := 47) hx hb dX0_ack_47 rfl (lv_at hl 1 rfl) ?_
      obtain ⟨v14, e14, hf⟩ := bdo hf
      refine g_get (pc := 48) (o := (some l0)) (a := l0) (ci := 0) (k := 0) (v := va_rf v14) (C := RX0) (T := TX0) (N := 7) hx hb hts hown hE hk hH in_X0 rfl (by decide) (hts _ q272) (fun _ h9 => h9) rfl (rdR_o e14) dX0_ack_48 ?_
      refine lv_iload_n (pc := 51) hx hb dX0_ack_51 rfl (lv_at hl 2 rfl) ?_
      refine lv_iload_n (pc := 52) hx hb dX0_ack_52 rfl (lv_at hl 3 rfl) ?_
      obtain ⟨a16, ea16, hf⟩ := bdo hf
      obtain ⟨_, ek15, hf⟩ := bdo hf
      obtain ⟨v15, S15, c15, n15, c2_15, n2_15, e15, hf, hC15, hN15⟩ := gbo hf
      refine g_callV (pc := 53) (o := v14) (b := a16) (As := [.int l1, .int l2]) (rest := [va_rf v10, va_rf v13]) (st1 := [va_rf v15, va_rf v10, va_rf v13]) hc (mX1_held hk hJ (l0 := a16) (l1 := l1) (l2 := l2) e15) (cwV 2 hts (lw_V q1781 q1782 q1783 q98 q1784) rfl rfl rfl hdX1_held ⟨Nat.le_of_ble_eq_true rfl, Nat.le_of_ble_eq_true rfl⟩) (g_recv hE hk hH (ci := 1) (q := (RX1, TX1, 7)) rfl (chk_o ek15).choose_spec) ea16 rfl hl.1 rfl rfl (lv_room (by simp [va_rf_cat, cat_i, cat_j, cat_r])) dX0_ack_53 hH hS (by omega) (by omega) (fun H locs hH hS => ?_)
      have hkc : kc + c1 + c4 + c10 + c15 + c2_15 ≤ mc := by omega
      have hks : ks + n1 + n4 + n10 + n15 + n2_15 ≤ ms := by omega
      obtain ⟨a18, ea18, hf⟩ := bdo hf
      obtain ⟨_, ek17, hf⟩ := bdo hf
      obtain ⟨_, S17, c17, n17, c2_17, n2_17, e17, hf, hC17, hN17⟩ := gbo hf
      refine g_callV (pc := 56) (o := v13) (b := a18) (As := [va_rf v10, va_rf v15]) (rest := []) (st1 := []) hc (mX1_acknowledges hk hJ (l0 := a18) (l1 := v10) (l2 := v15) e17) (cwV 2 hts (lw_V q1785 q1786 q1787 q98 q1788) rfl rfl rfl hdX1_acknowledges ⟨Nat.le_of_ble_eq_true rfl, Nat.le_of_ble_eq_true rfl⟩) (g_recv hE hk hH (ci := 1) (q := (RX1, TX1, 7)) rfl (chk_o ek17).choose_spec) ea18 rfl hl.1 rfl rfl (lv_room (Nat.le_of_ble_eq_true rfl)) dX0_ack_56 hH hS (by omega) (by omega) (fun H locs hH hS => ?_)
      have hkc : kc + c1 + c4 + c10 + c15 + c17 + c2_17 ≤ mc := by omega
      have hks : ks + n1 + n4 + n10 + n15 + n17 + n2_17 ≤ ms := by omega
      refine lv_aload_n (pc := 59) hx hb dX0_ack_59 rfl (lv_at hl 1 rfl) ?_
      refine g_aload_n (pc := 60) (o := v10) hx hb dX0_ack_60 rfl (lv_at hl 0 rfl) ?_
      obtain ⟨_, ek19, hf⟩ := bdo hf
      obtain ⟨v19, S19, c19, n19, c2_19, n2_19, e19, hf, hC19, hN19⟩ := gbo hf
      refine g_callV (pc := 61) (o := (some l0)) (b := l0) (As := [va_rf v10]) (rest := []) (st1 := [.int v19]) hc (mX0_manyOut hk hJ (l0 := l0) (l1 := v10) e19) (cwV 1 hts (lw_V q1848 q1850 qs30 q97 q1851) rfl rfl rfl hdX0_manyOut ⟨Nat.le_of_ble_eq_true rfl, Nat.le_of_ble_eq_true rfl⟩) (g_recv hE hk hH (ci := 0) (q := (RX0, TX0, 7)) rfl (chk_o ek19).choose_spec) rfl rfl hl.1 rfl rfl (lv_room (Nat.le_of_ble_eq_true rfl)) dX0_ack_61 hH hS (by omega) (by omega) (fun H locs hH hS => ?_)
      have hkc : kc + c1 + c4 + c10 + c15 + c17 + c19 + c2_19 ≤ mc := by omega
      have hks : ks + n1 + n4 + n10 + n15 + n17 + n19 + n2_19 ≤ ms := by omega
      exact g_iret (pc := 64) hx hb hr hlk hH hS hkc hks hf dX0_ack_64
    · rw [if_pos c6] at hf
      exact wX0_ack_b20 hk hJ hc l0 S4 _ _ ls _ _ _ _ hkc hks hH hS (lv_sub hl [0] rfl) hf
theorem mX0_ack {l : Launch} {G : gG} {Rp : gM → gM → Nat → Prop} (hk : rOK Rp) (hJ : JDK l G Rp) {S S2 : gS} {r2 : Int32} {C N : Nat} {l0 : Nat} {l1 : Int32} {l2 : Int32} (hf : fX0_ack G l0 l1 l2 S = some (r2, S2, C, N)) : gMet l yX0_ack cX0_ack 4 (some .int) 17 3321 G Rp [.ref l0, .int l1, .int l2] S (some (.int r2)) S2 C N := by
  refine g_start (by decide) (Nat.le_of_ble_eq_true rfl) (fun p e s m args below meth c ls hc hl hH => ?_)
  have hl : lv_has ls 4 [(0, .ref l0), (1, .int l1), (2, .int l2)] := hl
  exact wX0_ack_b0 hk hJ hc l0 l1 l2 S _ _ ls 0 0 C N (by omega) (by omega) hH va_S.rf (lv_sub hl [0, 1, 2] rfl) hf
end
section
variable {r : Int32} {Sf : gS}
def fX0_are_b10 : Nat → Int32 → (Option Nat) → Int32 → Int32 → gS → gO Int32
  | 0, _, _, _, _, _ => none
  | n + 1, l1, l2, l3, l4, S =>
    if l3 ≤ l4 then
      zg l1 S
    else
      bd l2 fun a3 =>
      bd (rdAi S a3 4 l4) fun v4 =>
      fX0_are_b10 n (l1 &&& v4) l2 l3 (l4 + (nI 1)) S
theorem wX0_are_b10 (hk : rOK Rp) (hJ : JDK l G Rp) (hc : gC p s m args meth c G RX0 "are" cX0_are 6 (some .boolean)) : ∀ (n : Nat) (l1 : Int32) (l2 : Option Nat) (l3 : Int32) (l4 : Int32) (S : gS) (H : Heap) (locs : List Loc) (ls : Array Slot) (kc ks C N : Nat), kc + C ≤ mc → ks + N ≤ ms → hp G Rp S H → va_S G.2.2.2 s.heap H locs → lv_has ls 6 [(1, .int l1), (2, va_rf l2), (3, .int l3), (4, .int l4)] → fX0_are_b10 n l1 l2 l3 l4 S = some (r, Sf, C, N) → W p l e (gR 1 40 mc ms) s m args below meth c H locs kc ks (gQ below G Rp (some (.int r)) Sf args s mc ms) (F0 m 10 ls []) := by
  obtain ⟨hx, hb, hr, hlk, hml, hown, hts, hE, hA, hnm⟩ := hc
  have hc : gC p s m args meth c G RX0 "are" cX0_are 6 (some .boolean) := ⟨hx, hb, hr, hlk, hml, hown, hts, hE, hA, hnm⟩
  intro n
  induction n with
  | zero => intro l1 l2 l3 l4 S H locs ls kc ks C N _ _ _ _ _ hf; exact absurd hf (fun h => by cases h)
  | succ n ih =>
    intro l1 l2 l3 l4 S H locs ls kc ks C N hkc hks hH hS hl hf
    rw [fX0_are_b10] at hf
    refine lv_iload (pc := 10) hx hb dX0_are_10 (lv_at hl 3 rfl) ?_
    refine lv_iload_n (pc := 12) hx hb dX0_are_12 rfl (lv_at hl 2 rfl) ?_
    refine lv_icmp_ge (pc := 13) (tgt := 33) hx hb dX0_are_13 (by decide) (fun c1 => ?_) (fun c1 => ?_)
    · rw [if_pos c1] at hf
      refine lv_iload_n (pc := 33) hx hb dX0_are_33 rfl (lv_at hl 0 rfl) ?_
      exact g_zret (pc := 34) hx hb hr hlk hH hS hkc hks hf dX0_are_34
    · rw [if_neg c1] at hf
      refine g_aload_n (pc := 16) (o := l2) hx hb dX0_are_16 rfl (lv_at hl 1 rfl) ?_
      refine lv_iload (pc := 17) hx hb dX0_are_17 (lv_at hl 3 rfl) ?_
      obtain ⟨a3, ea3, hf⟩ := bdo hf
      obtain ⟨v4, e4, hf⟩ := bdo hf
      refine g_zald (pc := 19) (o := l2) (a := a3) hx hb hE hk hH ea3 e4 dX0_are_19 ?_
      refine lv_istore (pc := 20) (i := 5) (lv' := [(5, .int v4), (1, .int l1), (2, va_rf l2), (3, .int l3), (4, .int l4)]) hx hb dX0_are_20 hl (by decide) rfl (fun ls hl => ?_)
      refine lv_iload_n (pc := 22) hx hb dX0_are_22 rfl (lv_at hl 1 rfl) ?_
      refine lv_iload (pc := 23) hx hb dX0_are_23 (lv_at hl 0 rfl) ?_
      refine lv_iand (pc := 25) hx hb dX0_are_25 ?_
      refine lv_istore_n (pc := 26) (i := 1) (lv' := [(1, .int (l1 &&& v4)), (5, .int v4), (2, va_rf l2), (3, .int l3), (4, .int l4)]) hx hb dX0_are_26 rfl hl (by decide) rfl (fun ls hl => ?_)
      refine lv_iinc (pc := 27) (v := l4 + (nI 1)) (lv' := [(4, .int (l4 + (nI 1))), (1, .int (l1 &&& v4)), (5, .int v4), (2, va_rf l2), (3, .int l3)]) hx hb dX0_are_27 hl (k := 4) rfl rfl (by decide) rfl (fun ls hl => ?_)
      refine lv_goto (pc := 30) (tgt := 10) hx hb dX0_are_30 (by decide) ?_
      exact ih (l1 &&& v4) l2 l3 (l4 + (nI 1)) S _ _ ls _ _ _ _ hkc hks hH hS (lv_sub hl [1, 3, 4, 0] rfl) hf
def fX0_are (l0 : Option Nat) (S : gS) : gO Int32 :=
  bd l0 fun a1 =>
  bd (lenT S a1 4) fun v2 =>
  fX0_are_b10 FU (nI 1) l0 v2 (nI 0) S
theorem wX0_are_b0 (hk : rOK Rp) (hJ : JDK l G Rp) (hc : gC p s m args meth c G RX0 "are" cX0_are 6 (some .boolean)) (l0 : Option Nat) (S : gS) (H : Heap) (locs : List Loc) (ls : Array Slot) (kc ks C N : Nat) (hkc : kc + C ≤ mc) (hks : ks + N ≤ ms) (hH : hp G Rp S H) (hS : va_S G.2.2.2 s.heap H locs) (hl : lv_has ls 6 [(0, va_rf l0)]) (hf : fX0_are l0 S = some (r, Sf, C, N)) : W p l e (gR 1 40 mc ms) s m args below meth c H locs kc ks (gQ below G Rp (some (.int r)) Sf args s mc ms) (F0 m 0 ls []) := by
  obtain ⟨hx, hb, hr, hlk, hml, hown, hts, hE, hA, hnm⟩ := hc
  have hc : gC p s m args meth c G RX0 "are" cX0_are 6 (some .boolean) := ⟨hx, hb, hr, hlk, hml, hown, hts, hE, hA, hnm⟩
  unfold fX0_are at hf
  refine lv_iconst (pc := 0) (v := nI 1) hx hb dX0_are_0 rfl ?_
  refine lv_istore_n (pc := 1) (i := 1) (lv' := [(1, .int (nI 1)), (0, va_rf l0)]) hx hb dX0_are_1 rfl hl (by decide) (by simp [va_rf_cat, cat_i, cat_j, cat_r] <;> rfl) (fun ls hl => ?_)
  refine g_aload_n (pc := 2) (o := l0) hx hb dX0_are_2 rfl (lv_at hl 1 rfl) ?_
  refine g_astore_n (pc := 3) (i := 2) (o := l0) (lv' := [(2, va_rf l0), (1, .int (nI 1)), (0, va_rf l0)]) hx hb dX0_are_3 rfl hl (by decide) rfl (fun ls hl => ?_)
  refine g_aload_n (pc := 4) (o := l0) hx hb dX0_are_4 rfl (lv_at hl 0 rfl) ?_
  obtain ⟨a1, ea1, hf⟩ := bdo hf
  obtain ⟨v2, e2, hf⟩ := bdo hf
  refine g_alen (pc := 5) (o := l0) (a := a1) (t := 4) hx hb hE hk hH rfl ea1 e2 dX0_are_5 ?_
  refine lv_istore_n (pc := 6) (i := 3) (lv' := [(3, .int v2), (2, va_rf l0), (1, .int (nI 1)), (0, va_rf l0)]) hx hb dX0_are_6 rfl hl (by decide) (by simp [va_rf_cat, cat_i, cat_j, cat_r] <;> rfl) (fun ls hl => ?_)
  refine lv_iconst (pc := 7) (v := nI 0) hx hb dX0_are_7 rfl ?_
  refine lv_istore (pc := 8) (i := 4) (lv' := [(4, .int (nI 0)), (3, .int v2), (2, va_rf l0), (1, .int (nI 1)), (0, va_rf l0)]) hx hb dX0_are_8 hl (by decide) rfl (fun ls hl => ?_)
  exact wX0_are_b10 hk hJ hc FU (nI 1) l0 v2 (nI 0) S _ _ ls _ _ _ _ hkc hks hH hS (lv_sub hl [3, 2, 1, 0] rfl) hf
theorem mX0_are {l : Launch} {G : gG} {Rp : gM → gM → Nat → Prop} (hk : rOK Rp) (hJ : JDK l G Rp) {S S2 : gS} {r2 : Int32} {C N : Nat} {l0 : Option Nat} (hf : fX0_are l0 S = some (r2, S2, C, N)) : gMet l yX0_are cX0_are 6 (some .boolean) 1 40 G Rp [va_rf l0] S (some (.int r2)) S2 C N := by
  refine g_start (by decide) (by simp [lg_sl, va_rf_cat, cat_i, cat_j, cat_r]) (fun p e s m args below meth c ls hc hl hH => ?_)
  have hl : lv_has ls 6 [(0, va_rf l0)] := by simpa [lv_args, va_rf_cat, cat_i, cat_j, cat_r] using hl
  exact wX0_are_b0 hk hJ hc l0 S _ _ ls 0 0 C N (by omega) (by omega) hH va_S.rf (lv_sub hl [0] rfl) hf
end
section
variable {r : Unit} {Sf : gS}
def fX9_init (l0 : Nat) (S : gS) : gO Unit :=
  some ((), S, 0, 0)
theorem wX9_init_b0 (hk : rOK Rp) (hJ : JDK l G Rp) (hc : gC p s m args meth c G RX9 "<init>" cX9_init 1 (none)) (l0 : Nat) (S : gS) (H : Heap) (locs : List Loc) (ls : Array Slot) (kc ks C N : Nat) (hkc : kc + C ≤ mc) (hks : ks + N ≤ ms) (hH : hp G Rp S H) (hS : va_S G.2.2.2 s.heap H locs) (hl : lv_has ls 1 [(0, .ref l0)]) (hf : fX9_init l0 S = some (r, Sf, C, N)) : W p l e (gR 1 40 mc ms) s m args below meth c H locs kc ks (gQ below G Rp none Sf args s mc ms) (F0 m 0 ls []) := by
  obtain ⟨hx, hb, hr, hlk, hml, hown, hts, hE, hA, hnm⟩ := hc
  have hc : gC p s m args meth c G RX9 "<init>" cX9_init 1 (none) := ⟨hx, hb, hr, hlk, hml, hown, hts, hE, hA, hnm⟩
  unfold fX9_init at hf
  refine lv_aload_n (pc := 0) hx hb dX9_init_0 rfl (lv_at hl 0 rfl) ?_
  refine W.objInit  hx hb hown (hts _ q1148) (hts _ q169) (hts _ q170) rfl (by rw [hml]; exact hl.1) rfl dX9_init_1 (Nat.le_of_ble_eq_true rfl) (Nat.le_of_ble_eq_true rfl) ?_
  refine W.eq (g2 := F0 m 4 ls []) rfl ?_
  exact g_vret (pc := 4) hx hb hr hlk hH hS hkc hks hf dX9_init_4
theorem mX9_init {l : Launch} {G : gG} {Rp : gM → gM → Nat → Prop} (hk : rOK Rp) (hJ : JDK l G Rp) {S S2 : gS} {r2 : Unit} {C N : Nat} {l0 : Nat} (hf : fX9_init l0 S = some (r2, S2, C, N)) : gMet l yX9_init cX9_init 1 (none) 1 40 G Rp [.ref l0] S none S2 C N := by
  refine g_start (by decide) (Nat.le_of_ble_eq_true rfl) (fun p e s m args below meth c ls hc hl hH => ?_)
  have hl : lv_has ls 1 [(0, .ref l0)] := hl
  exact wX9_init_b0 hk hJ hc l0 S _ _ ls 0 0 C N (by omega) (by omega) hH va_S.rf (lv_sub hl [0] rfl) hf
end
section
variable {r : Unit} {Sf : gS}
def fX8_init (l0 : Nat) (l1 : Int32) (l2 : Option Nat) (l3 : Option Nat) (S : gS) : gO Unit :=
  nw S (cO 15 [.int 0, .null, .int 0]) 3 fun S2 =>
  gb (nAL_init S.2  S2) fun _ S3 =>
  bd (wr S3 l0 3 7 (.ref S.2)) fun S4 =>
  nw S4 (cO 10 []) 0 fun S5 =>
  gb (fX9_init S4.2 S5) fun _ S6 =>
  bd (wr S6 l0 3 8 (.ref S4.2)) fun S7 =>
  bd (wr S7 l0 3 9 (.int (-1))) fun S8 =>
  bd (wr S8 l0 3 0 (.int l1)) fun S9 =>
  bd (wr S9 l0 3 1 (va_rf l2)) fun S10 =>
  bd l3 fun a12 =>
  bd (rdAi S10 a12 0 (nI 0)) fun v13 =>
  bd (wr S10 l0 3 2 (.int v13)) fun S14 =>
  bd (rdAi S14 a12 0 (nI 1)) fun v16 =>
  bd (wr S14 l0 3 3 (.int v16)) fun S17 =>
  bd (rdAi S17 a12 0 (nI 2)) fun v19 =>
  bd (wr S17 l0 3 4 (.int v19)) fun S20 =>
  bd (rdAi S20 a12 0 (nI 3)) fun v22 =>
  bd (wr S20 l0 3 5 (.int v22)) fun S23 =>
  some ((), S23, 0, 0)
theorem wX8_init_b0 (hk : rOK Rp) (hJ : JDK l G Rp) (hc : gC p s m args meth c G RX8 "<init>" cX8_init 4 (none)) (l0 : Nat) (l1 : Int32) (l2 : Option Nat) (l3 : Option Nat) (S : gS) (H : Heap) (locs : List Loc) (ls : Array Slot) (kc ks C N : Nat) (hkc : kc + C ≤ mc) (hks : ks + N ≤ ms) (hH : hp G Rp S H) (hS : va_S G.2.2.2 s.heap H locs) (hl : lv_has ls 4 [(0, .ref l0), (1, .int l1), (2, va_rf l2), (3, va_rf l3)]) (hf : fX8_init l0 l1 l2 l3 S = some (r, Sf, C, N)) : W p l e (gR 15 540 mc ms) s m args below meth c H locs kc ks (gQ below G Rp none Sf args s mc ms) (F0 m 0 ls []) := by
  obtain ⟨hx, hb, hr, hlk, hml, hown, hts, hE, hA, hnm⟩ := hc
  have hc : gC p s m args meth c G RX8 "<init>" cX8_init 4 (none) := ⟨hx, hb, hr, hlk, hml, hown, hts, hE, hA, hnm⟩
  unfold fX8_init at hf
  refine lv_aload_n (pc := 0) hx hb dX8_init_0 rfl (lv_at hl 0 rfl) ?_
  refine W.objInit  hx hb hown (hts _ q1140) (hts _ q169) (hts _ q170) rfl (by rw [hml]; exact hl.1) rfl dX8_init_1 (Nat.le_of_ble_eq_true rfl) (Nat.le_of_ble_eq_true rfl) ?_
  refine W.eq (g2 := F0 m 4 ls []) rfl ?_
  refine lv_aload_n (pc := 4) hx hb dX8_init_4 rfl (lv_at hl 0 rfl) ?_
  obtain ⟨S2, c2_2, n2_2, eS2, hf, hC2, hN2⟩ := nwo hf
  refine g_newo (pc := 5) (ci := 15) (C := RJ2) (T := TJ2) (N := 3) (fs := [.int 0, .null, .int 0]) hx hb hts hown hE hA hk hH hS in_J2 tyJ2_ok q1141 q178 q101 rfl (fun j hj => by rcases (show j = 0 ∨ j = 1 ∨ j = 2 by omega) with rfl | rfl | rfl <;> rfl) eS2 (Nat.le_trans (by omega) hkc) (Nat.le_trans (by omega) hks) dX8_init_5 (fun H hH hS => ?_)
  have hkc : kc + 1 + c2_2 ≤ mc := by omega
  have hks : ks + 3 + n2_2 ≤ ms := by omega
  refine lv_dup (pc := 8) hx hb dX8_init_8 rfl ?_
  obtain ⟨_, S3, c3, n3, c2_3, n2_3, e3, hf, hC3, hN3⟩ := gbo hf
  refine g_callI (pc := 9) (o := (some S.2)) (b := S.2) (As := []) (rest := [.ref S.2, .ref l0]) hc (j_nAL_init hJ S.2  S2 () S3 c3 n3 e3) (cwI 0 hts (lw_meth q181) rfl rfl rfl (hts _ q101) (hts _ q1142) (hts _ q180) rfl hdiJ2_init ⟨Nat.le_of_ble_eq_true rfl, Nat.le_of_ble_eq_true rfl⟩) rfl rfl hl.1 rfl (lv_room (Nat.le_of_ble_eq_true rfl)) dX8_init_9 hH hS (by omega) (by omega) (fun H locs hH hS => ?_)
  have hkc : kc + 1 + c3 + c2_3 ≤ mc := by omega
  have hks : ks + 3 + n3 + n2_3 ≤ ms := by omega
  obtain ⟨S4, e4, hf⟩ := bdo hf
  refine g_putF (pc := 12) (o := (some l0)) (a := l0) (ci := 3) (k := 7) (v := .ref S.2) (C := RX8) (T := TX8) (N := 13) (ty := .object "java/util/ArrayList") hx hb hts hown hE hk hH hS rfl in_X8 tyX8_ok nmX8 rfl (by decide) (hts _ q1167) (fun _ h9 => h9) rfl hnm rfl rfl rfl rfl rfl e4 dX8_init_12 (fun H locs hH hS => ?_)
  refine lv_aload_n (pc := 15) hx hb dX8_init_15 rfl (lv_at hl 0 rfl) ?_
  obtain ⟨S5, c2_5, n2_5, eS5, hf, hC5, hN5⟩ := nwo hf
  refine g_newo (pc := 16) (ci := 10) (C := RX9) (T := noT) (N := 0) (ty := fun _ => .int) (fs := []) hx hb hts hown hE hA hk hH hS (in_noT _) (fun k hk => absurd hk (Nat.not_lt_zero k)) q1143 q1144 q132 rfl (fun j hj => absurd hj (Nat.not_lt_zero j)) eS5 (Nat.le_trans (by omega) hkc) (Nat.le_trans (by omega) hks) dX8_init_16 (fun H hH hS => ?_)
  have hkc : kc + 1 + c3 + 1 + c2_5 ≤ mc := by omega
  have hks : ks + 3 + n3 + 0 + n2_5 ≤ ms := by omega
  refine lv_dup (pc := 19) hx hb dX8_init_19 rfl ?_
  obtain ⟨_, S6, c6, n6, c2_6, n2_6, e6, hf, hC6, hN6⟩ := gbo hf
  refine g_callIN (pc := 20) (o := (some S4.2)) (b := S4.2) (As := []) (rest := [.ref S4.2, .ref l0]) hc (mX9_init hk hJ (l0 := S4.2) e6) q1145 q1147 q132 q1146 rfl hdiX9_init ⟨Nat.le_of_ble_eq_true rfl, Nat.le_of_ble_eq_true rfl⟩ rfl rfl hl.1 rfl (lv_room (Nat.le_of_ble_eq_true rfl)) dX8_init_20 hH hS (by omega) (by omega) (fun H locs hH hS => ?_)
  have hkc : kc + 1 + c3 + 1 + c6 + c2_6 ≤ mc := by omega
  have hks : ks + 3 + n3 + 0 + n6 + n2_6 ≤ ms := by omega
  obtain ⟨S7, e7, hf⟩ := bdo hf
  refine g_putF (pc := 23) (o := (some l0)) (a := l0) (ci := 3) (k := 8) (v := .ref S4.2) (C := RX8) (T := TX8) (N := 13) (ty := .object "CreditBroker$ByPriority") hx hb hts hown hE hk hH hS rfl in_X8 tyX8_ok nmX8 rfl (by decide) (hts _ q1170) (fun _ h9 => h9) rfl hnm rfl rfl rfl rfl rfl e7 dX8_init_23 (fun H locs hH hS => ?_)
  refine lv_aload_n (pc := 26) hx hb dX8_init_26 rfl (lv_at hl 0 rfl) ?_
  refine lv_iconst (pc := 27) (v := -1) hx hb dX8_init_27 rfl ?_
  obtain ⟨S8, e8, hf⟩ := bdo hf
  refine g_put (pc := 28) (o := (some l0)) (a := l0) (ci := 3) (k := 9) (v := .int (-1)) (C := RX8) (T := TX8) (N := 13) (ty := .int) hx hb hts hown hE hk hH hS rfl in_X8 tyX8_ok nmX8 rfl (by decide) (hts _ q1171) (fun _ h9 => h9) rfl rfl rfl rfl rfl e8 dX8_init_28 (fun H locs hH hS => ?_)
  refine lv_aload_n (pc := 31) hx hb dX8_init_31 rfl (lv_at hl 0 rfl) ?_
  refine lv_iload_n (pc := 32) hx hb dX8_init_32 rfl (lv_at hl 1 rfl) ?_
  obtain ⟨S9, e9, hf⟩ := bdo hf
  refine g_putF (pc := 33) (o := (some l0)) (a := l0) (ci := 3) (k := 0) (v := .int l1) (C := RX8) (T := TX8) (N := 13) (ty := .int) hx hb hts hown hE hk hH hS rfl in_X8 tyX8_ok nmX8 rfl (by decide) (hts _ q1150) (fun _ h9 => h9) rfl hnm rfl rfl rfl rfl rfl e9 dX8_init_33 (fun H locs hH hS => ?_)
  refine lv_aload_n (pc := 36) hx hb dX8_init_36 rfl (lv_at hl 0 rfl) ?_
  refine g_aload_n (pc := 37) (o := l2) hx hb dX8_init_37 rfl (lv_at hl 2 rfl) ?_
  obtain ⟨S10, e10, hf⟩ := bdo hf
  refine g_putF (pc := 38) (o := (some l0)) (a := l0) (ci := 3) (k := 1) (v := va_rf l2) (C := RX8) (T := TX8) (N := 13) (ty := .object "CreditBroker$Pattern") hx hb hts hown hE hk hH hS rfl in_X8 tyX8_ok nmX8 rfl (by decide) (hts _ q1153) (fun _ h9 => h9) rfl hnm rfl rfl (nar_rf _ _) (fit_rf _ _) rfl e10 dX8_init_38 (fun H locs hH hS => ?_)
  refine lv_aload_n (pc := 41) hx hb dX8_init_41 rfl (lv_at hl 0 rfl) ?_
  refine g_aload_n (pc := 42) (o := l3) hx hb dX8_init_42 rfl (lv_at hl 3 rfl) ?_
  refine lv_iconst (pc := 43) (v := nI 0) hx hb dX8_init_43 rfl ?_
  obtain ⟨a12, ea12, hf⟩ := bdo hf
  obtain ⟨v13, e13, hf⟩ := bdo hf
  refine g_iald (pc := 44) (o := l3) (a := a12) hx hb hE hk hH ea12 e13 dX8_init_44 ?_
  obtain ⟨S14, e14, hf⟩ := bdo hf
  refine g_putF (pc := 45) (o := (some l0)) (a := l0) (ci := 3) (k := 2) (v := .int v13) (C := RX8) (T := TX8) (N := 13) (ty := .int) hx hb hts hown hE hk hH hS rfl in_X8 tyX8_ok nmX8 rfl (by decide) (hts _ q1156) (fun _ h9 => h9) rfl hnm rfl rfl rfl rfl rfl e14 dX8_init_45 (fun H locs hH hS => ?_)
  refine lv_aload_n (pc := 48) hx hb dX8_init_48 rfl (lv_at hl 0 rfl) ?_
  refine g_aload_n (pc := 49) (o := l3) hx hb dX8_init_49 rfl (lv_at hl 3 rfl) ?_
  refine lv_iconst (pc := 50) (v := nI 1) hx hb dX8_init_50 rfl ?_
  obtain ⟨v16, e16, hf⟩ := bdo hf
  refine g_iald (pc := 51) (o := l3) (a := a12) hx hb hE hk hH ea12 e16 dX8_init_51 ?_
  obtain ⟨S17, e17, hf⟩ := bdo hf
  refine g_putF (pc := 52) (o := (some l0)) (a := l0) (ci := 3) (k := 3) (v := .int v16) (C := RX8) (T := TX8) (N := 13) (ty := .int) hx hb hts hown hE hk hH hS rfl in_X8 tyX8_ok nmX8 rfl (by decide) (hts _ q1158) (fun _ h9 => h9) rfl hnm rfl rfl rfl rfl rfl e17 dX8_init_52 (fun H locs hH hS => ?_)
  refine lv_aload_n (pc := 55) hx hb dX8_init_55 rfl (lv_at hl 0 rfl) ?_
  refine g_aload_n (pc := 56) (o := l3) hx hb dX8_init_56 rfl (lv_at hl 3 rfl) ?_
  refine lv_iconst (pc := 57) (v := nI 2) hx hb dX8_init_57 rfl ?_
  obtain ⟨v19, e19, hf⟩ := bdo hf
  refine g_iald (pc := 58) (o := l3) (a := a12) hx hb hE hk hH ea12 e19 dX8_init_58 ?_
  obtain ⟨S20, e20, hf⟩ := bdo hf
  refine g_putF (pc := 59) (o := (some l0)) (a := l0) (ci := 3) (k := 4) (v := .int v19) (C := RX8) (T := TX8) (N := 13) (ty := .int) hx hb hts hown hE hk hH hS rfl in_X8 tyX8_ok nmX8 rfl (by decide) (hts _ q1160) (fun _ h9 => h9) rfl hnm rfl rfl rfl rfl rfl e20 dX8_init_59 (fun H locs hH hS => ?_)
  refine lv_aload_n (pc := 62) hx hb dX8_init_62 rfl (lv_at hl 0 rfl) ?_
  refine g_aload_n (pc := 63) (o := l3) hx hb dX8_init_63 rfl (lv_at hl 3 rfl) ?_
  refine lv_iconst (pc := 64) (v := nI 3) hx hb dX8_init_64 rfl ?_
  obtain ⟨v22, e22, hf⟩ := bdo hf
  refine g_iald (pc := 65) (o := l3) (a := a12) hx hb hE hk hH ea12 e22 dX8_init_65 ?_
  obtain ⟨S23, e23, hf⟩ := bdo hf
  refine g_putF (pc := 66) (o := (some l0)) (a := l0) (ci := 3) (k := 5) (v := .int v22) (C := RX8) (T := TX8) (N := 13) (ty := .int) hx hb hts hown hE hk hH hS rfl in_X8 tyX8_ok nmX8 rfl (by decide) (hts _ q1162) (fun _ h9 => h9) rfl hnm rfl rfl rfl rfl rfl e23 dX8_init_66 (fun H locs hH hS => ?_)
  exact g_vret (pc := 69) hx hb hr hlk hH hS hkc hks hf dX8_init_69
theorem mX8_init {l : Launch} {G : gG} {Rp : gM → gM → Nat → Prop} (hk : rOK Rp) (hJ : JDK l G Rp) {S S2 : gS} {r2 : Unit} {C N : Nat} {l0 : Nat} {l1 : Int32} {l2 : Option Nat} {l3 : Option Nat} (hf : fX8_init l0 l1 l2 l3 S = some (r2, S2, C, N)) : gMet l yX8_init cX8_init 4 (none) 15 540 G Rp [.ref l0, .int l1, va_rf l2, va_rf l3] S none S2 C N := by
  refine g_start (by decide) (by simp [lg_sl, va_rf_cat, cat_i, cat_j, cat_r]) (fun p e s m args below meth c ls hc hl hH => ?_)
  have hl : lv_has ls 4 [(0, .ref l0), (1, .int l1), (2, va_rf l2), (3, va_rf l3)] := by simpa [lv_args, va_rf_cat, cat_i, cat_j, cat_r] using hl
  exact wX8_init_b0 hk hJ hc l0 l1 l2 l3 S _ _ ls 0 0 C N (by omega) (by omega) hH va_S.rf (lv_sub hl [0, 1, 2, 3] rfl) hf
end
section
variable {r : Unit} {Sf : gS}
def fX16_init (l0 : Nat) (l1 : Option Nat) (S : gS) : gO Unit :=
  bd (wr S l0 4 1 (.int (nI 0))) fun S2 =>
  bd (wr S2 l0 4 2 (.int (-1))) fun S3 =>
  bd (wr S3 l0 4 4 (.int (-1))) fun S4 =>
  bd (wr S4 l0 4 0 (va_rf l1)) fun S5 =>
  some ((), S5, 0, 0)
theorem wX16_init_b0 (hk : rOK Rp) (hJ : JDK l G Rp) (hc : gC p s m args meth c G RX16 "<init>" cX16_init 2 (none)) (l0 : Nat) (l1 : Option Nat) (S : gS) (H : Heap) (locs : List Loc) (ls : Array Slot) (kc ks C N : Nat) (hkc : kc + C ≤ mc) (hks : ks + N ≤ ms) (hH : hp G Rp S H) (hS : va_S G.2.2.2 s.heap H locs) (hl : lv_has ls 2 [(0, .ref l0), (1, va_rf l1)]) (hf : fX16_init l0 l1 S = some (r, Sf, C, N)) : W p l e (gR 1 40 mc ms) s m args below meth c H locs kc ks (gQ below G Rp none Sf args s mc ms) (F0 m 0 ls []) := by
  obtain ⟨hx, hb, hr, hlk, hml, hown, hts, hE, hA, hnm⟩ := hc
  have hc : gC p s m args meth c G RX16 "<init>" cX16_init 2 (none) := ⟨hx, hb, hr, hlk, hml, hown, hts, hE, hA, hnm⟩
  unfold fX16_init at hf
  refine lv_aload_n (pc := 0) hx hb dX16_init_0 rfl (lv_at hl 0 rfl) ?_
  refine W.objInit  hx hb hown (hts _ q1706) (hts _ q169) (hts _ q170) rfl (by rw [hml]; exact hl.1) rfl dX16_init_1 (Nat.le_of_ble_eq_true rfl) (Nat.le_of_ble_eq_true rfl) ?_
  refine W.eq (g2 := F0 m 4 ls []) rfl ?_
  refine lv_aload_n (pc := 4) hx hb dX16_init_4 rfl (lv_at hl 0 rfl) ?_
  refine lv_iconst (pc := 5) (v := nI 0) hx hb dX16_init_5 rfl ?_
  obtain ⟨S2, e2, hf⟩ := bdo hf
  refine g_put (pc := 6) (o := (some l0)) (a := l0) (ci := 4) (k := 1) (v := .int (nI 0)) (C := RX16) (T := TX16) (N := 6) (ty := .int) hx hb hts hown hE hk hH hS rfl in_X16 tyX16_ok nmX16 rfl (by decide) (hts _ q1713) (fun _ h9 => h9) rfl rfl rfl rfl rfl e2 dX16_init_6 (fun H locs hH hS => ?_)
  refine lv_aload_n (pc := 9) hx hb dX16_init_9 rfl (lv_at hl 0 rfl) ?_
  refine lv_iconst (pc := 10) (v := -1) hx hb dX16_init_10 rfl ?_
  obtain ⟨S3, e3, hf⟩ := bdo hf
  refine g_put (pc := 11) (o := (some l0)) (a := l0) (ci := 4) (k := 2) (v := .int (-1)) (C := RX16) (T := TX16) (N := 6) (ty := .int) hx hb hts hown hE hk hH hS rfl in_X16 tyX16_ok nmX16 rfl (by decide) (hts _ q1717) (fun _ h9 => h9) rfl rfl rfl rfl rfl e3 dX16_init_11 (fun H locs hH hS => ?_)
  refine lv_aload_n (pc := 14) hx hb dX16_init_14 rfl (lv_at hl 0 rfl) ?_
  refine lv_iconst (pc := 15) (v := -1) hx hb dX16_init_15 rfl ?_
  obtain ⟨S4, e4, hf⟩ := bdo hf
  refine g_put (pc := 16) (o := (some l0)) (a := l0) (ci := 4) (k := 4) (v := .int (-1)) (C := RX16) (T := TX16) (N := 6) (ty := .int) hx hb hts hown hE hk hH hS rfl in_X16 tyX16_ok nmX16 rfl (by decide) (hts _ q1725) (fun _ h9 => h9) rfl rfl rfl rfl rfl e4 dX16_init_16 (fun H locs hH hS => ?_)
  refine lv_aload_n (pc := 19) hx hb dX16_init_19 rfl (lv_at hl 0 rfl) ?_
  refine g_aload_n (pc := 20) (o := l1) hx hb dX16_init_20 rfl (lv_at hl 1 rfl) ?_
  obtain ⟨S5, e5, hf⟩ := bdo hf
  refine g_putF (pc := 21) (o := (some l0)) (a := l0) (ci := 4) (k := 0) (v := va_rf l1) (C := RX16) (T := TX16) (N := 6) (ty := .object "CreditBroker$Message") hx hb hts hown hE hk hH hS rfl in_X16 tyX16_ok nmX16 rfl (by decide) (hts _ q1708) (fun _ h9 => h9) rfl hnm rfl rfl (nar_rf _ _) (fit_rf _ _) rfl e5 dX16_init_21 (fun H locs hH hS => ?_)
  exact g_vret (pc := 24) hx hb hr hlk hH hS hkc hks hf dX16_init_24
theorem mX16_init {l : Launch} {G : gG} {Rp : gM → gM → Nat → Prop} (hk : rOK Rp) (hJ : JDK l G Rp) {S S2 : gS} {r2 : Unit} {C N : Nat} {l0 : Nat} {l1 : Option Nat} (hf : fX16_init l0 l1 S = some (r2, S2, C, N)) : gMet l yX16_init cX16_init 2 (none) 1 40 G Rp [.ref l0, va_rf l1] S none S2 C N := by
  refine g_start (by decide) (by simp [lg_sl, va_rf_cat, cat_i, cat_j, cat_r]) (fun p e s m args below meth c ls hc hl hH => ?_)
  have hl : lv_has ls 2 [(0, .ref l0), (1, va_rf l1)] := by simpa [lv_args, va_rf_cat, cat_i, cat_j, cat_r] using hl
  exact wX16_init_b0 hk hJ hc l0 l1 S _ _ ls 0 0 C N (by omega) (by omega) hH va_S.rf (lv_sub hl [0, 1] rfl) hf
end
section
variable {r : Unit} {Sf : gS}
def fX16_init_2 (l0 : Nat) (l1 : Option Nat) (S : gS) : gO Unit :=
  bd l1 fun a1 =>
  bd (rdR S a1 4 0) fun v2 =>
  gb (fX16_init l0 v2 S) fun _ S3 =>
  bd (rdI S3 a1 4 1) fun v4 =>
  bd (wr S3 l0 4 1 (.int v4)) fun S5 =>
  bd (rdI S5 a1 4 2) fun v6 =>
  bd (wr S5 l0 4 2 (.int v6)) fun S7 =>
  bd (rdI S7 a1 4 3) fun v8 =>
  bd (wr S7 l0 4 3 (.int v8)) fun S9 =>
  bd (rdI S9 a1 4 4) fun v10 =>
  bd (wr S9 l0 4 4 (.int v10)) fun S11 =>
  bd (rdR S11 a1 4 5) fun v12 =>
  bd (wr S11 l0 4 5 (va_rf v12)) fun S13 =>
  some ((), S13, 0, 0)
theorem wX16_init_2_b0 (hk : rOK Rp) (hJ : JDK l G Rp) (hc : gC p s m args meth c G RX16 "<init>" cX16_init_2 2 (none)) (l0 : Nat) (l1 : Option Nat) (S : gS) (H : Heap) (locs : List Loc) (ls : Array Slot) (kc ks C N : Nat) (hkc : kc + C ≤ mc) (hks : ks + N ≤ ms) (hH : hp G Rp S H) (hS : va_S G.2.2.2 s.heap H locs) (hl : lv_has ls 2 [(0, .ref l0), (1, va_rf l1)]) (hf : fX16_init_2 l0 l1 S = some (r, Sf, C, N)) : W p l e (gR 2 61 mc ms) s m args below meth c H locs kc ks (gQ below G Rp none Sf args s mc ms) (F0 m 0 ls []) := by
  obtain ⟨hx, hb, hr, hlk, hml, hown, hts, hE, hA, hnm⟩ := hc
  have hc : gC p s m args meth c G RX16 "<init>" cX16_init_2 2 (none) := ⟨hx, hb, hr, hlk, hml, hown, hts, hE, hA, hnm⟩
  unfold fX16_init_2 at hf
  refine lv_aload_n (pc := 0) hx hb dX16_init_2_0 rfl (lv_at hl 0 rfl) ?_
  refine g_aload_n (pc := 1) (o := l1) hx hb dX16_init_2_1 rfl (lv_at hl 1 rfl) ?_
  obtain ⟨a1, ea1, hf⟩ := bdo hf
  obtain ⟨v2, e2, hf⟩ := bdo hf
  refine g_get (pc := 2) (o := l1) (a := a1) (ci := 4) (k := 0) (v := va_rf v2) (C := RX16) (T := TX16) (N := 6) hx hb hts hown hE hk hH in_X16 rfl (by decide) (hts _ q1708) (fun _ h9 => h9) ea1 (rdR_o e2) dX16_init_2_2 ?_
  obtain ⟨_, S3, c3, n3, c2_3, n2_3, e3, hf, hC3, hN3⟩ := gbo hf
  refine g_callI (pc := 5) (o := (some l0)) (b := l0) (As := [va_rf v2]) (rest := []) hc (mX16_init hk hJ (l0 := l0) (l1 := v2) e3) (cwI 1 hts (lw_meth q1705) rfl rfl rfl (hts _ q144) (hts _ q2619) (hts _ q1704) rfl hdiX16_init ⟨Nat.le_of_ble_eq_true rfl, Nat.le_of_ble_eq_true rfl⟩) rfl rfl hl.1 rfl (lv_room (Nat.le_of_ble_eq_true rfl)) dX16_init_2_5 hH hS (by omega) (by omega) (fun H locs hH hS => ?_)
  have hkc : kc + c3 + c2_3 ≤ mc := by omega
  have hks : ks + n3 + n2_3 ≤ ms := by omega
  refine lv_aload_n (pc := 8) hx hb dX16_init_2_8 rfl (lv_at hl 0 rfl) ?_
  refine g_aload_n (pc := 9) (o := l1) hx hb dX16_init_2_9 rfl (lv_at hl 1 rfl) ?_
  obtain ⟨v4, e4, hf⟩ := bdo hf
  refine g_get (pc := 10) (o := l1) (a := a1) (ci := 4) (k := 1) (v := .int v4) (C := RX16) (T := TX16) (N := 6) hx hb hts hown hE hk hH in_X16 rfl (by decide) (hts _ q1713) (fun _ h9 => h9) ea1 (rdI_o e4) dX16_init_2_10 ?_
  obtain ⟨S5, e5, hf⟩ := bdo hf
  refine g_put (pc := 13) (o := (some l0)) (a := l0) (ci := 4) (k := 1) (v := .int v4) (C := RX16) (T := TX16) (N := 6) (ty := .int) hx hb hts hown hE hk hH hS rfl in_X16 tyX16_ok nmX16 rfl (by decide) (hts _ q1713) (fun _ h9 => h9) rfl rfl rfl rfl rfl e5 dX16_init_2_13 (fun H locs hH hS => ?_)
  refine lv_aload_n (pc := 16) hx hb dX16_init_2_16 rfl (lv_at hl 0 rfl) ?_
  refine g_aload_n (pc := 17) (o := l1) hx hb dX16_init_2_17 rfl (lv_at hl 1 rfl) ?_
  obtain ⟨v6, e6, hf⟩ := bdo hf
  refine g_get (pc := 18) (o := l1) (a := a1) (ci := 4) (k := 2) (v := .int v6) (C := RX16) (T := TX16) (N := 6) hx hb hts hown hE hk hH in_X16 rfl (by decide) (hts _ q1717) (fun _ h9 => h9) ea1 (rdI_o e6) dX16_init_2_18 ?_
  obtain ⟨S7, e7, hf⟩ := bdo hf
  refine g_put (pc := 21) (o := (some l0)) (a := l0) (ci := 4) (k := 2) (v := .int v6) (C := RX16) (T := TX16) (N := 6) (ty := .int) hx hb hts hown hE hk hH hS rfl in_X16 tyX16_ok nmX16 rfl (by decide) (hts _ q1717) (fun _ h9 => h9) rfl rfl rfl rfl rfl e7 dX16_init_2_21 (fun H locs hH hS => ?_)
  refine lv_aload_n (pc := 24) hx hb dX16_init_2_24 rfl (lv_at hl 0 rfl) ?_
  refine g_aload_n (pc := 25) (o := l1) hx hb dX16_init_2_25 rfl (lv_at hl 1 rfl) ?_
  obtain ⟨v8, e8, hf⟩ := bdo hf
  refine g_get (pc := 26) (o := l1) (a := a1) (ci := 4) (k := 3) (v := .int v8) (C := RX16) (T := TX16) (N := 6) hx hb hts hown hE hk hH in_X16 rfl (by decide) (hts _ q1721) (fun _ h9 => h9) ea1 (rdI_o e8) dX16_init_2_26 ?_
  obtain ⟨S9, e9, hf⟩ := bdo hf
  refine g_put (pc := 29) (o := (some l0)) (a := l0) (ci := 4) (k := 3) (v := .int v8) (C := RX16) (T := TX16) (N := 6) (ty := .int) hx hb hts hown hE hk hH hS rfl in_X16 tyX16_ok nmX16 rfl (by decide) (hts _ q1721) (fun _ h9 => h9) rfl rfl rfl rfl rfl e9 dX16_init_2_29 (fun H locs hH hS => ?_)
  refine lv_aload_n (pc := 32) hx hb dX16_init_2_32 rfl (lv_at hl 0 rfl) ?_
  refine g_aload_n (pc := 33) (o := l1) hx hb dX16_init_2_33 rfl (lv_at hl 1 rfl) ?_
  obtain ⟨v10, e10, hf⟩ := bdo hf
  refine g_get (pc := 34) (o := l1) (a := a1) (ci := 4) (k := 4) (v := .int v10) (C := RX16) (T := TX16) (N := 6) hx hb hts hown hE hk hH in_X16 rfl (by decide) (hts _ q1725) (fun _ h9 => h9) ea1 (rdI_o e10) dX16_init_2_34 ?_
  obtain ⟨S11, e11, hf⟩ := bdo hf
  refine g_put (pc := 37) (o := (some l0)) (a := l0) (ci := 4) (k := 4) (v := .int v10) (C := RX16) (T := TX16) (N := 6) (ty := .int) hx hb hts hown hE hk hH hS rfl in_X16 tyX16_ok nmX16 rfl (by decide) (hts _ q1725) (fun _ h9 => h9) rfl rfl rfl rfl rfl e11 dX16_init_2_37 (fun H locs hH hS => ?_)
  refine lv_aload_n (pc := 40) hx hb dX16_init_2_40 rfl (lv_at hl 0 rfl) ?_
  refine g_aload_n (pc := 41) (o := l1) hx hb dX16_init_2_41 rfl (lv_at hl 1 rfl) ?_
  obtain ⟨v12, e12, hf⟩ := bdo hf
  refine g_get (pc := 42) (o := l1) (a := a1) (ci := 4) (k := 5) (v := va_rf v12) (C := RX16) (T := TX16) (N := 6) hx hb hts hown hE hk hH in_X16 rfl (by decide) (hts _ q1730) (fun _ h9 => h9) ea1 (rdR_o e12) dX16_init_2_42 ?_
  obtain ⟨S13, e13, hf⟩ := bdo hf
  refine g_put (pc := 45) (o := (some l0)) (a := l0) (ci := 4) (k := 5) (v := va_rf v12) (C := RX16) (T := TX16) (N := 6) (ty := .object "CreditBroker$Cause") hx hb hts hown hE hk hH hS rfl in_X16 tyX16_ok nmX16 rfl (by decide) (hts _ q1730) (fun _ h9 => h9) rfl rfl (nar_rf _ _) (fit_rf _ _) rfl e13 dX16_init_2_45 (fun H locs hH hS => ?_)
  exact g_vret (pc := 48) hx hb hr hlk hH hS hkc hks hf dX16_init_2_48
theorem mX16_init_2 {l : Launch} {G : gG} {Rp : gM → gM → Nat → Prop} (hk : rOK Rp) (hJ : JDK l G Rp) {S S2 : gS} {r2 : Unit} {C N : Nat} {l0 : Nat} {l1 : Option Nat} (hf : fX16_init_2 l0 l1 S = some (r2, S2, C, N)) : gMet l yX16_init_2 cX16_init_2 2 (none) 2 61 G Rp [.ref l0, va_rf l1] S none S2 C N := by
  refine g_start (by decide) (by simp [lg_sl, va_rf_cat, cat_i, cat_j, cat_r]) (fun p e s m args below meth c ls hc hl hH => ?_)
  have hl : lv_has ls 2 [(0, .ref l0), (1, va_rf l1)] := by simpa [lv_args, va_rf_cat, cat_i, cat_j, cat_r] using hl
  exact wX16_init_2_b0 hk hJ hc l0 l1 S _ _ ls 0 0 C N (by omega) (by omega) hH va_S.rf (lv_sub hl [0, 1] rfl) hf
end
section
variable {r : Unit} {Sf : gS}
def fX8_init_2_b59 : Nat → Nat → (Option Nat) → (Option Nat) → gS → gO Unit
  | 0, _, _, _, _ => none
  | n + 1, l0, l1, l2, S =>
    bd l2 fun a2 =>
    gb (nI6_hasNext a2 S) fun v1 S1 =>
    if v1 = 0 then
      bd l1 fun a4 =>
      bd (rdI S1 a4 3 9) fun v5 =>
      bd (wr S1 l0 3 9 (.int v5)) fun S6 =>
      bd (rdI S6 a4 3 10) fun v7 =>
      bd (wr S6 l0 3 10 (.int v7)) fun S8 =>
      bd (rdI S8 a4 3 11) fun v9 =>
      bd (wr S8 l0 3 11 (.int v9)) fun S10 =>
      bd (rdI S10 a4 3 12) fun v11 =>
      bd (wr S10 l0 3 12 (.int v11)) fun S12 =>
      some ((), S12, 0, 0)
    else
      gb (nI6_next a2 S1) fun v13 S13 =>
      bd (ckc S13 v13 4) fun _ =>
      bd (rdR S13 l0 3 7) fun v15 =>
      nw S13 (cO 4 [.null, .int 0, .int 0, .int 0, .int 0, .null]) 6 fun S16 =>
      gb (fX16_init_2 S13.2 v13 S16) fun _ S17 =>
      bd v15 fun a19 =>
      gb (nAL_add a19 (some S13.2) S17) fun v18 S18 =>
      fX8_init_2_b59 n l0 l1 l2 S18
theorem wX8_init_2_b59 (hk : rOK Rp) (hJ : JDK l G Rp) (hc : gC p s m args meth c G RX8 "<init>" cX8_init_2 4 (none)) : ∀ (n : Nat) (l0 : Nat) (l1 : Option Nat) (l2 : Option Nat) (S : gS) (H : Heap) (locs : List Loc) (ls : Array Slot) (kc ks C N : Nat), kc + C ≤ mc → ks + N ≤ ms → hp G Rp S H → va_S G.2.2.2 s.heap H locs → lv_has ls 4 [(0, .ref l0), (1, va_rf l1), (2, va_rf l2)] → fX8_init_2_b59 n l0 l1 l2 S = some (r, Sf, C, N) → W p l e (gR 16 563 mc ms) s m args below meth c H locs kc ks (gQ below G Rp none Sf args s mc ms) (F0 m 59 ls []) := by
  obtain ⟨hx, hb, hr, hlk, hml, hown, hts, hE, hA, hnm⟩ := hc
  have hc : gC p s m args meth c G RX8 "<init>" cX8_init_2 4 (none) := ⟨hx, hb, hr, hlk, hml, hown, hts, hE, hA, hnm⟩
  intro n
  induction n with
  | zero => intro l0 l1 l2 S H locs ls kc ks C N _ _ _ _ _ hf; exact absurd hf (fun h => by cases h)
  | succ n ih =>
    intro l0 l1 l2 S H locs ls kc ks C N hkc hks hH hS hl hf
    rw [fX8_init_2_b59] at hf
    refine g_aload_n (pc := 59) (o := l2) hx hb dX8_init_2_59 rfl (lv_at hl 2 rfl) ?_
    obtain ⟨a2, ea2, hf⟩ := bdo hf
    obtain ⟨v1, S1, c1, n1, c2_1, n2_1, e1, hf, hC1, hN1⟩ := gbo hf
    refine g_callF (pc := 60) (o := l2) (b := a2) (As := []) (rest := []) (st1 := [.int v1]) (ci := 21) (q := (RJ26, TJ26, 4)) hc (j_nI6_hasNext hJ a2 S v1 S1 c1 n1 e1) (va_cwF 0 hts (lw_app (lw_of4 q1964 q1339 q1341 q135) (lw_meth q1343)) rfl rfl rfl (hE.2.1.2.2.2.2.2 _ _ _ hdx_hasNext.1 q1320 q1319 q1342 q1340 q1338) hdx_hasNext.2 ⟨Nat.le_of_ble_eq_true rfl, Nat.le_of_ble_eq_true rfl⟩) rfl rfl (j_recv hJ _ _ _ _ 6 _ _ hE hH hS (adtR (t := 6) (show bd _ _ = some _ from e1)).choose_spec) ea2 rfl hl.1 rfl rfl (lv_room (Nat.le_of_ble_eq_true rfl)) dX8_init_2_60 hH hS (by omega) (by omega) (fun H locs hH hS => ?_)
    have hkc : kc + c1 + c2_1 ≤ mc := by omega
    have hks : ks + n1 + n2_1 ≤ ms := by omega
    refine lv_if_eq (pc := 65) (tgt := 97) hx hb dX8_init_2_65 (by decide) (fun c3 => ?_) (fun c3 => ?_)
    · rw [if_pos c3] at hf
      refine lv_aload_n (pc := 97) hx hb dX8_init_2_97 rfl (lv_at hl 0 rfl) ?_
      refine g_aload_n (pc := 98) (o := l1) hx hb dX8_init_2_98 rfl (lv_at hl 1 rfl) ?_
      obtain ⟨a4, ea4, hf⟩ := bdo hf
      obtain ⟨v5, e5, hf⟩ := bdo hf
      refine g_get (pc := 99) (o := l1) (a := a4) (ci := 3) (k := 9) (v := .int v5) (C := RX8) (T := TX8) (N := 13) hx hb hts hown hE hk hH in_X8 rfl (by decide) (hts _ q1171) (fun _ h9 => h9) ea4 (rdI_o e5) dX8_init_2_99 ?_
      obtain ⟨S6, e6, hf⟩ := bdo hf
      refine g_put (pc := 102) (o := (some l0)) (a := l0) (ci := 3) (k := 9) (v := .int v5) (C := RX8) (T := TX8) (N := 13) (ty := .int) hx hb hts hown hE hk hH hS rfl in_X8 tyX8_ok nmX8 rfl (by decide) (hts _ q1171) (fun _ h9 => h9) rfl rfl rfl rfl rfl e6 dX8_init_2_102 (fun H locs hH hS => ?_)
      refine lv_aload_n (pc := 105) hx hb dX8_init_2_105 rfl (lv_at hl 0 rfl) ?_
      refine g_aload_n (pc := 106) (o := l1) hx hb dX8_init_2_106 rfl (lv_at hl 1 rfl) ?_
      obtain ⟨v7, e7, hf⟩ := bdo hf
      refine g_get (pc := 107) (o := l1) (a := a4) (ci := 3) (k := 10) (v := .int v7) (C := RX8) (T := TX8) (N := 13) hx hb hts hown hE hk hH in_X8 rfl (by decide) (hts _ q1173) (fun _ h9 => h9) ea4 (rdI_o e7) dX8_init_2_107 ?_
      obtain ⟨S8, e8, hf⟩ := bdo hf
      refine g_put (pc := 110) (o := (some l0)) (a := l0) (ci := 3) (k := 10) (v := .int v7) (C := RX8) (T := TX8) (N := 13) (ty := .int) hx hb hts hown hE hk hH hS rfl in_X8 tyX8_ok nmX8 rfl (by decide) (hts _ q1173) (fun _ h9 => h9) rfl rfl rfl rfl rfl e8 dX8_init_2_110 (fun H locs hH hS => ?_)
      refine lv_aload_n (pc := 113) hx hb dX8_init_2_113 rfl (lv_at hl 0 rfl) ?_
      refine g_aload_n (pc := 114) (o := l1) hx hb dX8_init_2_114 rfl (lv_at hl 1 rfl) ?_
      obtain ⟨v9, e9, hf⟩ := bdo hf
      refine g_get (pc := 115) (o := l1) (a := a4) (ci := 3) (k := 11) (v := .int v9) (C := RX8) (T := TX8) (N := 13) hx hb hts hown hE hk hH in_X8 rfl (by decide) (hts _ q1176) (fun _ h9 => h9) ea4 (rdI_o e9) dX8_init_2_115 ?_
      obtain ⟨S10, e10, hf⟩ := bdo hf
      refine g_put (pc := 118) (o := (some l0)) (a := l0) (ci := 3) (k := 11) (v := .int v9) (C := RX8) (T := TX8) (N := 13) (ty := .int) hx hb hts hown hE hk hH hS rfl in_X8 tyX8_ok nmX8 rfl (by decide) (hts _ q1176) (fun _ h9 => h9) rfl rfl rfl rfl rfl e10 dX8_init_2_118 (fun H locs hH hS => ?_)
      refine lv_aload_n (pc := 121) hx hb dX8_init_2_121 rfl (lv_at hl 0 rfl) ?_
      refine g_aload_n (pc := 122) (o := l1) hx hb dX8_init_2_122 rfl (lv_at hl 1 rfl) ?_
      obtain ⟨v11, e11, hf⟩ := bdo hf
      refine g_get (pc := 123) (o := l1) (a := a4) (ci := 3) (k := 12) (v := .int v11) (C := RX8) (T := TX8) (N := 13) hx hb hts hown hE hk hH in_X8 rfl (by decide) (hts _ q1179) (fun _ h9 => h9) ea4 (rdI_o e11) dX8_init_2_123 ?_
      obtain ⟨S12, e12, hf⟩ := bdo hf
      refine g_put (pc := 126) (o := (some l0)) (a := l0) (ci := 3) (k := 12) (v := .int v11) (C := RX8) (T := TX8) (N := 13) (ty := .int) hx hb hts hown hE hk hH hS rfl in_X8 tyX8_ok nmX8 rfl (by decide) (hts _ q1179) (fun _ h9 => h9) rfl rfl rfl rfl rfl e12 dX8_init_2_126 (fun H locs hH hS => ?_)
      exact g_vret (pc := 129) hx hb hr hlk hH hS hkc hks hf dX8_init_2_129
    · rw [if_neg c3] at hf
      refine g_aload_n (pc := 68) (o := l2) hx hb dX8_init_2_68 rfl (lv_at hl 2 rfl) ?_
      obtain ⟨v13, S13, c13, n13, c2_13, n2_13, e13, hf, hC13, hN13⟩ := gbo hf
      refine g_callF (pc := 69) (o := l2) (b := a2) (As := []) (rest := []) (st1 := [va_rf v13]) (ci := 21) (q := (RJ26, TJ26, 4)) hc (j_nI6_next hJ a2 S1 v13 S13 c13 n13 e13) (va_cwF 0 hts (lw_app (lw_of4 q1966 q1472 q1474 q135) (lw_meth q1476)) rfl rfl rfl (hE.2.1.2.2.2.2.2 _ _ _ hdx_next.1 q1366 q1365 q1475 q1473 q1338) hdx_next.2 ⟨Nat.le_of_ble_eq_true rfl, Nat.le_of_ble_eq_true rfl⟩) rfl rfl (j_recv hJ _ _ _ _ 6 _ _ hE hH hS (adtR (t := 6) (show bd _ _ = some _ from e13)).choose_spec) ea2 rfl hl.1 rfl rfl (lv_room (Nat.le_of_ble_eq_true rfl)) dX8_init_2_69 hH hS (by omega) (by omega) (fun H locs hH hS => ?_)
      have hkc : kc + c1 + c13 + c2_13 ≤ mc := by omega
      have hks : ks + n1 + n13 + n2_13 ≤ ms := by omega
      obtain ⟨_, e14, hf⟩ := bdo hf
      refine g_cast (pc := 74) (o := v13) (ci := 4) (C := RX16) (T := TX16) (N := 6) hx hb hts hown hE hk hH rfl q1758 e14 dX8_init_2_74 ?_
      refine g_astore_n (pc := 77) (i := 3) (o := v13) (lv' := [(3, va_rf v13), (0, .ref l0), (1, va_rf l1), (2, va_rf l2)]) hx hb dX8_init_2_77 rfl hl (by decide) (by simp [va_rf_cat, cat_i, cat_j, cat_r] <;> rfl) (fun ls hl => ?_)
      refine lv_aload_n (pc := 78) hx hb dX8_init_2_78 rfl (lv_at hl 1 rfl) ?_
      obtain ⟨v15, e15, hf⟩ := bdo hf
      refine g_get (pc := 79) (o := (some l0)) (a := l0) (ci := 3) (k := 7) (v := va_rf v15) (C := RX8) (T := TX8) (N := 13) hx hb hts hown hE hk hH in_X8 rfl (by decide) (hts _ q1167) (fun _ h9 => h9) rfl (rdR_o e15) dX8_init_2_79 ?_
      obtain ⟨S16, c2_16, n2_16, eS16, hf, hC16, hN16⟩ := nwo hf
      refine g_newo (pc := 82) (ci := 4) (C := RX16) (T := TX16) (N := 6) (fs := [.null, .int 0, .int 0, .int 0, .int 0, .null]) hx hb hts hown hE hA hk hH hS in_X16 tyX16_ok q1758 q1702 q144 rfl (fun j hj => by rcases (show j = 0 ∨ j = 1 ∨ j = 2 ∨ j = 3 ∨ j = 4 ∨ j = 5 by omega) with rfl | rfl | rfl | rfl | rfl | rfl <;> rfl) eS16 (Nat.le_trans (by omega) hkc) (Nat.le_trans (by omega) hks) dX8_init_2_82 (fun H hH hS => ?_)
      have hkc : kc + c1 + c13 + 1 + c2_16 ≤ mc := by omega
      have hks : ks + n1 + n13 + 6 + n2_16 ≤ ms := by omega
      refine lv_dup (pc := 85) hx hb dX8_init_2_85 rfl ?_
      refine g_aload_n (pc := 86) (o := v13) hx hb dX8_init_2_86 rfl (lv_at hl 0 rfl) ?_
      obtain ⟨_, S17, c17, n17, c2_17, n2_17, e17, hf, hC17, hN17⟩ := gbo hf
      refine g_callI (pc := 87) (o := (some S13.2)) (b := S13.2) (As := [va_rf v13]) (rest := [.ref S13.2, va_rf v15]) hc (mX16_init_2 hk hJ (l0 := S13.2) (l1 := v13) e17) (cwI 1 hts (lw_meth q2618) rfl rfl rfl (hts _ q144) (hts _ q2616) (hts _ q2617) rfl hdiX16_init_2 ⟨Nat.le_of_ble_eq_true rfl, Nat.le_of_ble_eq_true rfl⟩) rfl rfl hl.1 rfl (lv_room (by simp [va_rf_cat, cat_i, cat_j, cat_r])) dX8_init_2_87 hH hS (by omega) (by omega) (fun H locs hH hS => ?_)
      have hkc : kc + c1 + c13 + 1 + c17 + c2_17 ≤ mc := by omega
      have hks : ks + n1 + n13 + 6 + n17 + n2_17 ≤ ms := by omega
      obtain ⟨a19, ea19, hf⟩ := bdo hf
      obtain ⟨v18, S18, c18, n18, c2_18, n2_18, e18, hf, hC18, hN18⟩ := gbo hf
      refine g_callV (pc := 90) (o := v15) (b := a19) (As := [.ref S13.2]) (rest := []) (st1 := [.int v18]) hc (j_nAL_add hJ a19 (some S13.2) S17 v18 S18 c18 n18 e18) (cwV 1 hts (lw_V q2620 q1040 q1041 q101 q1042) rfl rfl rfl hdJ2_add ⟨Nat.le_of_ble_eq_true rfl, Nat.le_of_ble_eq_true rfl⟩) (j_recv hJ _ _ _ _ 0 _ _ hE hH hS (adtR (t := 0) (show bd _ _ = some _ from e18)).choose_spec) ea19 rfl hl.1 rfl rfl (lv_room (Nat.le_of_ble_eq_true rfl)) dX8_init_2_90 hH hS (by omega) (by omega) (fun H locs hH hS => ?_)
      have hkc : kc + c1 + c13 + 1 + c17 + c18 + c2_18 ≤ mc := by omega
      have hks : ks + n1 + n13 + 6 + n17 + n18 + n2_18 ≤ ms := by omega
      refine lv_pop (pc := 93) hx hb dX8_init_2_93 rfl ?_
      refine lv_goto (pc := 94) (tgt := 59) hx hb dX8_init_2_94 (by decide) ?_
      exact ih l0 l1 l2 S18 _ _ ls _ _ _ _ hkc hks hH hS (lv_sub hl [1, 2, 3] rfl) hf
def fX8_init_2 (l0 : Nat) (l1 : Option Nat) (S : gS) : gO Unit :=
  bd l1 fun a1 =>
  bd (rdI S a1 3 0) fun v2 =>
  bd (rdR S a1 3 1) fun v3 =>
  nwa S 0 (nI 4) fun S4 =>
  bd (rdI S4 a1 3 2) fun v5 =>
  bd (wrAi S4 S.2 (nI 0) v5) fun S6 =>
  bd (rdI S6 a1 3 3) fun v7 =>
  bd (wrAi S6 S.2 (nI 1) v7) fun S8 =>
  bd (rdI S8 a1 3 4) fun v9 =>
  bd (wrAi S8 S.2 (nI 2) v9) fun S10 =>
  bd (rdI S10 a1 3 5) fun v11 =>
  bd (wrAi S10 S.2 (nI 3) v11) fun S12 =>
  gb (fX8_init l0 v2 v3 (some S.2) S12) fun _ S13 =>
  bd (rdI S13 a1 3 6) fun v14 =>
  bd (wrz S13 l0 3 6 v14) fun S15 =>
  bd (rdR S15 a1 3 7) fun v16 =>
  bd v16 fun a18 =>
  gb (nAL_iter a18  S15) fun v17 S17 =>
  fX8_init_2_b59 FU l0 l1 v17 S17
theorem wX8_init_2_b0 (hk : rOK Rp) (hJ : JDK l G Rp) (hc : gC p s m args meth c G RX8 "<init>" cX8_init_2 4 (none)) (l0 : Nat) (l1 : Option Nat) (S : gS) (H : Heap) (locs : List Loc) (ls : Array Slot) (kc ks C N : Nat) (hkc : kc + C ≤ mc) (hks : ks + N ≤ ms) (hH : hp G Rp S H) (hS : va_S G.2.2.2 s.heap H locs) (hl : lv_has ls 4 [(0, .ref l0), (1, va_rf l1)]) (hf : fX8_init_2 l0 l1 S = some (r, Sf, C, N)) : W p l e (gR 16 563 mc ms) s m args below meth c H locs kc ks (gQ below G Rp none Sf args s mc ms) (F0 m 0 ls []) := by
  obtain ⟨hx, hb, hr, hlk, hml, hown, hts, hE, hA, hnm⟩ := hc
  have hc : gC p s m args meth c G RX8 "<init>" cX8_init_2 4 (none) := ⟨hx, hb, hr, hlk, hml, hown, hts, hE, hA, hnm⟩
  unfold fX8_init_2 at hf
  refine lv_aload_n (pc := 0) hx hb dX8_init_2_0 rfl (lv_at hl 0 rfl) ?_
  refine g_aload_n (pc := 1) (o := l1) hx hb dX8_init_2_1 rfl (lv_at hl 1 rfl) ?_
  obtain ⟨a1, ea1, hf⟩ := bdo hf
  obtain ⟨v2, e2, hf⟩ := bdo hf
  refine g_get (pc := 2) (o := l1) (a := a1) (ci := 3) (k := 0) (v := .int v2) (C := RX8) (T := TX8) (N := 13) hx hb hts hown hE hk hH in_X8 rfl (by decide) (hts _ q1150) (fun _ h9 => h9) ea1 (rdI_o e2) dX8_init_2_2 ?_
  refine g_aload_n (pc := 5) (o := l1) hx hb dX8_init_2_5 rfl (lv_at hl 1 rfl) ?_
  obtain ⟨v3, e3, hf⟩ := bdo hf
  refine g_get (pc := 6) (o := l1) (a := a1) (ci := 3) (k := 1) (v := va_rf v3) (C := RX8) (T := TX8) (N := 13) hx hb hts hown hE hk hH in_X8 rfl (by decide) (hts _ q1153) (fun _ h9 => h9) ea1 (rdR_o e3) dX8_init_2_6 ?_
  refine lv_iconst (pc := 9) (v := nI 4) hx hb dX8_init_2_9 rfl ?_
  obtain ⟨hn4, hi4, S4, c2_4, n2_4, eS4, hf, hC4, hN4⟩ := nwao hf
  refine g_newa (pc := 10) (atype := .int) (ty := .int) (t := 0) hx hb hts hE hA hk hH hS q271 rfl rfl rfl (fun _ h => by cases h) hn4 hi4 eS4 (by decide) (Nat.le_trans (by omega) hkc) (Nat.le_trans (by omega) hks) dX8_init_2_10 (fun H hH hS => ?_)
  have hkc : kc + 1 + c2_4 ≤ mc := by omega
  have hks : ks + (nI 4).toNatClampNeg + n2_4 ≤ ms := by omega
  refine lv_dup (pc := 12) hx hb dX8_init_2_12 rfl ?_
  refine lv_iconst (pc := 13) (v := nI 0) hx hb dX8_init_2_13 rfl ?_
  refine g_aload_n (pc := 14) (o := l1) hx hb dX8_init_2_14 rfl (lv_at hl 1 rfl) ?_
  obtain ⟨v5, e5, hf⟩ := bdo hf
  refine g_get (pc := 15) (o := l1) (a := a1) (ci := 3) (k := 2) (v := .int v5) (C := RX8) (T := TX8) (N := 13) hx hb hts hown hE hk hH in_X8 rfl (by decide) (hts _ q1156) (fun _ h9 => h9) ea1 (rdI_o e5) dX8_init_2_15 ?_
  obtain ⟨S6, e6, hf⟩ := bdo hf
  refine g_iast (pc := 18) (o := (some S.2)) (a := S.2) hx hb hE hk hH hS rfl e6 dX8_init_2_18 (fun H locs hH hS => ?_)
  refine lv_dup (pc := 19) hx hb dX8_init_2_19 rfl ?_
  refine lv_iconst (pc := 20) (v := nI 1) hx hb dX8_init_2_20 rfl ?_
  refine g_aload_n (pc := 21) (o := l1) hx hb dX8_init_2_21 rfl (lv_at hl 1 rfl) ?_
  obtain ⟨v7, e7, hf⟩ := bdo hf
  refine g_get (pc := 22) (o := l1) (a := a1) (ci := 3) (k := 3) (v := .int v7) (C := RX8) (T := TX8) (N := 13) hx hb hts hown hE hk hH in_X8 rfl (by decide) (hts _ q1158) (fun _ h9 => h9) ea1 (rdI_o e7) dX8_init_2_22 ?_
  obtain ⟨S8, e8, hf⟩ := bdo hf
  refine g_iast (pc := 25) (o := (some S.2)) (a := S.2) hx hb hE hk hH hS rfl e8 dX8_init_2_25 (fun H locs hH hS => ?_)
  refine lv_dup (pc := 26) hx hb dX8_init_2_26 rfl ?_
  refine lv_iconst (pc := 27) (v := nI 2) hx hb dX8_init_2_27 rfl ?_
  refine g_aload_n (pc := 28) (o := l1) hx hb dX8_init_2_28 rfl (lv_at hl 1 rfl) ?_
  obtain ⟨v9, e9, hf⟩ := bdo hf
  refine g_get (pc := 29) (o := l1) (a := a1) (ci := 3) (k := 4) (v := .int v9) (C := RX8) (T := TX8) (N := 13) hx hb hts hown hE hk hH in_X8 rfl (by decide) (hts _ q1160) (fun _ h9 => h9) ea1 (rdI_o e9) dX8_init_2_29 ?_
  obtain ⟨S10, e10, hf⟩ := bdo hf
  refine g_iast (pc := 32) (o := (some S.2)) (a := S.2) hx hb hE hk hH hS rfl e10 dX8_init_2_32 (fun H locs hH hS => ?_)
  refine lv_dup (pc := 33) hx hb dX8_init_2_33 rfl ?_
  refine lv_iconst (pc := 34) (v := nI 3) hx hb dX8_init_2_34 rfl ?_
  refine g_aload_n (pc := 35) (o := l1) hx hb dX8_init_2_35 rfl (lv_at hl 1 rfl) ?_
  obtain ⟨v11, e11, hf⟩ := bdo hf
  refine g_get (pc := 36) (o := l1) (a := a1) (ci := 3) (k := 5) (v := .int v11) (C := RX8) (T := TX8) (N := 13) hx hb hts hown hE hk hH in_X8 rfl (by decide) (hts _ q1162) (fun _ h9 => h9) ea1 (rdI_o e11) dX8_init_2_36 ?_
  obtain ⟨S12, e12, hf⟩ := bdo hf
  refine g_iast (pc := 39) (o := (some S.2)) (a := S.2) hx hb hE hk hH hS rfl e12 dX8_init_2_39 (fun H locs hH hS => ?_)
  obtain ⟨_, S13, c13, n13, c2_13, n2_13, e13, hf, hC13, hN13⟩ := gbo hf
  refine g_callI (pc := 40) (o := (some l0)) (b := l0) (As := [.int v2, va_rf v3, .ref S.2]) (rest := []) hc (mX8_init hk hJ (l0 := l0) (l1 := v2) (l2 := v3) (l3 := (some S.2)) e13) (cwI 3 hts (lw_meth q1139) rfl rfl rfl (hts _ q131) (hts _ q2615) (hts _ q1138) rfl hdiX8_init ⟨Nat.le_of_ble_eq_true rfl, Nat.le_of_ble_eq_true rfl⟩) rfl rfl hl.1 rfl (lv_room (Nat.le_of_ble_eq_true rfl)) dX8_init_2_40 hH hS (by omega) (by omega) (fun H locs hH hS => ?_)
  have hkc : kc + 1 + c13 + c2_13 ≤ mc := by omega
  have hks : ks + (nI 4).toNatClampNeg + n13 + n2_13 ≤ ms := by omega
  refine lv_aload_n (pc := 43) hx hb dX8_init_2_43 rfl (lv_at hl 0 rfl) ?_
  refine g_aload_n (pc := 44) (o := l1) hx hb dX8_init_2_44 rfl (lv_at hl 1 rfl) ?_
  obtain ⟨v14, e14, hf⟩ := bdo hf
  refine g_get (pc := 45) (o := l1) (a := a1) (ci := 3) (k := 6) (v := .int v14) (C := RX8) (T := TX8) (N := 13) hx hb hts hown hE hk hH in_X8 rfl (by decide) (hts _ q1164) (fun _ h9 => h9) ea1 (rdI_o e14) dX8_init_2_45 ?_
  obtain ⟨S15, e15, hf⟩ := bdo hf
  refine g_put (pc := 48) (o := (some l0)) (a := l0) (ci := 3) (k := 6) (v := .int v14) (C := RX8) (T := TX8) (N := 13) (ty := .boolean) hx hb hts hown hE hk hH hS rfl in_X8 tyX8_ok nmX8 rfl (by decide) (hts _ q1164) (fun _ h9 => h9) rfl rfl (nar_z (wrz_o e15).1) (fit_z (wrz_o e15).1) rfl (wrz_o e15).2 dX8_init_2_48 (fun H locs hH hS => ?_)
  refine g_aload_n (pc := 51) (o := l1) hx hb dX8_init_2_51 rfl (lv_at hl 1 rfl) ?_
  obtain ⟨v16, e16, hf⟩ := bdo hf
  refine g_get (pc := 52) (o := l1) (a := a1) (ci := 3) (k := 7) (v := va_rf v16) (C := RX8) (T := TX8) (N := 13) hx hb hts hown hE hk hH in_X8 rfl (by decide) (hts _ q1167) (fun _ h9 => h9) ea1 (rdR_o e16) dX8_init_2_52 ?_
  obtain ⟨a18, ea18, hf⟩ := bdo hf
  obtain ⟨v17, S17, c17, n17, c2_17, n2_17, e17, hf, hC17, hN17⟩ := gbo hf
  refine g_callV (pc := 55) (o := v16) (b := a18) (As := []) (rest := []) (st1 := [va_rf v17]) hc (j_nAL_iter hJ a18  S15 v17 S17 c17 n17 e17) (cwV 0 hts (lw_V q1962 q1293 q1294 q101 q1295) rfl rfl rfl hdJ2_iterator ⟨Nat.le_of_ble_eq_true rfl, Nat.le_of_ble_eq_true rfl⟩) (j_recv hJ _ _ _ _ 0 _ _ hE hH hS (adtR (t := 0) (show bd _ _ = some _ from e17)).choose_spec) ea18 rfl hl.1 rfl rfl (lv_room (Nat.le_of_ble_eq_true rfl)) dX8_init_2_55 hH hS (by omega) (by omega) (fun H locs hH hS => ?_)
  have hkc : kc + 1 + c13 + c17 + c2_17 ≤ mc := by omega
  have hks : ks + (nI 4).toNatClampNeg + n13 + n17 + n2_17 ≤ ms := by omega
  refine g_astore_n (pc := 58) (i := 2) (o := v17) (lv' := [(2, va_rf v17), (0, .ref l0), (1, va_rf l1)]) hx hb dX8_init_2_58 rfl hl (by decide) (by simp [va_rf_cat, cat_i, cat_j, cat_r] <;> rfl) (fun ls hl => ?_)
  exact wX8_init_2_b59 hk hJ hc FU l0 l1 v17 S17 _ _ ls _ _ _ _ hkc hks hH hS (lv_sub hl [1, 2, 0] rfl) hf
theorem mX8_init_2 {l : Launch} {G : gG} {Rp : gM → gM → Nat → Prop} (hk : rOK Rp) (hJ : JDK l G Rp) {S S2 : gS} {r2 : Unit} {C N : Nat} {l0 : Nat} {l1 : Option Nat} (hf : fX8_init_2 l0 l1 S = some (r2, S2, C, N)) : gMet l yX8_init_2 cX8_init_2 4 (none) 16 563 G Rp [.ref l0, va_rf l1] S none S2 C N := by
  refine g_start (by decide) (by simp [lg_sl, va_rf_cat, cat_i, cat_j, cat_r]) (fun p e s m args below meth c ls hc hl hH => ?_)
  have hl : lv_has ls 4 [(0, .ref l0), (1, va_rf l1)] := by simpa [lv_args, va_rf_cat, cat_i, cat_j, cat_r] using hl
  exact wX8_init_2_b0 hk hJ hc l0 l1 S _ _ ls 0 0 C N (by omega) (by omega) hH va_S.rf (lv_sub hl [0, 1] rfl) hf
end
end

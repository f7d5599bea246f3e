/-! printed by gen/mgen.py: the methods of CreditBrokerModel, lifted and walked (1) -/
set_option maxRecDepth 100000
set_option maxHeartbeats 4000000
theorem kcbm86 : (Int8.ofInt (-86)).toInt32 = -86 := by decide +kernel
theorem kcbm85 : (Int8.ofInt (-85)).toInt32 = -85 := by decide +kernel
theorem kcbm84 : (Int8.ofInt (-84)).toInt32 = -84 := by decide +kernel
theorem kcbm83 : (Int8.ofInt (-83)).toInt32 = -83 := by decide +kernel
theorem kcbm82 : (Int8.ofInt (-82)).toInt32 = -82 := by decide +kernel
theorem kcbm3 : (Int8.ofInt (-3)).toInt32 = -3 := by decide +kernel
theorem kcbm2 : (Int8.ofInt (-2)).toInt32 = -2 := by decide +kernel
theorem kcb6 : (Int8.ofInt 6).toInt32 = nI 6 := by decide +kernel
theorem kcb7 : (Int8.ofInt 7).toInt32 = nI 7 := by decide +kernel
theorem kcb8 : (Int8.ofInt 8).toInt32 = nI 8 := by decide +kernel
theorem kcb9 : (Int8.ofInt 9).toInt32 = nI 9 := by decide +kernel
theorem kcb10 : (Int8.ofInt 10).toInt32 = nI 10 := by decide +kernel
theorem kcb11 : (Int8.ofInt 11).toInt32 = nI 11 := by decide +kernel
theorem kcb12 : (Int8.ofInt 12).toInt32 = nI 12 := by decide +kernel
theorem kcb16 : (Int8.ofInt 16).toInt32 = nI 16 := by decide +kernel
theorem kcb24 : (Int8.ofInt 24).toInt32 = nI 24 := by decide +kernel
theorem kcb26 : (Int8.ofInt 26).toInt32 = nI 26 := by decide +kernel
theorem kcb27 : (Int8.ofInt 27).toInt32 = nI 27 := by decide +kernel
theorem kcb28 : (Int8.ofInt 28).toInt32 = nI 28 := by decide +kernel
theorem kcb29 : (Int8.ofInt 29).toInt32 = nI 29 := by decide +kernel
theorem kcb30 : (Int8.ofInt 30).toInt32 = nI 30 := by decide +kernel
theorem kcb31 : (Int8.ofInt 31).toInt32 = nI 31 := by decide +kernel
theorem kcb32 : (Int8.ofInt 32).toInt32 = nI 32 := by decide +kernel
theorem kcb33 : (Int8.ofInt 33).toInt32 = nI 33 := by decide +kernel
theorem kcb34 : (Int8.ofInt 34).toInt32 = nI 34 := by decide +kernel
theorem kcb35 : (Int8.ofInt 35).toInt32 = nI 35 := by decide +kernel
theorem kcb36 : (Int8.ofInt 36).toInt32 = nI 36 := by decide +kernel
theorem kcb40 : (Int8.ofInt 40).toInt32 = nI 40 := by decide +kernel
theorem kcb42 : (Int8.ofInt 42).toInt32 = nI 42 := by decide +kernel
theorem kcb46 : (Int8.ofInt 46).toInt32 = nI 46 := by decide +kernel
theorem kcb51 : (Int8.ofInt 51).toInt32 = nI 51 := by decide +kernel
theorem kcb82 : (Int8.ofInt 82).toInt32 = nI 82 := by decide +kernel
theorem kcb97 : (Int8.ofInt 97).toInt32 = nI 97 := by decide +kernel
theorem kcb99 : (Int8.ofInt 99).toInt32 = nI 99 := by decide +kernel
theorem kcb100 : (Int8.ofInt 100).toInt32 = nI 100 := by decide +kernel
theorem kcsm300 : (Int16.ofInt (-300)).toInt32 = -300 := by decide +kernel
theorem kcs250 : (Int16.ofInt 250).toInt32 = nI 250 := by decide +kernel
theorem kcs300 : (Int16.ofInt 300).toInt32 = nI 300 := by decide +kernel
theorem kcs556 : (Int16.ofInt 556).toInt32 = nI 556 := by decide +kernel
theorem kcs2751 : (Int16.ofInt 2751).toInt32 = nI 2751 := by decide +kernel
theorem kcs3447 : (Int16.ofInt 3447).toInt32 = nI 3447 := by decide +kernel
theorem kcs3471 : (Int16.ofInt 3471).toInt32 = nI 3471 := by decide +kernel
theorem kcs7919 : (Int16.ofInt 7919).toInt32 = nI 7919 := by decide +kernel
theorem kcs12345 : (Int16.ofInt 12345).toInt32 = nI 12345 := by decide +kernel
theorem tsw3 {x : Int32} (h0 : ¬ x = 0) (h1 : ¬ x = 1) (h2 : ¬ x = 2) (h3 : ¬ x = 3) : x.toInt < 0 ∨ 3 < x.toInt := by
  have g0 : ¬ x.toInt = 0 := fun e => h0 (Int32.toInt_inj.mp (e.trans (by decide)))
  have g1 : ¬ x.toInt = 1 := fun e => h1 (Int32.toInt_inj.mp (e.trans (by decide)))
  have g2 : ¬ x.toInt = 2 := fun e => h2 (Int32.toInt_inj.mp (e.trans (by decide)))
  have g3 : ¬ x.toInt = 3 := fun e => h3 (Int32.toInt_inj.mp (e.trans (by decide)))
  omega
theorem tsw7 {x : Int32} (h0 : ¬ x = 0) (h1 : ¬ x = 1) (h2 : ¬ x = 2) (h3 : ¬ x = 3) (h4 : ¬ x = 4) (h5 : ¬ x = 5) (h6 : ¬ x = 6) (h7 : ¬ x = 7) : x.toInt < 0 ∨ 7 < x.toInt := by
  have g0 : ¬ x.toInt = 0 := fun e => h0 (Int32.toInt_inj.mp (e.trans (by decide)))
  have g1 : ¬ x.toInt = 1 := fun e => h1 (Int32.toInt_inj.mp (e.trans (by decide)))
  have g2 : ¬ x.toInt = 2 := fun e => h2 (Int32.toInt_inj.mp (e.trans (by decide)))
  have g3 : ¬ x.toInt = 3 := fun e => h3 (Int32.toInt_inj.mp (e.trans (by decide)))
  have g4 : ¬ x.toInt = 4 := fun e => h4 (Int32.toInt_inj.mp (e.trans (by decide)))
  have g5 : ¬ x.toInt = 5 := fun e => h5 (Int32.toInt_inj.mp (e.trans (by decide)))
  have g6 : ¬ x.toInt = 6 := fun e => h6 (Int32.toInt_inj.mp (e.trans (by decide)))
  have g7 : ¬ x.toInt = 7 := fun e => h7 (Int32.toInt_inj.mp (e.trans (by decide)))
  omega
theorem tsw10 {x : Int32} (h0 : ¬ x = 0) (h1 : ¬ x = 1) (h2 : ¬ x = 2) (h3 : ¬ x = 3) (h4 : ¬ x = 4) (h5 : ¬ x = 5) (h6 : ¬ x = 6) (h7 : ¬ x = 7) (h8 : ¬ x = 8) (h9 : ¬ x = 9) (h10 : ¬ x = 10) : x.toInt < 0 ∨ 10 < x.toInt := by
  have g0 : ¬ x.toInt = 0 := fun e => h0 (Int32.toInt_inj.mp (e.trans (by decide)))
  have g1 : ¬ x.toInt = 1 := fun e => h1 (Int32.toInt_inj.mp (e.trans (by decide)))
  have g2 : ¬ x.toInt = 2 := fun e => h2 (Int32.toInt_inj.mp (e.trans (by decide)))
  have g3 : ¬ x.toInt = 3 := fun e => h3 (Int32.toInt_inj.mp (e.trans (by decide)))
  have g4 : ¬ x.toInt = 4 := fun e => h4 (Int32.toInt_inj.mp (e.trans (by decide)))
  have g5 : ¬ x.toInt = 5 := fun e => h5 (Int32.toInt_inj.mp (e.trans (by decide)))
  have g6 : ¬ x.toInt = 6 := fun e => h6 (Int32.toInt_inj.mp (e.trans (by decide)))
  have g7 : ¬ x.toInt = 7 := fun e => h7 (Int32.toInt_inj.mp (e.trans (by decide)))
  have g8 : ¬ x.toInt = 8 := fun e => h8 (Int32.toInt_inj.mp (e.trans (by decide)))
  have g9 : ¬ x.toInt = 9 := fun e => h9 (Int32.toInt_inj.mp (e.trans (by decide)))
  have g10 : ¬ x.toInt = 10 := fun e => h10 (Int32.toInt_inj.mp (e.trans (by decide)))
  omega
theorem hdX3_acks : yX3_acks.cls = RX3 ∧ yX3_acks.cls ≠ "java/lang/invoke/MethodHandle" ∧ yX3_acks.cls ≠ "java/lang/invoke/VarHandle" ∧ (parseMethodDescriptor yX3_acks.desc).map (fun d => d.parameters.length) = some 2 := by decide +kernel
theorem hdX3_ages : yX3_ages.cls = RX3 ∧ yX3_ages.cls ≠ "java/lang/invoke/MethodHandle" ∧ yX3_ages.cls ≠ "java/lang/invoke/VarHandle" ∧ (parseMethodDescriptor yX3_ages.desc).map (fun d => d.parameters.length) = some 2 := by decide +kernel
theorem hdX3_ahead : yX3_ahead.cls = RX3 ∧ yX3_ahead.cls ≠ "java/lang/invoke/MethodHandle" ∧ yX3_ahead.cls ≠ "java/lang/invoke/VarHandle" ∧ (parseMethodDescriptor yX3_ahead.desc).map (fun d => d.parameters.length) = some 4 := by decide +kernel
theorem hdX3_byteAt : yX3_byteAt.cls = RX3 ∧ yX3_byteAt.cls ≠ "java/lang/invoke/MethodHandle" ∧ yX3_byteAt.cls ≠ "java/lang/invoke/VarHandle" ∧ (parseMethodDescriptor yX3_byteAt.desc).map (fun d => d.parameters.length) = some 1 := by decide +kernel
theorem hdX3_comes : yX3_comes.cls = RX3 ∧ yX3_comes.cls ≠ "java/lang/invoke/MethodHandle" ∧ yX3_comes.cls ≠ "java/lang/invoke/VarHandle" ∧ (parseMethodDescriptor yX3_comes.desc).map (fun d => d.parameters.length) = some 2 := by decide +kernel
theorem hdX3_consumersOf : yX3_consumersOf.cls = RX3 ∧ yX3_consumersOf.cls ≠ "java/lang/invoke/MethodHandle" ∧ yX3_consumersOf.cls ≠ "java/lang/invoke/VarHandle" ∧ (parseMethodDescriptor yX3_consumersOf.desc).map (fun d => d.parameters.length) = some 2 := by decide +kernel
theorem hdX3_copies : yX3_copies.cls ≠ "java/lang/invoke/MethodHandle" ∧ yX3_copies.cls ≠ "java/lang/invoke/VarHandle" ∧ (parseMethodDescriptor yX3_copies.desc).map (fun d => d.parameters.length) = some 2 := by decide +kernel
theorem hdX3_credits : yX3_credits.cls = RX3 ∧ yX3_credits.cls ≠ "java/lang/invoke/MethodHandle" ∧ yX3_credits.cls ≠ "java/lang/invoke/VarHandle" ∧ (parseMethodDescriptor yX3_credits.desc).map (fun d => d.parameters.length) = some 1 := by decide +kernel
theorem hdX3_dies : yX3_dies.cls = RX3 ∧ yX3_dies.cls ≠ "java/lang/invoke/MethodHandle" ∧ yX3_dies.cls ≠ "java/lang/invoke/VarHandle" ∧ (parseMethodDescriptor yX3_dies.desc).map (fun d => d.parameters.length) = some 4 := by decide +kernel
theorem hdX3_drains : yX3_drains.cls = RX3 ∧ yX3_drains.cls ≠ "java/lang/invoke/MethodHandle" ∧ yX3_drains.cls ≠ "java/lang/invoke/VarHandle" ∧ (parseMethodDescriptor yX3_drains.desc).map (fun d => d.parameters.length) = some 1 := by decide +kernel
theorem hdX3_draw : yX3_draw.cls = RX3 ∧ yX3_draw.cls ≠ "java/lang/invoke/MethodHandle" ∧ yX3_draw.cls ≠ "java/lang/invoke/VarHandle" ∧ (parseMethodDescriptor yX3_draw.desc).map (fun d => d.parameters.length) = some 1 := by decide +kernel
theorem hdX3_fails : yX3_fails.cls = RX3 ∧ yX3_fails.cls ≠ "java/lang/invoke/MethodHandle" ∧ yX3_fails.cls ≠ "java/lang/invoke/VarHandle" ∧ (parseMethodDescriptor yX3_fails.desc).map (fun d => d.parameters.length) = some 4 := by decide +kernel
theorem hdX3_faulty : yX3_faulty.cls = RX3 ∧ yX3_faulty.cls ≠ "java/lang/invoke/MethodHandle" ∧ yX3_faulty.cls ≠ "java/lang/invoke/VarHandle" ∧ (parseMethodDescriptor yX3_faulty.desc).map (fun d => d.parameters.length) = some 0 := by decide +kernel
theorem hdX3_gives : yX3_gives.cls = RX3 ∧ yX3_gives.cls ≠ "java/lang/invoke/MethodHandle" ∧ yX3_gives.cls ≠ "java/lang/invoke/VarHandle" ∧ (parseMethodDescriptor yX3_gives.desc).map (fun d => d.parameters.length) = some 1 := by decide +kernel
theorem hdX3_goes : yX3_goes.cls = RX3 ∧ yX3_goes.cls ≠ "java/lang/invoke/MethodHandle" ∧ yX3_goes.cls ≠ "java/lang/invoke/VarHandle" ∧ (parseMethodDescriptor yX3_goes.desc).map (fun d => d.parameters.length) = some 2 := by decide +kernel
theorem hdX3_heldShelves : yX3_heldShelves.cls = RX3 ∧ yX3_heldShelves.cls ≠ "java/lang/invoke/MethodHandle" ∧ yX3_heldShelves.cls ≠ "java/lang/invoke/VarHandle" ∧ (parseMethodDescriptor yX3_heldShelves.desc).map (fun d => d.parameters.length) = some 0 := by decide +kernel
theorem hdX3_in : yX3_in.cls ≠ "java/lang/invoke/MethodHandle" ∧ yX3_in.cls ≠ "java/lang/invoke/VarHandle" ∧ (parseMethodDescriptor yX3_in.desc).map (fun d => d.parameters.length) = some 3 := by decide +kernel
theorem hdX3_is : yX3_is.cls = RX3 ∧ yX3_is.cls ≠ "java/lang/invoke/MethodHandle" ∧ yX3_is.cls ≠ "java/lang/invoke/VarHandle" ∧ (parseMethodDescriptor yX3_is.desc).map (fun d => d.parameters.length) = some 3 := by decide +kernel
theorem hdX3_isCause : yX3_isCause.cls = RX3 ∧ yX3_isCause.cls ≠ "java/lang/invoke/MethodHandle" ∧ yX3_isCause.cls ≠ "java/lang/invoke/VarHandle" ∧ (parseMethodDescriptor yX3_isCause.desc).map (fun d => d.parameters.length) = some 2 := by decide +kernel
theorem hdX3_isConsumer : yX3_isConsumer.cls = RX3 ∧ yX3_isConsumer.cls ≠ "java/lang/invoke/MethodHandle" ∧ yX3_isConsumer.cls ≠ "java/lang/invoke/VarHandle" ∧ (parseMethodDescriptor yX3_isConsumer.desc).map (fun d => d.parameters.length) = some 1 := by decide +kernel
theorem hdX3_isDay : yX3_isDay.cls = RX3 ∧ yX3_isDay.cls ≠ "java/lang/invoke/MethodHandle" ∧ yX3_isDay.cls ≠ "java/lang/invoke/VarHandle" ∧ (parseMethodDescriptor yX3_isDay.desc).map (fun d => d.parameters.length) = some 1 := by decide +kernel
theorem hdX3_isFit : yX3_isFit.cls = RX3 ∧ yX3_isFit.cls ≠ "java/lang/invoke/MethodHandle" ∧ yX3_isFit.cls ≠ "java/lang/invoke/VarHandle" ∧ (parseMethodDescriptor yX3_isFit.desc).map (fun d => d.parameters.length) = some 1 := by decide +kernel
theorem hdX3_isHere : yX3_isHere.cls = RX3 ∧ yX3_isHere.cls ≠ "java/lang/invoke/MethodHandle" ∧ yX3_isHere.cls ≠ "java/lang/invoke/VarHandle" ∧ (parseMethodDescriptor yX3_isHere.desc).map (fun d => d.parameters.length) = some 1 := by decide +kernel
theorem hdX3_isLong : yX3_isLong.cls = RX3 ∧ yX3_isLong.cls ≠ "java/lang/invoke/MethodHandle" ∧ yX3_isLong.cls ≠ "java/lang/invoke/VarHandle" ∧ (parseMethodDescriptor yX3_isLong.desc).map (fun d => d.parameters.length) = some 2 := by decide +kernel
theorem hdX3_isQueue : yX3_isQueue.cls = RX3 ∧ yX3_isQueue.cls ≠ "java/lang/invoke/MethodHandle" ∧ yX3_isQueue.cls ≠ "java/lang/invoke/VarHandle" ∧ (parseMethodDescriptor yX3_isQueue.desc).map (fun d => d.parameters.length) = some 1 := by decide +kernel
theorem hdX3_isRead : yX3_isRead.cls = RX3 ∧ yX3_isRead.cls ≠ "java/lang/invoke/MethodHandle" ∧ yX3_isRead.cls ≠ "java/lang/invoke/VarHandle" ∧ (parseMethodDescriptor yX3_isRead.desc).map (fun d => d.parameters.length) = some 1 := by decide +kernel
theorem hdX3_isShelf : yX3_isShelf.cls ≠ "java/lang/invoke/MethodHandle" ∧ yX3_isShelf.cls ≠ "java/lang/invoke/VarHandle" ∧ (parseMethodDescriptor yX3_isShelf.desc).map (fun d => d.parameters.length) = some 1 := by decide +kernel
theorem hdX3_isUnder : yX3_isUnder.cls ≠ "java/lang/invoke/MethodHandle" ∧ yX3_isUnder.cls ≠ "java/lang/invoke/VarHandle" ∧ (parseMethodDescriptor yX3_isUnder.desc).map (fun d => d.parameters.length) = some 2 := by decide +kernel
theorem hdX3_keyOf : yX3_keyOf.cls = RX3 ∧ yX3_keyOf.cls ≠ "java/lang/invoke/MethodHandle" ∧ yX3_keyOf.cls ≠ "java/lang/invoke/VarHandle" ∧ (parseMethodDescriptor yX3_keyOf.desc).map (fun d => d.parameters.length) = some 2 := by decide +kernel
theorem hdX3_letterIs : yX3_letterIs.cls = RX3 ∧ yX3_letterIs.cls ≠ "java/lang/invoke/MethodHandle" ∧ yX3_letterIs.cls ≠ "java/lang/invoke/VarHandle" ∧ (parseMethodDescriptor yX3_letterIs.desc).map (fun d => d.parameters.length) = some 4 := by decide +kernel
theorem hdX3_letterOf : yX3_letterOf.cls = RX3 ∧ yX3_letterOf.cls ≠ "java/lang/invoke/MethodHandle" ∧ yX3_letterOf.cls ≠ "java/lang/invoke/VarHandle" ∧ (parseMethodDescriptor yX3_letterOf.desc).map (fun d => d.parameters.length) = some 3 := by decide +kernel
theorem hdX3_lettersOf : yX3_lettersOf.cls = RX3 ∧ yX3_lettersOf.cls ≠ "java/lang/invoke/MethodHandle" ∧ yX3_lettersOf.cls ≠ "java/lang/invoke/VarHandle" ∧ (parseMethodDescriptor yX3_lettersOf.desc).map (fun d => d.parameters.length) = some 2 := by decide +kernel
theorem hdX3_losesDead : yX3_losesDead.cls = RX3 ∧ yX3_losesDead.cls ≠ "java/lang/invoke/MethodHandle" ∧ yX3_losesDead.cls ≠ "java/lang/invoke/VarHandle" ∧ (parseMethodDescriptor yX3_losesDead.desc).map (fun d => d.parameters.length) = some 1 := by decide +kernel
theorem hdX3_lowest : yX3_lowest.cls ≠ "java/lang/invoke/MethodHandle" ∧ yX3_lowest.cls ≠ "java/lang/invoke/VarHandle" ∧ (parseMethodDescriptor yX3_lowest.desc).map (fun d => d.parameters.length) = some 2 := by decide +kernel
theorem hdX3_may : yX3_may.cls = RX3 ∧ yX3_may.cls ≠ "java/lang/invoke/MethodHandle" ∧ yX3_may.cls ≠ "java/lang/invoke/VarHandle" ∧ (parseMethodDescriptor yX3_may.desc).map (fun d => d.parameters.length) = some 2 := by decide +kernel
theorem hdX3_mayMany : yX3_mayMany.cls = RX3 ∧ yX3_mayMany.cls ≠ "java/lang/invoke/MethodHandle" ∧ yX3_mayMany.cls ≠ "java/lang/invoke/VarHandle" ∧ (parseMethodDescriptor yX3_mayMany.desc).map (fun d => d.parameters.length) = some 1 := by decide +kernel
theorem hdX3_message : yX3_message.cls = RX3 ∧ yX3_message.cls ≠ "java/lang/invoke/MethodHandle" ∧ yX3_message.cls ≠ "java/lang/invoke/VarHandle" ∧ (parseMethodDescriptor yX3_message.desc).map (fun d => d.parameters.length) = some 2 := by decide +kernel
theorem hdX3_newDead : yX3_newDead.cls = RX3 ∧ yX3_newDead.cls ≠ "java/lang/invoke/MethodHandle" ∧ yX3_newDead.cls ≠ "java/lang/invoke/VarHandle" ∧ (parseMethodDescriptor yX3_newDead.desc).map (fun d => d.parameters.length) = some 2 := by decide +kernel
theorem hdX3_nextOf : yX3_nextOf.cls = RX3 ∧ yX3_nextOf.cls ≠ "java/lang/invoke/MethodHandle" ∧ yX3_nextOf.cls ≠ "java/lang/invoke/VarHandle" ∧ (parseMethodDescriptor yX3_nextOf.desc).map (fun d => d.parameters.length) = some 1 := by decide +kernel
theorem hdX3_of : yX3_of.cls = RX3 ∧ yX3_of.cls ≠ "java/lang/invoke/MethodHandle" ∧ yX3_of.cls ≠ "java/lang/invoke/VarHandle" ∧ (parseMethodDescriptor yX3_of.desc).map (fun d => d.parameters.length) = some 2 := by decide +kernel
theorem hdX3_ofConsumer : yX3_ofConsumer.cls = RX3 ∧ yX3_ofConsumer.cls ≠ "java/lang/invoke/MethodHandle" ∧ yX3_ofConsumer.cls ≠ "java/lang/invoke/VarHandle" ∧ (parseMethodDescriptor yX3_ofConsumer.desc).map (fun d => d.parameters.length) = some 2 := by decide +kernel
theorem hdX3_outAt : yX3_outAt.cls = RX3 ∧ yX3_outAt.cls ≠ "java/lang/invoke/MethodHandle" ∧ yX3_outAt.cls ≠ "java/lang/invoke/VarHandle" ∧ (parseMethodDescriptor yX3_outAt.desc).map (fun d => d.parameters.length) = some 2 := by decide +kernel
theorem hdX3_outOf : yX3_outOf.cls = RX3 ∧ yX3_outOf.cls ≠ "java/lang/invoke/MethodHandle" ∧ yX3_outOf.cls ≠ "java/lang/invoke/VarHandle" ∧ (parseMethodDescriptor yX3_outOf.desc).map (fun d => d.parameters.length) = some 1 := by decide +kernel
theorem hdX3_partOf : yX3_partOf.cls = RX3 ∧ yX3_partOf.cls ≠ "java/lang/invoke/MethodHandle" ∧ yX3_partOf.cls ≠ "java/lang/invoke/VarHandle" ∧ (parseMethodDescriptor yX3_partOf.desc).map (fun d => d.parameters.length) = some 2 := by decide +kernel
theorem hdX3_passes : yX3_passes.cls = RX3 ∧ yX3_passes.cls ≠ "java/lang/invoke/MethodHandle" ∧ yX3_passes.cls ≠ "java/lang/invoke/VarHandle" ∧ (parseMethodDescriptor yX3_passes.desc).map (fun d => d.parameters.length) = some 1 := by decide +kernel
theorem hdX3_publishes : yX3_publishes.cls = RX3 ∧ yX3_publishes.cls ≠ "java/lang/invoke/MethodHandle" ∧ yX3_publishes.cls ≠ "java/lang/invoke/VarHandle" ∧ (parseMethodDescriptor yX3_publishes.desc).map (fun d => d.parameters.length) = some 3 := by decide +kernel
theorem hdX3_refused : yX3_refused.cls = RX3 ∧ yX3_refused.cls ≠ "java/lang/invoke/MethodHandle" ∧ yX3_refused.cls ≠ "java/lang/invoke/VarHandle" ∧ (parseMethodDescriptor yX3_refused.desc).map (fun d => d.parameters.length) = some 1 := by decide +kernel
theorem hdX3_refuses : yX3_refuses.cls = RX3 ∧ yX3_refuses.cls ≠ "java/lang/invoke/MethodHandle" ∧ yX3_refuses.cls ≠ "java/lang/invoke/VarHandle" ∧ (parseMethodDescriptor yX3_refuses.desc).map (fun d => d.parameters.length) = some 2 := by decide +kernel
theorem hdX3_sum : yX3_sum.cls = RX3 ∧ yX3_sum.cls ≠ "java/lang/invoke/MethodHandle" ∧ yX3_sum.cls ≠ "java/lang/invoke/VarHandle" ∧ (parseMethodDescriptor yX3_sum.desc).map (fun d => d.parameters.length) = some 1 := by decide +kernel
theorem hdX3_who : yX3_who.cls = RX3 ∧ yX3_who.cls ≠ "java/lang/invoke/MethodHandle" ∧ yX3_who.cls ≠ "java/lang/invoke/VarHandle" ∧ (parseMethodDescriptor yX3_who.desc).map (fun d => d.parameters.length) = some 1 := by decide +kernel
section
variable {p : Program} {l : Launch} {e : Env} {s : State} {m : MethodId} {args : Array Value} {below : List Frame} {meth : Method} {c : Code} {D : va_G} {am : Nat → Nat} {cI cJ : ClassId}
section
variable {r : Int32} {Sf : mS}
def fX3_in (l0 : Int64) (l2 : Int64) (l4 : Int64) (S : mS) : Option (Int32 × mS) :=
  if (lg_cmp l0 l2) < 0 then
    zr (nI 0) S
  else
    if 0 < (lg_cmp l0 l4) then
      zr (nI 0) S
    else
      zr (nI 1) S
theorem wX3_in_b0 (hc : mC p s m args meth c D cI cJ cX3_in 6 (some .boolean)) (l0 : Int64) (l2 : Int64) (l4 : Int64) (S : mS) (H : Heap) (locs : List Loc) (ls : Array Slot) (hP : va_P D mCl (mws am cI cJ S) H) (hD : va_D (mA am) (mws am cI cJ S)) (hS : va_S (mA am) s.heap H locs) (hl : lv_has ls 6 [(0, .long l0), (2, .long l2), (4, .long l4)]) (hf : fX3_in l0 l2 l4 S = some (r, Sf)) : W p l e (mR 0 0) s m args below meth c H locs 0 0 (mQ below D am cI cJ (some (.int r)) Sf args s) (F0 m 0 ls []) := by
  obtain ⟨hx, hb, hr, hlk, hml, hown, hts, hK⟩ := hc
  have hc : mC p s m args meth c D cI cJ cX3_in 6 (some .boolean) := ⟨hx, hb, hr, hlk, hml, hown, hts, hK⟩
  unfold fX3_in at hf
  refine lv_lload_n (pc := 0) hx hb dX3_in_0 rfl (lv_at hl 0 rfl) ?_
  refine lv_lload_n (pc := 1) hx hb dX3_in_1 rfl (lv_at hl 1 rfl) ?_
  refine W.lcmp (pc := 2) hx hb dX3_in_2 ?_
  refine lv_if_lt (pc := 3) (tgt := 17) hx hb dX3_in_3 (by decide) (fun c1 => ?_) (fun c1 => ?_)
  · rw [if_pos c1] at hf
    refine lv_iconst (pc := 17) (v := nI 0) hx hb dX3_in_17 rfl ?_
    exact m_zret (pc := 18) hx hb hr hlk hP hD hS hf dX3_in_18
  · rw [if_neg c1] at hf
    refine lv_lload_n (pc := 6) hx hb dX3_in_6 rfl (lv_at hl 0 rfl) ?_
    refine lv_lload (pc := 7) hx hb dX3_in_7 (lv_at hl 2 rfl) ?_
    refine W.lcmp (pc := 9) hx hb dX3_in_9 ?_
    refine lv_if_gt (pc := 10) (tgt := 17) hx hb dX3_in_10 (by decide) (fun c2 => ?_) (fun c2 => ?_)
    · rw [if_pos c2] at hf
      refine lv_iconst (pc := 17) (v := nI 0) hx hb dX3_in_17 rfl ?_
      exact m_zret (pc := 18) hx hb hr hlk hP hD hS hf dX3_in_18
    · rw [if_neg c2] at hf
      refine lv_iconst (pc := 13) (v := nI 1) hx hb dX3_in_13 rfl ?_
      refine lv_goto (pc := 14) (tgt := 18) hx hb dX3_in_14 (by decide) ?_
      exact m_zret (pc := 18) hx hb hr hlk hP hD hS hf dX3_in_18
theorem mX3_in {S S2 : mS} {r2 : Int32} {l0 : Int64} {l2 : Int64} {l4 : Int64} (hf : fX3_in l0 l2 l4 S = some (r2, S2)) : mMet l yX3_in cX3_in 6 (some .boolean) 0 0 D am cI cJ [.long l0, .long l2, .long l4] S (some (.int r2)) S2 := by
  exact m_start (by decide) rfl (Nat.le_of_ble_eq_true rfl) (fun p e s m args below meth c ls hc hl hP hD => wX3_in_b0 hc l0 l2 l4 S _ _ ls hP hD va_S.rf (lv_sub hl [0, 1, 2] rfl) hf)
end
section
variable {r : Int32} {Sf : mS}
def fX3_isShelf (l0 : Int32) (S : mS) : Option (Int32 × mS) :=
  bd2 (fX3_in l0.toInt64 (lN 0) (lN 7) S) fun v1 S1 =>
  zr v1 S1
theorem wX3_isShelf_b0 (hc : mC p s m args meth c D cI cJ cX3_isShelf 1 (some .boolean)) (l0 : Int32) (S : mS) (H : Heap) (locs : List Loc) (ls : Array Slot) (hP : va_P D mCl (mws am cI cJ S) H) (hD : va_D (mA am) (mws am cI cJ S)) (hS : va_S (mA am) s.heap H locs) (hl : lv_has ls 1 [(0, .int l0)]) (hf : fX3_isShelf l0 S = some (r, Sf)) : W p l e (mR 1 25) s m args below meth c H locs 0 0 (mQ below D am cI cJ (some (.int r)) Sf args s) (F0 m 0 ls []) := by
  obtain ⟨hx, hb, hr, hlk, hml, hown, hts, hK⟩ := hc
  have hc : mC p s m args meth c D cI cJ cX3_isShelf 1 (some .boolean) := ⟨hx, hb, hr, hlk, hml, hown, hts, hK⟩
  unfold fX3_isShelf at hf
  refine lv_iload_n (pc := 0) hx hb dX3_isShelf_0 rfl (lv_at hl 0 rfl) ?_
  refine lv_i2l (pc := 1) hx hb dX3_isShelf_1 rfl ?_
  refine lv_lconst (pc := 2) (v := lN 0) hx hb dX3_isShelf_2 rfl ?_
  refine lv_ldc2 (pc := 3) (v := lN 7) hx hb hown (hts _ q2973) dX3_isShelf_3 ?_
  obtain ⟨v1, S1, e1, hf⟩ := bd2o hf
  refine m_callS (pc := 6) (As := [.long l0.toInt64, .long (lN 0), .long (lN 7)]) (rest := []) (st1 := [.int v1]) hc (mX3_in e1) (va_cwS 3 hts (lw_S q2896 q2897 q105 q2898) rfl rfl rfl hdX3_in ⟨Nat.le_of_ble_eq_true rfl, Nat.le_of_ble_eq_true rfl⟩) rfl hl.1 rfl rfl (lv_room (Nat.le_of_ble_eq_true rfl)) dX3_isShelf_6 hP hD hS (fun H locs hP hD hS => ?_)
  exact m_zret (pc := 9) hx hb hr hlk hP hD hS hf dX3_isShelf_9
theorem mX3_isShelf {S S2 : mS} {r2 : Int32} {l0 : Int32} (hf : fX3_isShelf l0 S = some (r2, S2)) : mMet l yX3_isShelf cX3_isShelf 1 (some .boolean) 1 25 D am cI cJ [.int l0] S (some (.int r2)) S2 := by
  exact m_start (by decide) rfl (Nat.le_of_ble_eq_true rfl) (fun p e s m args below meth c ls hc hl hP hD => wX3_isShelf_b0 hc l0 S _ _ ls hP hD va_S.rf (lv_sub hl [0] rfl) hf)
end
section
variable {r : Int32} {Sf : mS}
def fX3_refused (l1 : Int32) (S : mS) : Option (Int32 × mS) :=
  bd (mrd S 3 5 ((-l1) - (nI 82))) fun v1 =>
  bd (mwr S 3 5 ((-l1) - (nI 82)) (v1 + (nI 1))) fun S2 =>
  some (l1, S2)
theorem wX3_refused_b0 (hc : mC p s m args meth c D cI cJ cX3_refused 2 (some .int)) (l1 : Int32) (S : mS) (H : Heap) (locs : List Loc) (ls : Array Slot) (hP : va_P D mCl (mws am cI cJ S) H) (hD : va_D (mA am) (mws am cI cJ S)) (hS : va_S (mA am) s.heap H locs) (hl : lv_has ls 2 [(0, .ref (am 0)), (1, .int l1)]) (hf : fX3_refused l1 S = some (r, Sf)) : W p l e (mR 0 0) s m args below meth c H locs 0 0 (mQ below D am cI cJ (some (.int r)) Sf args s) (F0 m 0 ls []) := by
  obtain ⟨hx, hb, hr, hlk, hml, hown, hts, hK⟩ := hc
  have hc : mC p s m args meth c D cI cJ cX3_refused 2 (some .int) := ⟨hx, hb, hr, hlk, hml, hown, hts, hK⟩
  unfold fX3_refused at hf
  refine lv_aload_n (pc := 0) hx hb dX3_refused_0 rfl (lv_at hl 0 rfl) ?_
  refine va_get (D := D) (ci := 0) (v := .ref (am 4)) (C := RX3) (T := TX3) (N := 17) (pc := 1) hx hb hts in_X3 hown hK hP 0 rfl rfl 4 (by decide) (hts _ q2843) (fun _ h9 => h9) rfl dX3_refused_1 ?_
  refine lv_iload_n (pc := 4) hx hb dX3_refused_4 rfl (lv_at hl 1 rfl) ?_
  refine lv_ineg (pc := 5) hx hb dX3_refused_5 ?_
  refine lv_bipush (pc := 6) (v := nI 82) hx hb dX3_refused_6 kcb82 ?_
  refine lv_isub (pc := 8) hx hb dX3_refused_8 ?_
  refine lv_dup2_11 (pc := 9) hx hb dX3_refused_9 rfl rfl ?_
  obtain ⟨v1, e1, hf⟩ := bdo hf
  refine m_iald (pc := 10) (k := 3) hx hb hK hP rfl e1 dX3_refused_10 ?_
  refine lv_iconst (pc := 11) (v := nI 1) hx hb dX3_refused_11 rfl ?_
  refine lv_iadd (pc := 12) hx hb dX3_refused_12 ?_
  obtain ⟨S2, e2, hf⟩ := bdo hf
  refine m_iast (pc := 13) (k := 3) hx hb hK hP hD hS rfl (fun _ _ => rfl) e2 dX3_refused_13 (fun H locs hP hD hS => ?_)
  refine lv_iload_n (pc := 14) hx hb dX3_refused_14 rfl (lv_at hl 1 rfl) ?_
  exact m_iret (pc := 15) hx hb hr hlk hP hD hS hf dX3_refused_15
theorem mX3_refused {S S2 : mS} {r2 : Int32} {l1 : Int32} (hf : fX3_refused l1 S = some (r2, S2)) : mMet l yX3_refused cX3_refused 2 (some .int) 0 0 D am cI cJ [.ref (am 0), .int l1] S (some (.int r2)) S2 := by
  exact m_start (by decide) rfl (Nat.le_of_ble_eq_true rfl) (fun p e s m args below meth c ls hc hl hP hD => wX3_refused_b0 hc l1 S _ _ ls hP hD va_S.rf (lv_sub hl [0, 1] rfl) hf)
end
section
variable {r : Int32} {Sf : mS}
def fX3_row_b31 (S : mS) : Option (Int32 × mS) :=
  bd2 (fX3_refused (-82) S) fun v1 S1 =>
  some (v1, S1)
theorem wX3_row_b31 (hc : mC p s m args meth c D cI cJ cX3_row 5 (some .int)) (S : mS) (H : Heap) (locs : List Loc) (ls : Array Slot) (hP : va_P D mCl (mws am cI cJ S) H) (hD : va_D (mA am) (mws am cI cJ S)) (hS : va_S (mA am) s.heap H locs) (hl : lv_has ls 5 [(0, .ref (am 0))]) (hf : fX3_row_b31  S = some (r, Sf)) : W p l e (mR 2 45) s m args below meth c H locs 0 0 (mQ below D am cI cJ (some (.int r)) Sf args s) (F0 m 31 ls []) := by
  obtain ⟨hx, hb, hr, hlk, hml, hown, hts, hK⟩ := hc
  have hc : mC p s m args meth c D cI cJ cX3_row 5 (some .int) := ⟨hx, hb, hr, hlk, hml, hown, hts, hK⟩
  unfold fX3_row_b31 at hf
  refine lv_aload_n (pc := 31) hx hb dX3_row_31 rfl (lv_at hl 0 rfl) ?_
  refine lv_bipush (pc := 32) (v := -82) hx hb dX3_row_32 kcbm82 ?_
  obtain ⟨v1, S1, e1, hf⟩ := bd2o hf
  refine m_callV (pc := 34) (As := [.int (-82)]) (rest := []) (st1 := [.int v1]) hc (mX3_refused e1) (cwV 1 hts (lw_V q2899 q2901 qs51 q105 q2902) rfl rfl rfl hdX3_refused ⟨Nat.le_of_ble_eq_true rfl, Nat.le_of_ble_eq_true rfl⟩) rfl hl.1 rfl rfl (lv_room (Nat.le_of_ble_eq_true rfl)) dX3_row_34 hP hD hS (fun H locs hP hD hS => ?_)
  exact m_iret (pc := 37) hx hb hr hlk hP hD hS hf dX3_row_37
def fX3_row_b55 : Nat → Int32 → Int32 → mS → Option (Int32 × mS)
  | 0, _, _, _ => none
  | n + 1, l1, l4, S =>
    if (nI 40) ≤ l4 then
      some (nI 1, S)
    else
      bd (mwrL S (((nI 40) * l1) + l4) (lN 0)) fun S2 =>
      fX3_row_b55 n l1 (l4 + (nI 1)) S2
theorem wX3_row_b55 (hc : mC p s m args meth c D cI cJ cX3_row 5 (some .int)) : ∀ (n : Nat) (l1 : Int32) (l4 : Int32) (S : mS) (H : Heap) (locs : List Loc) (ls : Array Slot), va_P D mCl (mws am cI cJ S) H → va_D (mA am) (mws am cI cJ S) → va_S (mA am) s.heap H locs → lv_has ls 5 [(0, .ref (am 0)), (1, .int l1), (4, .int l4)] → fX3_row_b55 n l1 l4 S = some (r, Sf) → W p l e (mR 2 45) s m args below meth c H locs 0 0 (mQ below D am cI cJ (some (.int r)) Sf args s) (F0 m 55 ls []) := by
  obtain ⟨hx, hb, hr, hlk, hml, hown, hts, hK⟩ := hc
  have hc : mC p s m args meth c D cI cJ cX3_row 5 (some .int) := ⟨hx, hb, hr, hlk, hml, hown, hts, hK⟩
  intro n
  induction n with
  | zero => intro l1 l4 S H locs ls _ _ _ _ hf; exact absurd hf (fun h => by cases h)
  | succ n ih =>
    intro l1 l4 S H locs ls hP hD hS hl hf
    rw [fX3_row_b55] at hf
    refine lv_iload (pc := 55) hx hb dX3_row_55 (lv_at hl 2 rfl) ?_
    refine lv_bipush (pc := 57) (v := nI 40) hx hb dX3_row_57 kcb40 ?_
    refine lv_icmp_ge (pc := 59) (tgt := 81) hx hb dX3_row_59 (by decide) (fun c1 => ?_) (fun c1 => ?_)
    · rw [if_pos c1] at hf
      refine lv_iconst (pc := 81) (v := nI 1) hx hb dX3_row_81 rfl ?_
      exact m_iret (pc := 82) hx hb hr hlk hP hD hS hf dX3_row_82
    · rw [if_neg c1] at hf
      refine lv_aload_n (pc := 62) hx hb dX3_row_62 rfl (lv_at hl 0 rfl) ?_
      refine va_get (D := D) (ci := 0) (v := .ref (am 12)) (C := RX3) (T := TX3) (N := 17) (pc := 63) hx hb hts in_X3 hown hK hP 0 rfl rfl 15 (by decide) (hts _ q2854) (fun _ h9 => h9) rfl dX3_row_63 ?_
      refine lv_bipush (pc := 66) (v := nI 40) hx hb dX3_row_66 kcb40 ?_
      refine lv_iload_n (pc := 68) hx hb dX3_row_68 rfl (lv_at hl 1 rfl) ?_
      refine lv_imul (pc := 69) hx hb dX3_row_69 ?_
      refine lv_iload (pc := 70) hx hb dX3_row_70 (lv_at hl 2 rfl) ?_
      refine lv_iadd (pc := 72) hx hb dX3_row_72 ?_
      refine lv_lconst (pc := 73) (v := lN 0) hx hb dX3_row_73 rfl ?_
      obtain ⟨S2, e2, hf⟩ := bdo hf
      refine m_last (pc := 74) hx hb hK hP hD hS e2 dX3_row_74 (fun H locs hP hD hS => ?_)
      refine lv_iinc (pc := 75) (v := l4 + (nI 1)) (lv' := [(4, .int (l4 + (nI 1))), (0, .ref (am 0)), (1, .int l1)]) hx hb dX3_row_75 hl (k := 2) rfl rfl (by decide) rfl (fun ls hl => ?_)
      refine lv_goto (pc := 78) (tgt := 55) hx hb dX3_row_78 (by decide) ?_
      exact ih l1 (l4 + (nI 1)) S2 _ _ ls hP hD hS (lv_sub hl [1, 2, 0] rfl) hf
def fX3_row (l1 : Int32) (l2 : Int32) (l3 : Int32) (S : mS) : Option (Int32 × mS) :=
  bd2 (fX3_isShelf l1 S) fun v1 S1 =>
  if v1 = 0 then
    fX3_row_b31  S1
  else
    bd2 (fX3_in l2.toInt64 (lN 0) (lN 4) S1) fun v3 S3 =>
    if v3 = 0 then
      fX3_row_b31  S3
    else
      bd2 (fX3_in l3.toInt64 (lN 0) (lN 40) S3) fun v5 S5 =>
      if v5 = 0 then
        fX3_row_b31  S5
      else
        bd (mwr S5 8 8 l1 l2) fun S7 =>
        bd (mwr S7 9 8 l1 l3) fun S8 =>
        fX3_row_b55 FU l1 (nI 0) S8
theorem wX3_row_b0 (hc : mC p s m args meth c D cI cJ cX3_row 5 (some .int)) (l1 : Int32) (l2 : Int32) (l3 : Int32) (S : mS) (H : Heap) (locs : List Loc) (ls : Array Slot) (hP : va_P D mCl (mws am cI cJ S) H) (hD : va_D (mA am) (mws am cI cJ S)) (hS : va_S (mA am) s.heap H locs) (hl : lv_has ls 5 [(0, .ref (am 0)), (1, .int l1), (2, .int l2), (3, .int l3)]) (hf : fX3_row l1 l2 l3 S = some (r, Sf)) : W p l e (mR 2 45) s m args below meth c H locs 0 0 (mQ below D am cI cJ (some (.int r)) Sf args s) (F0 m 0 ls []) := by
  obtain ⟨hx, hb, hr, hlk, hml, hown, hts, hK⟩ := hc
  have hc : mC p s m args meth c D cI cJ cX3_row 5 (some .int) := ⟨hx, hb, hr, hlk, hml, hown, hts, hK⟩
  unfold fX3_row at hf
  refine lv_iload_n (pc := 0) hx hb dX3_row_0 rfl (lv_at hl 1 rfl) ?_
  obtain ⟨v1, S1, e1, hf⟩ := bd2o hf
  refine m_callS (pc := 1) (As := [.int l1]) (rest := []) (st1 := [.int v1]) hc (mX3_isShelf e1) (va_cwS 1 hts (lw_S q3206 q3207 q105 q3208) rfl rfl rfl hdX3_isShelf ⟨Nat.le_of_ble_eq_true rfl, Nat.le_of_ble_eq_true rfl⟩) rfl hl.1 rfl rfl (lv_room (Nat.le_of_ble_eq_true rfl)) dX3_row_1 hP hD hS (fun H locs hP hD hS => ?_)
  refine lv_if_eq (pc := 4) (tgt := 31) hx hb dX3_row_4 (by decide) (fun c2 => ?_) (fun c2 => ?_)
  · rw [if_pos c2] at hf
    exact wX3_row_b31 hc  S1 _ _ ls hP hD hS (lv_sub hl [0] rfl) hf
  · rw [if_neg c2] at hf
    refine lv_iload_n (pc := 7) hx hb dX3_row_7 rfl (lv_at hl 2 rfl) ?_
    refine lv_i2l (pc := 8) hx hb dX3_row_8 rfl ?_
    refine lv_lconst (pc := 9) (v := lN 0) hx hb dX3_row_9 rfl ?_
    refine lv_ldc2 (pc := 10) (v := lN 4) hx hb hown (hts _ q3150) dX3_row_10 ?_
    obtain ⟨v3, S3, e3, hf⟩ := bd2o hf
    refine m_callS (pc := 13) (As := [.long l2.toInt64, .long (lN 0), .long (lN 4)]) (rest := []) (st1 := [.int v3]) hc (mX3_in e3) (va_cwS 3 hts (lw_S q2896 q2897 q105 q2898) rfl rfl rfl hdX3_in ⟨Nat.le_of_ble_eq_true rfl, Nat.le_of_ble_eq_true rfl⟩) rfl hl.1 rfl rfl (lv_room (Nat.le_of_ble_eq_true rfl)) dX3_row_13 hP hD hS (fun H locs hP hD hS => ?_)
    refine lv_if_eq (pc := 16) (tgt := 31) hx hb dX3_row_16 (by decide) (fun c4 => ?_) (fun c4 => ?_)
    · rw [if_pos c4] at hf
      exact wX3_row_b31 hc  S3 _ _ ls hP hD hS (lv_sub hl [0] rfl) hf
    · rw [if_neg c4] at hf
      refine lv_iload_n (pc := 19) hx hb dX3_row_19 rfl (lv_at hl 3 rfl) ?_
      refine lv_i2l (pc := 20) hx hb dX3_row_20 rfl ?_
      refine lv_lconst (pc := 21) (v := lN 0) hx hb dX3_row_21 rfl ?_
      refine lv_ldc2 (pc := 22) (v := lN 40) hx hb hown (hts _ q3209) dX3_row_22 ?_
      obtain ⟨v5, S5, e5, hf⟩ := bd2o hf
      refine m_callS (pc := 25) (As := [.long l3.toInt64, .long (lN 0), .long (lN 40)]) (rest := []) (st1 := [.int v5]) hc (mX3_in e5) (va_cwS 3 hts (lw_S q2896 q2897 q105 q2898) rfl rfl rfl hdX3_in ⟨Nat.le_of_ble_eq_true rfl, Nat.le_of_ble_eq_true rfl⟩) rfl hl.1 rfl rfl (lv_room (Nat.le_of_ble_eq_true rfl)) dX3_row_25 hP hD hS (fun H locs hP hD hS => ?_)
      refine lv_if_ne (pc := 28) (tgt := 38) hx hb dX3_row_28 (by decide) (fun c6 => ?_) (fun c6 => ?_)
      · rw [if_neg c6] at hf
        refine lv_aload_n (pc := 38) hx hb dX3_row_38 rfl (lv_at hl 0 rfl) ?_
        refine va_get (D := D) (ci := 0) (v := .ref (am 9)) (C := RX3) (T := TX3) (N := 17) (pc := 39) hx hb hts in_X3 hown hK hP 0 rfl rfl 13 (by decide) (hts _ q2852) (fun _ h9 => h9) rfl dX3_row_39 ?_
        refine lv_iload_n (pc := 42) hx hb dX3_row_42 rfl (lv_at hl 1 rfl) ?_
        refine lv_iload_n (pc := 43) hx hb dX3_row_43 rfl (lv_at hl 2 rfl) ?_
        obtain ⟨S7, e7, hf⟩ := bdo hf
        refine m_iast (pc := 44) (k := 8) hx hb hK hP hD hS rfl (fun _ _ => rfl) e7 dX3_row_44 (fun H locs hP hD hS => ?_)
        refine lv_aload_n (pc := 45) hx hb dX3_row_45 rfl (lv_at hl 0 rfl) ?_
        refine va_get (D := D) (ci := 0) (v := .ref (am 10)) (C := RX3) (T := TX3) (N := 17) (pc := 46) hx hb hts in_X3 hown hK hP 0 rfl rfl 14 (by decide) (hts _ q2853) (fun _ h9 => h9) rfl dX3_row_46 ?_
        refine lv_iload_n (pc := 49) hx hb dX3_row_49 rfl (lv_at hl 1 rfl) ?_
        refine lv_iload_n (pc := 50) hx hb dX3_row_50 rfl (lv_at hl 3 rfl) ?_
        obtain ⟨S8, e8, hf⟩ := bdo hf
        refine m_iast (pc := 51) (k := 9) hx hb hK hP hD hS rfl (fun _ _ => rfl) e8 dX3_row_51 (fun H locs hP hD hS => ?_)
        refine lv_iconst (pc := 52) (v := nI 0) hx hb dX3_row_52 rfl ?_
        refine lv_istore (pc := 53) (lv' := [(4, .int (nI 0)), (0, .ref (am 0)), (1, .int l1), (2, .int l2), (3, .int l3)]) hx hb dX3_row_53 hl (by decide) rfl (fun ls hl => ?_)
        exact wX3_row_b55 hc FU l1 (nI 0) S8 _ _ ls hP hD hS (lv_sub hl [1, 2, 0] rfl) hf
      · rw [if_pos c6] at hf
        exact wX3_row_b31 hc  S5 _ _ ls hP hD hS (lv_sub hl [0] rfl) hf
theorem mX3_row {S S2 : mS} {r2 : Int32} {l1 : Int32} {l2 : Int32} {l3 : Int32} (hf : fX3_row l1 l2 l3 S = some (r2, S2)) : mMet l yX3_row cX3_row 5 (some .int) 2 45 D am cI cJ [.ref (am 0), .int l1, .int l2, .int l3] S (some (.int r2)) S2 := by
  exact m_start (by decide) rfl (Nat.le_of_ble_eq_true rfl) (fun p e s m args below meth c ls hc hl hP hD => wX3_row_b0 hc l1 l2 l3 S _ _ ls hP hD va_S.rf (lv_sub hl [0, 1, 2, 3] rfl) hf)
end
section
variable {r : Int64} {Sf : mS}
def fX3_lowest (l0 : Int32) (l1 : Int64) (S : mS) : Option (Int64 × mS) :=
  if l0 = 0 then
    some (l1.toInt32.toInt8.toInt32.toInt64, S)
  else if l0 = 1 then
    some (l1.toInt32.toInt16.toInt32.toInt64, S)
  else if l0 = 2 then
    some (l1.toInt32.toInt64, S)
  else if l0 = 3 then
    some (l1, S)
  else
    if (lg_cmp l1 (lN 0)) = 0 then
      some (lN 0, S)
    else
      some (lN 1, S)
theorem wX3_lowest_b0 (hc : mC p s m args meth c D cI cJ cX3_lowest 3 (some .long)) (l0 : Int32) (l1 : Int64) (S : mS) (H : Heap) (locs : List Loc) (ls : Array Slot) (hP : va_P D mCl (mws am cI cJ S) H) (hD : va_D (mA am) (mws am cI cJ S)) (hS : va_S (mA am) s.heap H locs) (hl : lv_has ls 3 [(0, .int l0), (1, .long l1)]) (hf : fX3_lowest l0 l1 S = some (r, Sf)) : W p l e (mR 0 0) s m args below meth c H locs 0 0 (mQ below D am cI cJ (some (.long r)) Sf args s) (F0 m 0 ls []) := by
  obtain ⟨hx, hb, hr, hlk, hml, hown, hts, hK⟩ := hc
  have hc : mC p s m args meth c D cI cJ cX3_lowest 3 (some .long) := ⟨hx, hb, hr, hlk, hml, hown, hts, hK⟩
  unfold fX3_lowest at hf
  refine lv_iload_n (pc := 0) hx hb dX3_lowest_0 rfl (lv_at hl 0 rfl) ?_
  by_cases c1_0 : l0 = 0
  · rw [if_pos c1_0] at hf
    refine lv_tableIn (pc := 1) (off := 31) (tgt := 32) hx hb dX3_lowest_1 (by rw [c1_0]; decide) (by rw [c1_0]; decide) (by rw [c1_0]; rfl) (by decide) ?_
    refine lv_lload_n (pc := 32) hx hb dX3_lowest_32 rfl (lv_at hl 1 rfl) ?_
    refine lv_l2i (pc := 33) hx hb dX3_lowest_33 rfl ?_
    refine lv_i2b (pc := 34) hx hb dX3_lowest_34 rfl ?_
    refine lv_i2l (pc := 35) hx hb dX3_lowest_35 rfl ?_
    exact m_lret (pc := 36) hx hb hr hlk hP hD hS hf dX3_lowest_36
  · rw [if_neg c1_0] at hf
    by_cases c1_1 : l0 = 1
    · rw [if_pos c1_1] at hf
      refine lv_tableIn (pc := 1) (off := 36) (tgt := 37) hx hb dX3_lowest_1 (by rw [c1_1]; decide) (by rw [c1_1]; decide) (by rw [c1_1]; rfl) (by decide) ?_
      refine lv_lload_n (pc := 37) hx hb dX3_lowest_37 rfl (lv_at hl 1 rfl) ?_
      refine lv_l2i (pc := 38) hx hb dX3_lowest_38 rfl ?_
      refine lv_i2s (pc := 39) hx hb dX3_lowest_39 rfl ?_
      refine lv_i2l (pc := 40) hx hb dX3_lowest_40 rfl ?_
      exact m_lret (pc := 41) hx hb hr hlk hP hD hS hf dX3_lowest_41
    · rw [if_neg c1_1] at hf
      by_cases c1_2 : l0 = 2
      · rw [if_pos c1_2] at hf
        refine lv_tableIn (pc := 1) (off := 41) (tgt := 42) hx hb dX3_lowest_1 (by rw [c1_2]; decide) (by rw [c1_2]; decide) (by rw [c1_2]; rfl) (by decide) ?_
        refine lv_lload_n (pc := 42) hx hb dX3_lowest_42 rfl (lv_at hl 1 rfl) ?_
        refine lv_l2i (pc := 43) hx hb dX3_lowest_43 rfl ?_
        refine lv_i2l (pc := 44) hx hb dX3_lowest_44 rfl ?_
        exact m_lret (pc := 45) hx hb hr hlk hP hD hS hf dX3_lowest_45
      · rw [if_neg c1_2] at hf
        by_cases c1_3 : l0 = 3
        · rw [if_pos c1_3] at hf
          refine lv_tableIn (pc := 1) (off := 45) (tgt := 46) hx hb dX3_lowest_1 (by rw [c1_3]; decide) (by rw [c1_3]; decide) (by rw [c1_3]; rfl) (by decide) ?_
          refine lv_lload_n (pc := 46) hx hb dX3_lowest_46 rfl (lv_at hl 1 rfl) ?_
          exact m_lret (pc := 47) hx hb hr hlk hP hD hS hf dX3_lowest_47
        · rw [if_neg c1_3] at hf
          refine lv_tableOut (pc := 1) (tgt := 48) hx hb dX3_lowest_1 (tsw3 c1_0 c1_1 c1_2 c1_3) (by decide) ?_
          refine lv_lload_n (pc := 48) hx hb dX3_lowest_48 rfl (lv_at hl 1 rfl) ?_
          refine lv_lconst (pc := 49) (v := lN 0) hx hb dX3_lowest_49 rfl ?_
          refine W.lcmp (pc := 50) hx hb dX3_lowest_50 ?_
          refine lv_if_ne (pc := 51) (tgt := 58) hx hb dX3_lowest_51 (by decide) (fun c2 => ?_) (fun c2 => ?_)
          · rw [if_neg c2] at hf
            refine lv_lconst (pc := 58) (v := lN 1) hx hb dX3_lowest_58 rfl ?_
            exact m_lret (pc := 59) hx hb hr hlk hP hD hS hf dX3_lowest_59
          · rw [if_pos c2] at hf
            refine lv_lconst (pc := 54) (v := lN 0) hx hb dX3_lowest_54 rfl ?_
            refine lv_goto (pc := 55) (tgt := 59) hx hb dX3_lowest_55 (by decide) ?_
            exact m_lret (pc := 59) hx hb hr hlk hP hD hS hf dX3_lowest_59
theorem mX3_lowest {S S2 : mS} {r2 : Int64} {l0 : Int32} {l1 : Int64} (hf : fX3_lowest l0 l1 S = some (r2, S2)) : mMet l yX3_lowest cX3_lowest 3 (some .long) 0 0 D am cI cJ [.int l0, .long l1] S (some (.long r2)) S2 := by
  exact m_start (by decide) rfl (Nat.le_of_ble_eq_true rfl) (fun p e s m args below meth c ls hc hl hP hD => wX3_lowest_b0 hc l0 l1 S _ _ ls hP hD va_S.rf (lv_sub hl [0, 1] rfl) hf)
end
section
variable {r : Int32} {Sf : mS}
def fX3_set (l1 : Int32) (l2 : Int32) (l3 : Int64) (S : mS) : Option (Int32 × mS) :=
  bd2 (fX3_isShelf l1 S) fun v1 S1 =>
  if v1 = 0 then
    bd2 (fX3_refused (-82) S1) fun v16 S16 =>
    some (v16, S16)
  else
    bd (mrd S1 8 8 l1) fun v3 =>
    if v3 ≤ (nI 4) then
      bd (mrd S1 8 8 l1) fun v5 =>
      if 0 ≤ v5 then
        bd (mrd S1 9 8 l1) fun v7 =>
        bd2 (fX3_in l2.toInt64 (lN 0) ((v7 - (nI 1)).toInt64) S1) fun v8 S8 =>
        if v8 = 0 then
          bd2 (fX3_refused (-82) S8) fun v13 S13 =>
          some (v13, S13)
        else
          bd (mrd S8 8 8 l1) fun v10 =>
          bd2 (fX3_lowest v10 l3 S8) fun v11 S11 =>
          bd (mwrL S11 (((nI 40) * l1) + l2) v11) fun S12 =>
          some (nI 1, S12)
      else
        bd2 (fX3_refused (-84) S1) fun v14 S14 =>
        some (v14, S14)
    else
      bd2 (fX3_refused (-83) S1) fun v15 S15 =>
      some (v15, S15)
theorem wX3_set_b0 (hc : mC p s m args meth c D cI cJ cX3_set 5 (some .int)) (l1 : Int32) (l2 : Int32) (l3 : Int64) (S : mS) (H : Heap) (locs : List Loc) (ls : Array Slot) (hP : va_P D mCl (mws am cI cJ S) H) (hD : va_D (mA am) (mws am cI cJ S)) (hS : va_S (mA am) s.heap H locs) (hl : lv_has ls 5 [(0, .ref (am 0)), (1, .int l1), (2, .int l2), (3, .long l3)]) (hf : fX3_set l1 l2 l3 S = some (r, Sf)) : W p l e (mR 2 45) s m args below meth c H locs 0 0 (mQ below D am cI cJ (some (.int r)) Sf args s) (F0 m 0 ls []) := by
  obtain ⟨hx, hb, hr, hlk, hml, hown, hts, hK⟩ := hc
  have hc : mC p s m args meth c D cI cJ cX3_set 5 (some .int) := ⟨hx, hb, hr, hlk, hml, hown, hts, hK⟩
  unfold fX3_set at hf
  refine lv_iload_n (pc := 0) hx hb dX3_set_0 rfl (lv_at hl 1 rfl) ?_
  obtain ⟨v1, S1, e1, hf⟩ := bd2o hf
  refine m_callS (pc := 1) (As := [.int l1]) (rest := []) (st1 := [.int v1]) hc (mX3_isShelf e1) (va_cwS 1 hts (lw_S q3206 q3207 q105 q3208) rfl rfl rfl hdX3_isShelf ⟨Nat.le_of_ble_eq_true rfl, Nat.le_of_ble_eq_true rfl⟩) rfl hl.1 rfl rfl (lv_room (Nat.le_of_ble_eq_true rfl)) dX3_set_1 hP hD hS (fun H locs hP hD hS => ?_)
  refine lv_if_ne (pc := 4) (tgt := 14) hx hb dX3_set_4 (by decide) (fun c2 => ?_) (fun c2 => ?_)
  · rw [if_neg c2] at hf
    refine lv_aload_n (pc := 14) hx hb dX3_set_14 rfl (lv_at hl 0 rfl) ?_
    refine va_get (D := D) (ci := 0) (v := .ref (am 9)) (C := RX3) (T := TX3) (N := 17) (pc := 15) hx hb hts in_X3 hown hK hP 0 rfl rfl 13 (by decide) (hts _ q2852) (fun _ h9 => h9) rfl dX3_set_15 ?_
    refine lv_iload_n (pc := 18) hx hb dX3_set_18 rfl (lv_at hl 1 rfl) ?_
    obtain ⟨v3, e3, hf⟩ := bdo hf
    refine m_iald (pc := 19) (k := 8) hx hb hK hP rfl e3 dX3_set_19 ?_
    refine lv_iconst (pc := 20) (v := nI 4) hx hb dX3_set_20 rfl ?_
    refine lv_icmp_le (pc := 21) (tgt := 31) hx hb dX3_set_21 (by decide) (fun c4 => ?_) (fun c4 => ?_)
    · rw [if_pos c4] at hf
      refine lv_aload_n (pc := 31) hx hb dX3_set_31 rfl (lv_at hl 0 rfl) ?_
      refine va_get (D := D) (ci := 0) (v := .ref (am 9)) (C := RX3) (T := TX3) (N := 17) (pc := 32) hx hb hts in_X3 hown hK hP 0 rfl rfl 13 (by decide) (hts _ q2852) (fun _ h9 => h9) rfl dX3_set_32 ?_
      refine lv_iload_n (pc := 35) hx hb dX3_set_35 rfl (lv_at hl 1 rfl) ?_
      obtain ⟨v5, e5, hf⟩ := bdo hf
      refine m_iald (pc := 36) (k := 8) hx hb hK hP rfl e5 dX3_set_36 ?_
      refine lv_if_ge (pc := 37) (tgt := 47) hx hb dX3_set_37 (by decide) (fun c6 => ?_) (fun c6 => ?_)
      · rw [if_pos c6] at hf
        refine lv_iload_n (pc := 47) hx hb dX3_set_47 rfl (lv_at hl 2 rfl) ?_
        refine lv_i2l (pc := 48) hx hb dX3_set_48 rfl ?_
        refine lv_lconst (pc := 49) (v := lN 0) hx hb dX3_set_49 rfl ?_
        refine lv_aload_n (pc := 50) hx hb dX3_set_50 rfl (lv_at hl 0 rfl) ?_
        refine va_get (D := D) (ci := 0) (v := .ref (am 10)) (C := RX3) (T := TX3) (N := 17) (pc := 51) hx hb hts in_X3 hown hK hP 0 rfl rfl 14 (by decide) (hts _ q2853) (fun _ h9 => h9) rfl dX3_set_51 ?_
        refine lv_iload_n (pc := 54) hx hb dX3_set_54 rfl (lv_at hl 1 rfl) ?_
        obtain ⟨v7, e7, hf⟩ := bdo hf
        refine m_iald (pc := 55) (k := 9) hx hb hK hP rfl e7 dX3_set_55 ?_
        refine lv_iconst (pc := 56) (v := nI 1) hx hb dX3_set_56 rfl ?_
        refine lv_isub (pc := 57) hx hb dX3_set_57 ?_
        refine lv_i2l (pc := 58) hx hb dX3_set_58 rfl ?_
        obtain ⟨v8, S8, e8, hf⟩ := bd2o hf
        refine m_callS (pc := 59) (As := [.long l2.toInt64, .long (lN 0), .long ((v7 - (nI 1)).toInt64)]) (rest := []) (st1 := [.int v8]) hc (mX3_in e8) (va_cwS 3 hts (lw_S q2896 q2897 q105 q2898) rfl rfl rfl hdX3_in ⟨Nat.le_of_ble_eq_true rfl, Nat.le_of_ble_eq_true rfl⟩) rfl hl.1 rfl rfl (lv_room (Nat.le_of_ble_eq_true rfl)) dX3_set_59 hP hD hS (fun H locs hP hD hS => ?_)
        refine lv_if_ne (pc := 62) (tgt := 72) hx hb dX3_set_62 (by decide) (fun c9 => ?_) (fun c9 => ?_)
        · rw [if_neg c9] at hf
          refine lv_aload_n (pc := 72) hx hb dX3_set_72 rfl (lv_at hl 0 rfl) ?_
          refine va_get (D := D) (ci := 0) (v := .ref (am 12)) (C := RX3) (T := TX3) (N := 17) (pc := 73) hx hb hts in_X3 hown hK hP 0 rfl rfl 15 (by decide) (hts _ q2854) (fun _ h9 => h9) rfl dX3_set_73 ?_
          refine lv_bipush (pc := 76) (v := nI 40) hx hb dX3_set_76 kcb40 ?_
          refine lv_iload_n (pc := 78) hx hb dX3_set_78 rfl (lv_at hl 1 rfl) ?_
          refine lv_imul (pc := 79) hx hb dX3_set_79 ?_
          refine lv_iload_n (pc := 80) hx hb dX3_set_80 rfl (lv_at hl 2 rfl) ?_
          refine lv_iadd (pc := 81) hx hb dX3_set_81 ?_
          refine lv_aload_n (pc := 82) hx hb dX3_set_82 rfl (lv_at hl 0 rfl) ?_
          refine va_get (D := D) (ci := 0) (v := .ref (am 9)) (C := RX3) (T := TX3) (N := 17) (pc := 83) hx hb hts in_X3 hown hK hP 0 rfl rfl 13 (by decide) (hts _ q2852) (fun _ h9 => h9) rfl dX3_set_83 ?_
          refine lv_iload_n (pc := 86) hx hb dX3_set_86 rfl (lv_at hl 1 rfl) ?_
          obtain ⟨v10, e10, hf⟩ := bdo hf
          refine m_iald (pc := 87) (k := 8) hx hb hK hP rfl e10 dX3_set_87 ?_
          refine lv_lload_n (pc := 88) hx hb dX3_set_88 rfl (lv_at hl 3 rfl) ?_
          obtain ⟨v11, S11, e11, hf⟩ := bd2o hf
          refine m_callS (pc := 89) (As := [.int v10, .long l3]) (rest := [.int (((nI 40) * l1) + l2), .ref (am 12)]) (st1 := [.long v11, .int (((nI 40) * l1) + l2), .ref (am 12)]) hc (mX3_lowest e11) (va_cwS 2 hts (lw_S q3214 q3215 q105 q3216) rfl rfl rfl hdX3_lowest ⟨Nat.le_of_ble_eq_true rfl, Nat.le_of_ble_eq_true rfl⟩) rfl hl.1 rfl rfl (lv_room (Nat.le_of_ble_eq_true rfl)) dX3_set_89 hP hD hS (fun H locs hP hD hS => ?_)
          obtain ⟨S12, e12, hf⟩ := bdo hf
          refine m_last (pc := 92) hx hb hK hP hD hS e12 dX3_set_92 (fun H locs hP hD hS => ?_)
          refine lv_iconst (pc := 93) (v := nI 1) hx hb dX3_set_93 rfl ?_
          exact m_iret (pc := 94) hx hb hr hlk hP hD hS hf dX3_set_94
        · rw [if_pos c9] at hf
          refine lv_aload_n (pc := 65) hx hb dX3_set_65 rfl (lv_at hl 0 rfl) ?_
          refine lv_bipush (pc := 66) (v := -82) hx hb dX3_set_66 kcbm82 ?_
          obtain ⟨v13, S13, e13, hf⟩ := bd2o hf
          refine m_callV (pc := 68) (As := [.int (-82)]) (rest := []) (st1 := [.int v13]) hc (mX3_refused e13) (cwV 1 hts (lw_V q2899 q2901 qs51 q105 q2902) rfl rfl rfl hdX3_refused ⟨Nat.le_of_ble_eq_true rfl, Nat.le_of_ble_eq_true rfl⟩) rfl hl.1 rfl rfl (lv_room (Nat.le_of_ble_eq_true rfl)) dX3_set_68 hP hD hS (fun H locs hP hD hS => ?_)
          exact m_iret (pc := 71) hx hb hr hlk hP hD hS hf dX3_set_71
      · rw [if_neg c6] at hf
        refine lv_aload_n (pc := 40) hx hb dX3_set_40 rfl (lv_at hl 0 rfl) ?_
        refine lv_bipush (pc := 41) (v := -84) hx hb dX3_set_41 kcbm84 ?_
        obtain ⟨v14, S14, e14, hf⟩ := bd2o hf
        refine m_callV (pc := 43) (As := [.int (-84)]) (rest := []) (st1 := [.int v14]) hc (mX3_refused e14) (cwV 1 hts (lw_V q2899 q2901 qs51 q105 q2902) rfl rfl rfl hdX3_refused ⟨Nat.le_of_ble_eq_true rfl, Nat.le_of_ble_eq_true rfl⟩) rfl hl.1 rfl rfl (lv_room (Nat.le_of_ble_eq_true rfl)) dX3_set_43 hP hD hS (fun H locs hP hD hS => ?_)
        exact m_iret (pc := 46) hx hb hr hlk hP hD hS hf dX3_set_46
    · rw [if_neg c4] at hf
      refine lv_aload_n (pc := 24) hx hb dX3_set_24 rfl (lv_at hl 0 rfl) ?_
      refine lv_bipush (pc := 25) (v := -83) hx hb dX3_set_25 kcbm83 ?_
      obtain ⟨v15, S15, e15, hf⟩ := bd2o hf
      refine m_callV (pc := 27) (As := [.int (-83)]) (rest := []) (st1 := [.int v15]) hc (mX3_refused e15) (cwV 1 hts (lw_V q2899 q2901 qs51 q105 q2902) rfl rfl rfl hdX3_refused ⟨Nat.le_of_ble_eq_true rfl, Nat.le_of_ble_eq_true rfl⟩) rfl hl.1 rfl rfl (lv_room (Nat.le_of_ble_eq_true rfl)) dX3_set_27 hP hD hS (fun H locs hP hD hS => ?_)
      exact m_iret (pc := 30) hx hb hr hlk hP hD hS hf dX3_set_30
  · rw [if_pos c2] at hf
    refine lv_aload_n (pc := 7) hx hb dX3_set_7 rfl (lv_at hl 0 rfl) ?_
    refine lv_bipush (pc := 8) (v := -82) hx hb dX3_set_8 kcbm82 ?_
    obtain ⟨v16, S16, e16, hf⟩ := bd2o hf
    refine m_callV (pc := 10) (As := [.int (-82)]) (rest := []) (st1 := [.int v16]) hc (mX3_refused e16) (cwV 1 hts (lw_V q2899 q2901 qs51 q105 q2902) rfl rfl rfl hdX3_refused ⟨Nat.le_of_ble_eq_true rfl, Nat.le_of_ble_eq_true rfl⟩) rfl hl.1 rfl rfl (lv_room (Nat.le_of_ble_eq_true rfl)) dX3_set_10 hP hD hS (fun H locs hP hD hS => ?_)
    exact m_iret (pc := 13) hx hb hr hlk hP hD hS hf dX3_set_13
theorem mX3_set {S S2 : mS} {r2 : Int32} {l1 : Int32} {l2 : Int32} {l3 : Int64} (hf : fX3_set l1 l2 l3 S = some (r2, S2)) : mMet l yX3_set cX3_set 5 (some .int) 2 45 D am cI cJ [.ref (am 0), .int l1, .int l2, .long l3] S (some (.int r2)) S2 := by
  exact m_start (by decide) rfl (Nat.le_of_ble_eq_true rfl) (fun p e s m args below meth c ls hc hl hP hD => wX3_set_b0 hc l1 l2 l3 S _ _ ls hP hD va_S.rf (lv_sub hl [0, 1, 2, 3] rfl) hf)
end
section
variable {r : Int32} {Sf : mS}
def fX3_copy_b14 (S : mS) : Option (Int32 × mS) :=
  bd2 (fX3_refused (-82) S) fun v1 S1 =>
  some (v1, S1)
theorem wX3_copy_b14 (hc : mC p s m args meth c D cI cJ cX3_copy 8 (some .int)) (S : mS) (H : Heap) (locs : List Loc) (ls : Array Slot) (hP : va_P D mCl (mws am cI cJ S) H) (hD : va_D (mA am) (mws am cI cJ S)) (hS : va_S (mA am) s.heap H locs) (hl : lv_has ls 8 [(0, .ref (am 0))]) (hf : fX3_copy_b14  S = some (r, Sf)) : W p l e (mR 2 45) s m args below meth c H locs 0 0 (mQ below D am cI cJ (some (.int r)) Sf args s) (F0 m 14 ls []) := by
  obtain ⟨hx, hb, hr, hlk, hml, hown, hts, hK⟩ := hc
  have hc : mC p s m args meth c D cI cJ cX3_copy 8 (some .int) := ⟨hx, hb, hr, hlk, hml, hown, hts, hK⟩
  unfold fX3_copy_b14 at hf
  refine lv_aload_n (pc := 14) hx hb dX3_copy_14 rfl (lv_at hl 0 rfl) ?_
  refine lv_bipush (pc := 15) (v := -82) hx hb dX3_copy_15 kcbm82 ?_
  obtain ⟨v1, S1, e1, hf⟩ := bd2o hf
  refine m_callV (pc := 17) (As := [.int (-82)]) (rest := []) (st1 := [.int v1]) hc (mX3_refused e1) (cwV 1 hts (lw_V q2899 q2901 qs51 q105 q2902) rfl rfl rfl hdX3_refused ⟨Nat.le_of_ble_eq_true rfl, Nat.le_of_ble_eq_true rfl⟩) rfl hl.1 rfl rfl (lv_room (Nat.le_of_ble_eq_true rfl)) dX3_copy_17 hP hD hS (fun H locs hP hD hS => ?_)
  exact m_iret (pc := 20) hx hb hr hlk hP hD hS hf dX3_copy_20
def fX3_copy_b74 (S : mS) : Option (Int32 × mS) :=
  bd2 (fX3_refused (-83) S) fun v1 S1 =>
  some (v1, S1)
theorem wX3_copy_b74 (hc : mC p s m args meth c D cI cJ cX3_copy 8 (some .int)) (S : mS) (H : Heap) (locs : List Loc) (ls : Array Slot) (hP : va_P D mCl (mws am cI cJ S) H) (hD : va_D (mA am) (mws am cI cJ S)) (hS : va_S (mA am) s.heap H locs) (hl : lv_has ls 8 [(0, .ref (am 0))]) (hf : fX3_copy_b74  S = some (r, Sf)) : W p l e (mR 2 45) s m args below meth c H locs 0 0 (mQ below D am cI cJ (some (.int r)) Sf args s) (F0 m 74 ls []) := by
  obtain ⟨hx, hb, hr, hlk, hml, hown, hts, hK⟩ := hc
  have hc : mC p s m args meth c D cI cJ cX3_copy 8 (some .int) := ⟨hx, hb, hr, hlk, hml, hown, hts, hK⟩
  unfold fX3_copy_b74 at hf
  refine lv_aload_n (pc := 74) hx hb dX3_copy_74 rfl (lv_at hl 0 rfl) ?_
  refine lv_bipush (pc := 75) (v := -83) hx hb dX3_copy_75 kcbm83 ?_
  obtain ⟨v1, S1, e1, hf⟩ := bd2o hf
  refine m_callV (pc := 77) (As := [.int (-83)]) (rest := []) (st1 := [.int v1]) hc (mX3_refused e1) (cwV 1 hts (lw_V q2899 q2901 qs51 q105 q2902) rfl rfl rfl hdX3_refused ⟨Nat.le_of_ble_eq_true rfl, Nat.le_of_ble_eq_true rfl⟩) rfl hl.1 rfl rfl (lv_room (Nat.le_of_ble_eq_true rfl)) dX3_copy_77 hP hD hS (fun H locs hP hD hS => ?_)
  exact m_iret (pc := 80) hx hb hr hlk hP hD hS hf dX3_copy_80
def fX3_copy_b99 (S : mS) : Option (Int32 × mS) :=
  bd2 (fX3_refused (-84) S) fun v1 S1 =>
  some (v1, S1)
theorem wX3_copy_b99 (hc : mC p s m args meth c D cI cJ cX3_copy 8 (some .int)) (S : mS) (H : Heap) (locs : List Loc) (ls : Array Slot) (hP : va_P D mCl (mws am cI cJ S) H) (hD : va_D (mA am) (mws am cI cJ S)) (hS : va_S (mA am) s.heap H locs) (hl : lv_has ls 8 [(0, .ref (am 0))]) (hf : fX3_copy_b99  S = some (r, Sf)) : W p l e (mR 2 45) s m args below meth c H locs 0 0 (mQ below D am cI cJ (some (.int r)) Sf args s) (F0 m 99 ls []) := by
  obtain ⟨hx, hb, hr, hlk, hml, hown, hts, hK⟩ := hc
  have hc : mC p s m args meth c D cI cJ cX3_copy 8 (some .int) := ⟨hx, hb, hr, hlk, hml, hown, hts, hK⟩
  unfold fX3_copy_b99 at hf
  refine lv_aload_n (pc := 99) hx hb dX3_copy_99 rfl (lv_at hl 0 rfl) ?_
  refine lv_bipush (pc := 100) (v := -84) hx hb dX3_copy_100 kcbm84 ?_
  obtain ⟨v1, S1, e1, hf⟩ := bd2o hf
  refine m_callV (pc := 102) (As := [.int (-84)]) (rest := []) (st1 := [.int v1]) hc (mX3_refused e1) (cwV 1 hts (lw_V q2899 q2901 qs51 q105 q2902) rfl rfl rfl hdX3_refused ⟨Nat.le_of_ble_eq_true rfl, Nat.le_of_ble_eq_true rfl⟩) rfl hl.1 rfl rfl (lv_room (Nat.le_of_ble_eq_true rfl)) dX3_copy_102 hP hD hS (fun H locs hP hD hS => ?_)
  exact m_iret (pc := 105) hx hb hr hlk hP hD hS hf dX3_copy_105
def fX3_copy_b168 (S : mS) : Option (Int32 × mS) :=
  bd2 (fX3_refused (-82) S) fun v1 S1 =>
  some (v1, S1)
theorem wX3_copy_b168 (hc : mC p s m args meth c D cI cJ cX3_copy 8 (some .int)) (S : mS) (H : Heap) (locs : List Loc) (ls : Array Slot) (hP : va_P D mCl (mws am cI cJ S) H) (hD : va_D (mA am) (mws am cI cJ S)) (hS : va_S (mA am) s.heap H locs) (hl : lv_has ls 8 [(0, .ref (am 0))]) (hf : fX3_copy_b168  S = some (r, Sf)) : W p l e (mR 2 45) s m args below meth c H locs 0 0 (mQ below D am cI cJ (some (.int r)) Sf args s) (F0 m 168 ls []) := by
  obtain ⟨hx, hb, hr, hlk, hml, hown, hts, hK⟩ := hc
  have hc : mC p s m args meth c D cI cJ cX3_copy 8 (some .int) := ⟨hx, hb, hr, hlk, hml, hown, hts, hK⟩
  unfold fX3_copy_b168 at hf
  refine lv_aload_n (pc := 168) hx hb dX3_copy_168 rfl (lv_at hl 0 rfl) ?_
  refine lv_bipush (pc := 169) (v := -82) hx hb dX3_copy_169 kcbm82 ?_
  obtain ⟨v1, S1, e1, hf⟩ := bd2o hf
  refine m_callV (pc := 171) (As := [.int (-82)]) (rest := []) (st1 := [.int v1]) hc (mX3_refused e1) (cwV 1 hts (lw_V q2899 q2901 qs51 q105 q2902) rfl rfl rfl hdX3_refused ⟨Nat.le_of_ble_eq_true rfl, Nat.le_of_ble_eq_true rfl⟩) rfl hl.1 rfl rfl (lv_room (Nat.le_of_ble_eq_true rfl)) dX3_copy_171 hP hD hS (fun H locs hP hD hS => ?_)
  exact m_iret (pc := 174) hx hb hr hlk hP hD hS hf dX3_copy_174
def fX3_copy_b203 (k178 : Int32 → Int32 → Int32 → Int32 → Int32 → Int32 → mS → Option (Int32 × mS)) (l1 : Int32) (l2 : Int32) (l3 : Int32) (l4 : Int32) (l5 : Int32) (l6 : Int32) (t0 : Int32) (S : mS) : Option (Int32 × mS) :=
  bd (mrdL S ((((nI 40) * l1) + l3) + t0)) fun v1 =>
  bd (mwrL S ((((nI 40) * l2) + l4) + t0) v1) fun S2 =>
  k178 l1 l2 l3 l4 l5 (l6 + (nI 1)) S2
theorem wX3_copy_b203 (hc : mC p s m args meth c D cI cJ cX3_copy 8 (some .int)) (k178 : Int32 → Int32 → Int32 → Int32 → Int32 → Int32 → mS → Option (Int32 × mS)) (h178 : ∀ (l1 : Int32) (l2 : Int32) (l3 : Int32) (l4 : Int32) (l5 : Int32) (l6 : Int32) (S : mS) (H : Heap) (locs : List Loc) (ls : Array Slot), va_P D mCl (mws am cI cJ S) H → va_D (mA am) (mws am cI cJ S) → va_S (mA am) s.heap H locs → lv_has ls 8 [(0, .ref (am 0)), (1, .int l1), (2, .int l2), (3, .int l3), (4, .int l4), (5, .int l5), (6, .int l6)] → k178 l1 l2 l3 l4 l5 l6 S = some (r, Sf) → W p l e (mR 2 45) s m args below meth c H locs 0 0 (mQ below D am cI cJ (some (.int r)) Sf args s) (F0 m 178 ls [])) (l1 : Int32) (l2 : Int32) (l3 : Int32) (l4 : Int32) (l5 : Int32) (l6 : Int32) (t0 : Int32) (S : mS) (H : Heap) (locs : List Loc) (ls : Array Slot) (hP : va_P D mCl (mws am cI cJ S) H) (hD : va_D (mA am) (mws am cI cJ S)) (hS : va_S (mA am) s.heap H locs) (hl : lv_has ls 8 [(0, .ref (am 0)), (1, .int l1), (2, .int l2), (3, .int l3), (4, .int l4), (5, .int l5), (6, .int l6)]) (hf : fX3_copy_b203 k178 l1 l2 l3 l4 l5 l6 t0 S = some (r, Sf)) : W p l e (mR 2 45) s m args below meth c H locs 0 0 (mQ below D am cI cJ (some (.int r)) Sf args s) (F0 m 203 ls [.int t0]) := by
  obtain ⟨hx, hb, hr, hlk, hml, hown, hts, hK⟩ := hc
  have hc : mC p s m args meth c D cI cJ cX3_copy 8 (some .int) := ⟨hx, hb, hr, hlk, hml, hown, hts, hK⟩
  unfold fX3_copy_b203 at hf
  refine lv_istore (pc := 203) (lv' := [(7, .int t0), (0, .ref (am 0)), (1, .int l1), (2, .int l2), (3, .int l3), (4, .int l4), (5, .int l5), (6, .int l6)]) hx hb dX3_copy_203 hl (by decide) rfl (fun ls hl => ?_)
  refine lv_aload_n (pc := 205) hx hb dX3_copy_205 rfl (lv_at hl 1 rfl) ?_
  refine va_get (D := D) (ci := 0) (v := .ref (am 12)) (C := RX3) (T := TX3) (N := 17) (pc := 206) hx hb hts in_X3 hown hK hP 0 rfl rfl 15 (by decide) (hts _ q2854) (fun _ h9 => h9) rfl dX3_copy_206 ?_
  refine lv_bipush (pc := 209) (v := nI 40) hx hb dX3_copy_209 kcb40 ?_
  refine lv_iload_n (pc := 211) hx hb dX3_copy_211 rfl (lv_at hl 3 rfl) ?_
  refine lv_imul (pc := 212) hx hb dX3_copy_212 ?_
  refine lv_iload (pc := 213) hx hb dX3_copy_213 (lv_at hl 5 rfl) ?_
  refine lv_iadd (pc := 215) hx hb dX3_copy_215 ?_
  refine lv_iload (pc := 216) hx hb dX3_copy_216 (lv_at hl 0 rfl) ?_
  refine lv_iadd (pc := 218) hx hb dX3_copy_218 ?_
  refine lv_aload_n (pc := 219) hx hb dX3_copy_219 rfl (lv_at hl 1 rfl) ?_
  refine va_get (D := D) (ci := 0) (v := .ref (am 12)) (C := RX3) (T := TX3) (N := 17) (pc := 220) hx hb hts in_X3 hown hK hP 0 rfl rfl 15 (by decide) (hts _ q2854) (fun _ h9 => h9) rfl dX3_copy_220 ?_
  refine lv_bipush (pc := 223) (v := nI 40) hx hb dX3_copy_223 kcb40 ?_
  refine lv_iload_n (pc := 225) hx hb dX3_copy_225 rfl (lv_at hl 2 rfl) ?_
  refine lv_imul (pc := 226) hx hb dX3_copy_226 ?_
  refine lv_iload_n (pc := 227) hx hb dX3_copy_227 rfl (lv_at hl 4 rfl) ?_
  refine lv_iadd (pc := 228) hx hb dX3_copy_228 ?_
  refine lv_iload (pc := 229) hx hb dX3_copy_229 (lv_at hl 0 rfl) ?_
  refine lv_iadd (pc := 231) hx hb dX3_copy_231 ?_
  obtain ⟨v1, e1, hf⟩ := bdo hf
  refine m_lald (pc := 232) hx hb hK hP e1 dX3_copy_232 ?_
  obtain ⟨S2, e2, hf⟩ := bdo hf
  refine m_last (pc := 233) hx hb hK hP hD hS e2 dX3_copy_233 (fun H locs hP hD hS => ?_)
  refine lv_iinc (pc := 234) (v := l6 + (nI 1)) (lv' := [(6, .int (l6 + (nI 1))), (7, .int t0), (0, .ref (am 0)), (1, .int l1), (2, .int l2), (3, .int l3), (4, .int l4), (5, .int l5)]) hx hb dX3_copy_234 hl (k := 7) rfl rfl (by decide) rfl (fun ls hl => ?_)
  refine lv_goto (pc := 237) (tgt := 178) hx hb dX3_copy_237 (by decide) ?_
  exact h178 l1 l2 l3 l4 l5 (l6 + (nI 1)) S2 _ _ ls hP hD hS (lv_sub hl [2, 3, 4, 5, 6, 7, 0] rfl) hf
def fX3_copy_b178 : Nat → Int32 → Int32 → Int32 → Int32 → Int32 → Int32 → mS → Option (Int32 × mS)
  | 0, _, _, _, _, _, _, _ => none
  | n + 1, l1, l2, l3, l4, l5, l6, S =>
    if l5 ≤ l6 then
      some (l5, S)
    else
      if l4 ≤ l3 then
        fX3_copy_b203 (fX3_copy_b178 n) l1 l2 l3 l4 l5 l6 l6 S
      else
        fX3_copy_b203 (fX3_copy_b178 n) l1 l2 l3 l4 l5 l6 ((l5 - (nI 1)) - l6) S
theorem wX3_copy_b178 (hc : mC p s m args meth c D cI cJ cX3_copy 8 (some .int)) : ∀ (n : Nat) (l1 : Int32) (l2 : Int32) (l3 : Int32) (l4 : Int32) (l5 : Int32) (l6 : Int32) (S : mS) (H : Heap) (locs : List Loc) (ls : Array Slot), va_P D mCl (mws am cI cJ S) H → va_D (mA am) (mws am cI cJ S) → va_S (mA am) s.heap H locs → lv_has ls 8 [(0, .ref (am 0)), (1, .int l1), (2, .int l2), (3, .int l3), (4, .int l4), (5, .int l5), (6, .int l6)] → fX3_copy_b178 n l1 l2 l3 l4 l5 l6 S = some (r, Sf) → W p l e (mR 2 45) s m args below meth c H locs 0 0 (mQ below D am cI cJ (some (.int r)) Sf args s) (F0 m 178 ls []) := by
  obtain ⟨hx, hb, hr, hlk, hml, hown, hts, hK⟩ := hc
  have hc : mC p s m args meth c D cI cJ cX3_copy 8 (some .int) := ⟨hx, hb, hr, hlk, hml, hown, hts, hK⟩
  intro n
  induction n with
  | zero => intro l1 l2 l3 l4 l5 l6 S H locs ls _ _ _ _ hf; exact absurd hf (fun h => by cases h)
  | succ n ih =>
    intro l1 l2 l3 l4 l5 l6 S H locs ls hP hD hS hl hf
    rw [fX3_copy_b178] at hf
    refine lv_iload (pc := 178) hx hb dX3_copy_178 (lv_at hl 6 rfl) ?_
    refine lv_iload (pc := 180) hx hb dX3_copy_180 (lv_at hl 5 rfl) ?_
    refine lv_icmp_ge (pc := 182) (tgt := 240) hx hb dX3_copy_182 (by decide) (fun c1 => ?_) (fun c1 => ?_)
    · rw [if_pos c1] at hf
      refine lv_iload (pc := 240) hx hb dX3_copy_240 (lv_at hl 5 rfl) ?_
      exact m_iret (pc := 242) hx hb hr hlk hP hD hS hf dX3_copy_242
    · rw [if_neg c1] at hf
      refine lv_iload_n (pc := 185) hx hb dX3_copy_185 rfl (lv_at hl 3 rfl) ?_
      refine lv_iload (pc := 186) hx hb dX3_copy_186 (lv_at hl 4 rfl) ?_
      refine lv_icmp_ge (pc := 188) (tgt := 201) hx hb dX3_copy_188 (by decide) (fun c2 => ?_) (fun c2 => ?_)
      · rw [if_pos c2] at hf
        refine lv_iload (pc := 201) hx hb dX3_copy_201 (lv_at hl 6 rfl) ?_
        exact wX3_copy_b203 hc (fX3_copy_b178 n) ih l1 l2 l3 l4 l5 l6 l6 S _ _ ls hP hD hS (lv_sub hl [0, 1, 2, 3, 4, 5, 6] rfl) hf
      · rw [if_neg c2] at hf
        refine lv_iload (pc := 191) hx hb dX3_copy_191 (lv_at hl 5 rfl) ?_
        refine lv_iconst (pc := 193) (v := nI 1) hx hb dX3_copy_193 rfl ?_
        refine lv_isub (pc := 194) hx hb dX3_copy_194 ?_
        refine lv_iload (pc := 195) hx hb dX3_copy_195 (lv_at hl 6 rfl) ?_
        refine lv_isub (pc := 197) hx hb dX3_copy_197 ?_
        refine lv_goto (pc := 198) (tgt := 203) hx hb dX3_copy_198 (by decide) ?_
        exact wX3_copy_b203 hc (fX3_copy_b178 n) ih l1 l2 l3 l4 l5 l6 ((l5 - (nI 1)) - l6) S _ _ ls hP hD hS (lv_sub hl [0, 1, 2, 3, 4, 5, 6] rfl) hf
def fX3_copy_b81 (l1 : Int32) (l2 : Int32) (l3 : Int32) (l4 : Int32) (l5 : Int32) (S : mS) : Option (Int32 × mS) :=
  bd (mrd S 8 8 l1) fun v1 =>
  if v1 < 0 then
    fX3_copy_b99  S
  else
    bd (mrd S 8 8 l2) fun v3 =>
    if 0 ≤ v3 then
      if l3 < 0 then
        fX3_copy_b168  S
      else
        if l4 < 0 then
          fX3_copy_b168  S
        else
          if l5 < 0 then
            fX3_copy_b168  S
          else
            bd (mrd S 9 8 l1) fun v8 =>
            if v8 < l3 then
              fX3_copy_b168  S
            else
              bd (mrd S 9 8 l2) fun v10 =>
              if v10 < l4 then
                fX3_copy_b168  S
              else
                bd (mrd S 9 8 l1) fun v12 =>
                if (v12 - l3) < l5 then
                  fX3_copy_b168  S
                else
                  bd (mrd S 9 8 l2) fun v14 =>
                  if l5 ≤ (v14 - l4) then
                    fX3_copy_b178 FU l1 l2 l3 l4 l5 (nI 0) S
                  else
                    fX3_copy_b168  S
    else
      fX3_copy_b99  S
theorem wX3_copy_b81 (hc : mC p s m args meth c D cI cJ cX3_copy 8 (some .int)) (l1 : Int32) (l2 : Int32) (l3 : Int32) (l4 : Int32) (l5 : Int32) (S : mS) (H : Heap) (locs : List Loc) (ls : Array Slot) (hP : va_P D mCl (mws am cI cJ S) H) (hD : va_D (mA am) (mws am cI cJ S)) (hS : va_S (mA am) s.heap H locs) (hl : lv_has ls 8 [(0, .ref (am 0)), (1, .int l1), (2, .int l2), (3, .int l3), (4, .int l4), (5, .int l5)]) (hf : fX3_copy_b81 l1 l2 l3 l4 l5 S = some (r, Sf)) : W p l e (mR 2 45) s m args below meth c H locs 0 0 (mQ below D am cI cJ (some (.int r)) Sf args s) (F0 m 81 ls []) := by
  obtain ⟨hx, hb, hr, hlk, hml, hown, hts, hK⟩ := hc
  have hc : mC p s m args meth c D cI cJ cX3_copy 8 (some .int) := ⟨hx, hb, hr, hlk, hml, hown, hts, hK⟩
  unfold fX3_copy_b81 at hf
  refine lv_aload_n (pc := 81) hx hb dX3_copy_81 rfl (lv_at hl 0 rfl) ?_
  refine va_get (D := D) (ci := 0) (v := .ref (am 9)) (C := RX3) (T := TX3) (N := 17) (pc := 82) hx hb hts in_X3 hown hK hP 0 rfl rfl 13 (by decide) (hts _ q2852) (fun _ h9 => h9) rfl dX3_copy_82 ?_
  refine lv_iload_n (pc := 85) hx hb dX3_copy_85 rfl (lv_at hl 1 rfl) ?_
  obtain ⟨v1, e1, hf⟩ := bdo hf
  refine m_iald (pc := 86) (k := 8) hx hb hK hP rfl e1 dX3_copy_86 ?_
  refine lv_if_lt (pc := 87) (tgt := 99) hx hb dX3_copy_87 (by decide) (fun c2 => ?_) (fun c2 => ?_)
  · rw [if_pos c2] at hf
    exact wX3_copy_b99 hc  S _ _ ls hP hD hS (lv_sub hl [0] rfl) hf
  · rw [if_neg c2] at hf
    refine lv_aload_n (pc := 90) hx hb dX3_copy_90 rfl (lv_at hl 0 rfl) ?_
    refine va_get (D := D) (ci := 0) (v := .ref (am 9)) (C := RX3) (T := TX3) (N := 17) (pc := 91) hx hb hts in_X3 hown hK hP 0 rfl rfl 13 (by decide) (hts _ q2852) (fun _ h9 => h9) rfl dX3_copy_91 ?_
    refine lv_iload_n (pc := 94) hx hb dX3_copy_94 rfl (lv_at hl 2 rfl) ?_
    obtain ⟨v3, e3, hf⟩ := bdo hf
    refine m_iald (pc := 95) (k := 8) hx hb hK hP rfl e3 dX3_copy_95 ?_
    refine lv_if_ge (pc := 96) (tgt := 106) hx hb dX3_copy_96 (by decide) (fun c4 => ?_) (fun c4 => ?_)
    · rw [if_pos c4] at hf
      refine lv_iload_n (pc := 106) hx hb dX3_copy_106 rfl (lv_at hl 3 rfl) ?_
      refine lv_if_lt (pc := 107) (tgt := 168) hx hb dX3_copy_107 (by decide) (fun c5 => ?_) (fun c5 => ?_)
      · rw [if_pos c5] at hf
        exact wX3_copy_b168 hc  S _ _ ls hP hD hS (lv_sub hl [0] rfl) hf
      · rw [if_neg c5] at hf
        refine lv_iload (pc := 110) hx hb dX3_copy_110 (lv_at hl 4 rfl) ?_
        refine lv_if_lt (pc := 112) (tgt := 168) hx hb dX3_copy_112 (by decide) (fun c6 => ?_) (fun c6 => ?_)
        · rw [if_pos c6] at hf
          exact wX3_copy_b168 hc  S _ _ ls hP hD hS (lv_sub hl [0] rfl) hf
        · rw [if_neg c6] at hf
          refine lv_iload (pc := 115) hx hb dX3_copy_115 (lv_at hl 5 rfl) ?_
          refine lv_if_lt (pc := 117) (tgt := 168) hx hb dX3_copy_117 (by decide) (fun c7 => ?_) (fun c7 => ?_)
          · rw [if_pos c7] at hf
            exact wX3_copy_b168 hc  S _ _ ls hP hD hS (lv_sub hl [0] rfl) hf
          · rw [if_neg c7] at hf
            refine lv_iload_n (pc := 120) hx hb dX3_copy_120 rfl (lv_at hl 3 rfl) ?_
            refine lv_aload_n (pc := 121) hx hb dX3_copy_121 rfl (lv_at hl 0 rfl) ?_
            refine va_get (D := D) (ci := 0) (v := .ref (am 10)) (C := RX3) (T := TX3) (N := 17) (pc := 122) hx hb hts in_X3 hown hK hP 0 rfl rfl 14 (by decide) (hts _ q2853) (fun _ h9 => h9) rfl dX3_copy_122 ?_
            refine lv_iload_n (pc := 125) hx hb dX3_copy_125 rfl (lv_at hl 1 rfl) ?_
            obtain ⟨v8, e8, hf⟩ := bdo hf
            refine m_iald (pc := 126) (k := 9) hx hb hK hP rfl e8 dX3_copy_126 ?_
            refine lv_icmp_gt (pc := 127) (tgt := 168) hx hb dX3_copy_127 (by decide) (fun c9 => ?_) (fun c9 => ?_)
            · rw [if_pos c9] at hf
              exact wX3_copy_b168 hc  S _ _ ls hP hD hS (lv_sub hl [0] rfl) hf
            · rw [if_neg c9] at hf
              refine lv_iload (pc := 130) hx hb dX3_copy_130 (lv_at hl 4 rfl) ?_
              refine lv_aload_n (pc := 132) hx hb dX3_copy_132 rfl (lv_at hl 0 rfl) ?_
              refine va_get (D := D) (ci := 0) (v := .ref (am 10)) (C := RX3) (T := TX3) (N := 17) (pc := 133) hx hb hts in_X3 hown hK hP 0 rfl rfl 14 (by decide) (hts _ q2853) (fun _ h9 => h9) rfl dX3_copy_133 ?_
              refine lv_iload_n (pc := 136) hx hb dX3_copy_136 rfl (lv_at hl 2 rfl) ?_
              obtain ⟨v10, e10, hf⟩ := bdo hf
              refine m_iald (pc := 137) (k := 9) hx hb hK hP rfl e10 dX3_copy_137 ?_
              refine lv_icmp_gt (pc := 138) (tgt := 168) hx hb dX3_copy_138 (by decide) (fun c11 => ?_) (fun c11 => ?_)
              · rw [if_pos c11] at hf
                exact wX3_copy_b168 hc  S _ _ ls hP hD hS (lv_sub hl [0] rfl) hf
              · rw [if_neg c11] at hf
                refine lv_iload (pc := 141) hx hb dX3_copy_141 (lv_at hl 5 rfl) ?_
                refine lv_aload_n (pc := 143) hx hb dX3_copy_143 rfl (lv_at hl 0 rfl) ?_
                refine va_get (D := D) (ci := 0) (v := .ref (am 10)) (C := RX3) (T := TX3) (N := 17) (pc := 144) hx hb hts in_X3 hown hK hP 0 rfl rfl 14 (by decide) (hts _ q2853) (fun _ h9 => h9) rfl dX3_copy_144 ?_
                refine lv_iload_n (pc := 147) hx hb dX3_copy_147 rfl (lv_at hl 1 rfl) ?_
                obtain ⟨v12, e12, hf⟩ := bdo hf
                refine m_iald (pc := 148) (k := 9) hx hb hK hP rfl e12 dX3_copy_148 ?_
                refine lv_iload_n (pc := 149) hx hb dX3_copy_149 rfl (lv_at hl 3 rfl) ?_
                refine lv_isub (pc := 150) hx hb dX3_copy_150 ?_
                refine lv_icmp_gt (pc := 151) (tgt := 168) hx hb dX3_copy_151 (by decide) (fun c13 => ?_) (fun c13 => ?_)
                · rw [if_pos c13] at hf
                  exact wX3_copy_b168 hc  S _ _ ls hP hD hS (lv_sub hl [0] rfl) hf
                · rw [if_neg c13] at hf
                  refine lv_iload (pc := 154) hx hb dX3_copy_154 (lv_at hl 5 rfl) ?_
                  refine lv_aload_n (pc := 156) hx hb dX3_copy_156 rfl (lv_at hl 0 rfl) ?_
                  refine va_get (D := D) (ci := 0) (v := .ref (am 10)) (C := RX3) (T := TX3) (N := 17) (pc := 157) hx hb hts in_X3 hown hK hP 0 rfl rfl 14 (by decide) (hts _ q2853) (fun _ h9 => h9) rfl dX3_copy_157 ?_
                  refine lv_iload_n (pc := 160) hx hb dX3_copy_160 rfl (lv_at hl 2 rfl) ?_
                  obtain ⟨v14, e14, hf⟩ := bdo hf
                  refine m_iald (pc := 161) (k := 9) hx hb hK hP rfl e14 dX3_copy_161 ?_
                  refine lv_iload (pc := 162) hx hb dX3_copy_162 (lv_at hl 4 rfl) ?_
                  refine lv_isub (pc := 164) hx hb dX3_copy_164 ?_
                  refine lv_icmp_le (pc := 165) (tgt := 175) hx hb dX3_copy_165 (by decide) (fun c15 => ?_) (fun c15 => ?_)
                  · rw [if_pos c15] at hf
                    refine lv_iconst (pc := 175) (v := nI 0) hx hb dX3_copy_175 rfl ?_
                    refine lv_istore (pc := 176) (lv' := [(6, .int (nI 0)), (0, .ref (am 0)), (1, .int l1), (2, .int l2), (3, .int l3), (4, .int l4), (5, .int l5)]) hx hb dX3_copy_176 hl (by decide) rfl (fun ls hl => ?_)
                    exact wX3_copy_b178 hc FU l1 l2 l3 l4 l5 (nI 0) S _ _ ls hP hD hS (lv_sub hl [1, 2, 3, 4, 5, 6, 0] rfl) hf
                  · rw [if_neg c15] at hf
                    exact wX3_copy_b168 hc  S _ _ ls hP hD hS (lv_sub hl [0] rfl) hf
    · rw [if_neg c4] at hf
      exact wX3_copy_b99 hc  S _ _ ls hP hD hS (lv_sub hl [0] rfl) hf
def fX3_copy (l1 : Int32) (l2 : Int32) (l3 : Int32) (l4 : Int32) (l5 : Int32) (S : mS) : Option (Int32 × mS) :=
  bd2 (fX3_isShelf l1 S) fun v1 S1 =>
  if v1 = 0 then
    fX3_copy_b14  S1
  else
    bd2 (fX3_isShelf l2 S1) fun v3 S3 =>
    if v3 = 0 then
      fX3_copy_b14  S3
    else
      bd (mrd S3 8 8 l1) fun v5 =>
      if (nI 4) < v5 then
        fX3_copy_b74  S3
      else
        bd (mrd S3 8 8 l2) fun v7 =>
        if (nI 4) < v7 then
          fX3_copy_b74  S3
        else
          bd (mrd S3 8 8 l1) fun v9 =>
          if v9 < 0 then
            fX3_copy_b81 l1 l2 l3 l4 l5 S3
          else
            bd (mrd S3 8 8 l2) fun v11 =>
            if v11 < 0 then
              fX3_copy_b81 l1 l2 l3 l4 l5 S3
            else
              bd (mrd S3 8 8 l1) fun v13 =>
              bd (mrd S3 8 8 l2) fun v14 =>
              if v13 = v14 then
                fX3_copy_b81 l1 l2 l3 l4 l5 S3
              else
                fX3_copy_b74  S3
theorem wX3_copy_b0 (hc : mC p s m args meth c D cI cJ cX3_copy 8 (some .int)) (l1 : Int32) (l2 : Int32) (l3 : Int32) (l4 : Int32) (l5 : Int32) (S : mS) (H : Heap) (locs : List Loc) (ls : Array Slot) (hP : va_P D mCl (mws am cI cJ S) H) (hD : va_D (mA am) (mws am cI cJ S)) (hS : va_S (mA am) s.heap H locs) (hl : lv_has ls 8 [(0, .ref (am 0)), (1, .int l1), (2, .int l2), (3, .int l3), (4, .int l4), (5, .int l5)]) (hf : fX3_copy l1 l2 l3 l4 l5 S = some (r, Sf)) : W p l e (mR 2 45) s m args below meth c H locs 0 0 (mQ below D am cI cJ (some (.int r)) Sf args s) (F0 m 0 ls []) := by
  obtain ⟨hx, hb, hr, hlk, hml, hown, hts, hK⟩ := hc
  have hc : mC p s m args meth c D cI cJ cX3_copy 8 (some .int) := ⟨hx, hb, hr, hlk, hml, hown, hts, hK⟩
  unfold fX3_copy at hf
  refine lv_iload_n (pc := 0) hx hb dX3_copy_0 rfl (lv_at hl 1 rfl) ?_
  obtain ⟨v1, S1, e1, hf⟩ := bd2o hf
  refine m_callS (pc := 1) (As := [.int l1]) (rest := []) (st1 := [.int v1]) hc (mX3_isShelf e1) (va_cwS 1 hts (lw_S q3206 q3207 q105 q3208) rfl rfl rfl hdX3_isShelf ⟨Nat.le_of_ble_eq_true rfl, Nat.le_of_ble_eq_true rfl⟩) rfl hl.1 rfl rfl (lv_room (Nat.le_of_ble_eq_true rfl)) dX3_copy_1 hP hD hS (fun H locs hP hD hS => ?_)
  refine lv_if_eq (pc := 4) (tgt := 14) hx hb dX3_copy_4 (by decide) (fun c2 => ?_) (fun c2 => ?_)
  · rw [if_pos c2] at hf
    exact wX3_copy_b14 hc  S1 _ _ ls hP hD hS (lv_sub hl [0] rfl) hf
  · rw [if_neg c2] at hf
    refine lv_iload_n (pc := 7) hx hb dX3_copy_7 rfl (lv_at hl 2 rfl) ?_
    obtain ⟨v3, S3, e3, hf⟩ := bd2o hf
    refine m_callS (pc := 8) (As := [.int l2]) (rest := []) (st1 := [.int v3]) hc (mX3_isShelf e3) (va_cwS 1 hts (lw_S q3206 q3207 q105 q3208) rfl rfl rfl hdX3_isShelf ⟨Nat.le_of_ble_eq_true rfl, Nat.le_of_ble_eq_true rfl⟩) rfl hl.1 rfl rfl (lv_room (Nat.le_of_ble_eq_true rfl)) dX3_copy_8 hP hD hS (fun H locs hP hD hS => ?_)
    refine lv_if_ne (pc := 11) (tgt := 21) hx hb dX3_copy_11 (by decide) (fun c4 => ?_) (fun c4 => ?_)
    · rw [if_neg c4] at hf
      refine lv_aload_n (pc := 21) hx hb dX3_copy_21 rfl (lv_at hl 0 rfl) ?_
      refine va_get (D := D) (ci := 0) (v := .ref (am 9)) (C := RX3) (T := TX3) (N := 17) (pc := 22) hx hb hts in_X3 hown hK hP 0 rfl rfl 13 (by decide) (hts _ q2852) (fun _ h9 => h9) rfl dX3_copy_22 ?_
      refine lv_iload_n (pc := 25) hx hb dX3_copy_25 rfl (lv_at hl 1 rfl) ?_
      obtain ⟨v5, e5, hf⟩ := bdo hf
      refine m_iald (pc := 26) (k := 8) hx hb hK hP rfl e5 dX3_copy_26 ?_
      refine lv_iconst (pc := 27) (v := nI 4) hx hb dX3_copy_27 rfl ?_
      refine lv_icmp_gt (pc := 28) (tgt := 74) hx hb dX3_copy_28 (by decide) (fun c6 => ?_) (fun c6 => ?_)
      · rw [if_pos c6] at hf
        exact wX3_copy_b74 hc  S3 _ _ ls hP hD hS (lv_sub hl [0] rfl) hf
      · rw [if_neg c6] at hf
        refine lv_aload_n (pc := 31) hx hb dX3_copy_31 rfl (lv_at hl 0 rfl) ?_
        refine va_get (D := D) (ci := 0) (v := .ref (am 9)) (C := RX3) (T := TX3) (N := 17) (pc := 32) hx hb hts in_X3 hown hK hP 0 rfl rfl 13 (by decide) (hts _ q2852) (fun _ h9 => h9) rfl dX3_copy_32 ?_
        refine lv_iload_n (pc := 35) hx hb dX3_copy_35 rfl (lv_at hl 2 rfl) ?_
        obtain ⟨v7, e7, hf⟩ := bdo hf
        refine m_iald (pc := 36) (k := 8) hx hb hK hP rfl e7 dX3_copy_36 ?_
        refine lv_iconst (pc := 37) (v := nI 4) hx hb dX3_copy_37 rfl ?_
        refine lv_icmp_gt (pc := 38) (tgt := 74) hx hb dX3_copy_38 (by decide) (fun c8 => ?_) (fun c8 => ?_)
        · rw [if_pos c8] at hf
          exact wX3_copy_b74 hc  S3 _ _ ls hP hD hS (lv_sub hl [0] rfl) hf
        · rw [if_neg c8] at hf
          refine lv_aload_n (pc := 41) hx hb dX3_copy_41 rfl (lv_at hl 0 rfl) ?_
          refine va_get (D := D) (ci := 0) (v := .ref (am 9)) (C := RX3) (T := TX3) (N := 17) (pc := 42) hx hb hts in_X3 hown hK hP 0 rfl rfl 13 (by decide) (hts _ q2852) (fun _ h9 => h9) rfl dX3_copy_42 ?_
          refine lv_iload_n (pc := 45) hx hb dX3_copy_45 rfl (lv_at hl 1 rfl) ?_
          obtain ⟨v9, e9, hf⟩ := bdo hf
          refine m_iald (pc := 46) (k := 8) hx hb hK hP rfl e9 dX3_copy_46 ?_
          refine lv_if_lt (pc := 47) (tgt := 81) hx hb dX3_copy_47 (by decide) (fun c10 => ?_) (fun c10 => ?_)
          · rw [if_pos c10] at hf
            exact wX3_copy_b81 hc l1 l2 l3 l4 l5 S3 _ _ ls hP hD hS (lv_sub hl [0, 1, 2, 3, 4, 5] rfl) hf
          · rw [if_neg c10] at hf
            refine lv_aload_n (pc := 50) hx hb dX3_copy_50 rfl (lv_at hl 0 rfl) ?_
            refine va_get (D := D) (ci := 0) (v := .ref (am 9)) (C := RX3) (T := TX3) (N := 17) (pc := 51) hx hb hts in_X3 hown hK hP 0 rfl rfl 13 (by decide) (hts _ q2852) (fun _ h9 => h9) rfl dX3_copy_51 ?_
            refine lv_iload_n (pc := 54) hx hb dX3_copy_54 rfl (lv_at hl 2 rfl) ?_
            obtain ⟨v11, e11, hf⟩ := bdo hf
            refine m_iald (pc := 55) (k := 8) hx hb hK hP rfl e11 dX3_copy_55 ?_
            refine lv_if_lt (pc := 56) (tgt := 81) hx hb dX3_copy_56 (by decide) (fun c12 => ?_) (fun c12 => ?_)
            · rw [if_pos c12] at hf
              exact wX3_copy_b81 hc l1 l2 l3 l4 l5 S3 _ _ ls hP hD hS (lv_sub hl [0, 1, 2, 3, 4, 5] rfl) hf
            · rw [if_neg c12] at hf
              refine lv_aload_n (pc := 59) hx hb dX3_copy_59 rfl (lv_at hl 0 rfl) ?_
              refine va_get (D := D) (ci := 0) (v := .ref (am 9)) (C := RX3) (T := TX3) (N := 17) (pc := 60) hx hb hts in_X3 hown hK hP 0 rfl rfl 13 (by decide) (hts _ q2852) (fun _ h9 => h9) rfl dX3_copy_60 ?_
              refine lv_iload_n (pc := 63) hx hb dX3_copy_63 rfl (lv_at hl 1 rfl) ?_
              obtain ⟨v13, e13, hf⟩ := bdo hf
              refine m_iald (pc := 64) (k := 8) hx hb hK hP rfl e13 dX3_copy_64 ?_
              refine lv_aload_n (pc := 65) hx hb dX3_copy_65 rfl (lv_at hl 0 rfl) ?_
              refine va_get (D := D) (ci := 0) (v := .ref (am 9)) (C := RX3) (T := TX3) (N := 17) (pc := 66) hx hb hts in_X3 hown hK hP 0 rfl rfl 13 (by decide) (hts _ q2852) (fun _ h9 => h9) rfl dX3_copy_66 ?_
              refine lv_iload_n (pc := 69) hx hb dX3_copy_69 rfl (lv_at hl 2 rfl) ?_
              obtain ⟨v14, e14, hf⟩ := bdo hf
              refine m_iald (pc := 70) (k := 8) hx hb hK hP rfl e14 dX3_copy_70 ?_
              refine lv_icmp_eq (pc := 71) (tgt := 81) hx hb dX3_copy_71 (by decide) (fun c15 => ?_) (fun c15 => ?_)
              · rw [if_pos c15] at hf
                exact wX3_copy_b81 hc l1 l2 l3 l4 l5 S3 _ _ ls hP hD hS (lv_sub hl [0, 1, 2, 3, 4, 5] rfl) hf
              · rw [if_neg c15] at hf
                exact wX3_copy_b74 hc  S3 _ _ ls hP hD hS (lv_sub hl [0] rfl) hf
    · rw [if_pos c4] at hf
      exact wX3_copy_b14 hc  S3 _ _ ls hP hD hS (lv_sub hl [0] rfl) hf
theorem mX3_copy {S S2 : mS} {r2 : Int32} {l1 : Int32} {l2 : Int32} {l3 : Int32} {l4 : Int32} {l5 : Int32} (hf : fX3_copy l1 l2 l3 l4 l5 S = some (r2, S2)) : mMet l yX3_copy cX3_copy 8 (some .int) 2 45 D am cI cJ [.ref (am 0), .int l1, .int l2, .int l3, .int l4, .int l5] S (some (.int r2)) S2 := by
  exact m_start (by decide) rfl (Nat.le_of_ble_eq_true rfl) (fun p e s m args below meth c ls hc hl hP hD => wX3_copy_b0 hc l1 l2 l3 l4 l5 S _ _ ls hP hD va_S.rf (lv_sub hl [0, 1, 2, 3, 4, 5] rfl) hf)
end
section
variable {r : Int64} {Sf : mS}
def fX3_element (l1 : Int32) (l2 : Int32) (S : mS) : Option (Int64 × mS) :=
  bd2 (fX3_isShelf l1 S) fun v1 S1 =>
  if v1 = 0 then
    some (lN 0, S1)
  else
    bd (mrd S1 8 8 l1) fun v3 =>
    bd2 (fX3_in v3.toInt64 (lN 0) (lN 4) S1) fun v4 S4 =>
    if v4 = 0 then
      some (lN 0, S4)
    else
      bd (mrd S4 9 8 l1) fun v6 =>
      bd2 (fX3_in l2.toInt64 (lN 0) ((v6 - (nI 1)).toInt64) S4) fun v7 S7 =>
      if v7 = 0 then
        some (lN 0, S7)
      else
        bd (mrdL S7 (((nI 40) * l1) + l2)) fun v9 =>
        some (v9, S7)
theorem wX3_element_b0 (hc : mC p s m args meth c D cI cJ cX3_element 3 (some .long)) (l1 : Int32) (l2 : Int32) (S : mS) (H : Heap) (locs : List Loc) (ls : Array Slot) (hP : va_P D mCl (mws am cI cJ S) H) (hD : va_D (mA am) (mws am cI cJ S)) (hS : va_S (mA am) s.heap H locs) (hl : lv_has ls 3 [(0, .ref (am 0)), (1, .int l1), (2, .int l2)]) (hf : fX3_element l1 l2 S = some (r, Sf)) : W p l e (mR 2 45) s m args below meth c H locs 0 0 (mQ below D am cI cJ (some (.long r)) Sf args s) (F0 m 0 ls []) := by
  obtain ⟨hx, hb, hr, hlk, hml, hown, hts, hK⟩ := hc
  have hc : mC p s m args meth c D cI cJ cX3_element 3 (some .long) := ⟨hx, hb, hr, hlk, hml, hown, hts, hK⟩
  unfold fX3_element at hf
  refine lv_iload_n (pc := 0) hx hb dX3_element_0 rfl (lv_at hl 1 rfl) ?_
  obtain ⟨v1, S1, e1, hf⟩ := bd2o hf
  refine m_callS (pc := 1) (As := [.int l1]) (rest := []) (st1 := [.int v1]) hc (mX3_isShelf e1) (va_cwS 1 hts (lw_S q3206 q3207 q105 q3208) rfl rfl rfl hdX3_isShelf ⟨Nat.le_of_ble_eq_true rfl, Nat.le_of_ble_eq_true rfl⟩) rfl hl.1 rfl rfl (lv_room (Nat.le_of_ble_eq_true rfl)) dX3_element_1 hP hD hS (fun H locs hP hD hS => ?_)
  refine lv_if_eq (pc := 4) (tgt := 56) hx hb dX3_element_4 (by decide) (fun c2 => ?_) (fun c2 => ?_)
  · rw [if_pos c2] at hf
    refine lv_lconst (pc := 56) (v := lN 0) hx hb dX3_element_56 rfl ?_
    exact m_lret (pc := 57) hx hb hr hlk hP hD hS hf dX3_element_57
  · rw [if_neg c2] at hf
    refine lv_aload_n (pc := 7) hx hb dX3_element_7 rfl (lv_at hl 0 rfl) ?_
    refine va_get (D := D) (ci := 0) (v := .ref (am 9)) (C := RX3) (T := TX3) (N := 17) (pc := 8) hx hb hts in_X3 hown hK hP 0 rfl rfl 13 (by decide) (hts _ q2852) (fun _ h9 => h9) rfl dX3_element_8 ?_
    refine lv_iload_n (pc := 11) hx hb dX3_element_11 rfl (lv_at hl 1 rfl) ?_
    obtain ⟨v3, e3, hf⟩ := bdo hf
    refine m_iald (pc := 12) (k := 8) hx hb hK hP rfl e3 dX3_element_12 ?_
    refine lv_i2l (pc := 13) hx hb dX3_element_13 rfl ?_
    refine lv_lconst (pc := 14) (v := lN 0) hx hb dX3_element_14 rfl ?_
    refine lv_ldc2 (pc := 15) (v := lN 4) hx hb hown (hts _ q3150) dX3_element_15 ?_
    obtain ⟨v4, S4, e4, hf⟩ := bd2o hf
    refine m_callS (pc := 18) (As := [.long v3.toInt64, .long (lN 0), .long (lN 4)]) (rest := []) (st1 := [.int v4]) hc (mX3_in e4) (va_cwS 3 hts (lw_S q2896 q2897 q105 q2898) rfl rfl rfl hdX3_in ⟨Nat.le_of_ble_eq_true rfl, Nat.le_of_ble_eq_true rfl⟩) rfl hl.1 rfl rfl (lv_room (Nat.le_of_ble_eq_true rfl)) dX3_element_18 hP hD hS (fun H locs hP hD hS => ?_)
    refine lv_if_eq (pc := 21) (tgt := 56) hx hb dX3_element_21 (by decide) (fun c5 => ?_) (fun c5 => ?_)
    · rw [if_pos c5] at hf
      refine lv_lconst (pc := 56) (v := lN 0) hx hb dX3_element_56 rfl ?_
      exact m_lret (pc := 57) hx hb hr hlk hP hD hS hf dX3_element_57
    · rw [if_neg c5] at hf
      refine lv_iload_n (pc := 24) hx hb dX3_element_24 rfl (lv_at hl 2 rfl) ?_
      refine lv_i2l (pc := 25) hx hb dX3_element_25 rfl ?_
      refine lv_lconst (pc := 26) (v := lN 0) hx hb dX3_element_26 rfl ?_
      refine lv_aload_n (pc := 27) hx hb dX3_element_27 rfl (lv_at hl 0 rfl) ?_
      refine va_get (D := D) (ci := 0) (v := .ref (am 10)) (C := RX3) (T := TX3) (N := 17) (pc := 28) hx hb hts in_X3 hown hK hP 0 rfl rfl 14 (by decide) (hts _ q2853) (fun _ h9 => h9) rfl dX3_element_28 ?_
      refine lv_iload_n (pc := 31) hx hb dX3_element_31 rfl (lv_at hl 1 rfl) ?_
      obtain ⟨v6, e6, hf⟩ := bdo hf
      refine m_iald (pc := 32) (k := 9) hx hb hK hP rfl e6 dX3_element_32 ?_
      refine lv_iconst (pc := 33) (v := nI 1) hx hb dX3_element_33 rfl ?_
      refine lv_isub (pc := 34) hx hb dX3_element_34 ?_
      refine lv_i2l (pc := 35) hx hb dX3_element_35 rfl ?_
      obtain ⟨v7, S7, e7, hf⟩ := bd2o hf
      refine m_callS (pc := 36) (As := [.long l2.toInt64, .long (lN 0), .long ((v6 - (nI 1)).toInt64)]) (rest := []) (st1 := [.int v7]) hc (mX3_in e7) (va_cwS 3 hts (lw_S q2896 q2897 q105 q2898) rfl rfl rfl hdX3_in ⟨Nat.le_of_ble_eq_true rfl, Nat.le_of_ble_eq_true rfl⟩) rfl hl.1 rfl rfl (lv_room (Nat.le_of_ble_eq_true rfl)) dX3_element_36 hP hD hS (fun H locs hP hD hS => ?_)
      refine lv_if_eq (pc := 39) (tgt := 56) hx hb dX3_element_39 (by decide) (fun c8 => ?_) (fun c8 => ?_)
      · rw [if_pos c8] at hf
        refine lv_lconst (pc := 56) (v := lN 0) hx hb dX3_element_56 rfl ?_
        exact m_lret (pc := 57) hx hb hr hlk hP hD hS hf dX3_element_57
      · rw [if_neg c8] at hf
        refine lv_aload_n (pc := 42) hx hb dX3_element_42 rfl (lv_at hl 0 rfl) ?_
        refine va_get (D := D) (ci := 0) (v := .ref (am 12)) (C := RX3) (T := TX3) (N := 17) (pc := 43) hx hb hts in_X3 hown hK hP 0 rfl rfl 15 (by decide) (hts _ q2854) (fun _ h9 => h9) rfl dX3_element_43 ?_
        refine lv_bipush (pc := 46) (v := nI 40) hx hb dX3_element_46 kcb40 ?_
        refine lv_iload_n (pc := 48) hx hb dX3_element_48 rfl (lv_at hl 1 rfl) ?_
        refine lv_imul (pc := 49) hx hb dX3_element_49 ?_
        refine lv_iload_n (pc := 50) hx hb dX3_element_50 rfl (lv_at hl 2 rfl) ?_
        refine lv_iadd (pc := 51) hx hb dX3_element_51 ?_
        obtain ⟨v9, e9, hf⟩ := bdo hf
        refine m_lald (pc := 52) hx hb hK hP e9 dX3_element_52 ?_
        refine lv_goto (pc := 53) (tgt := 57) hx hb dX3_element_53 (by decide) ?_
        exact m_lret (pc := 57) hx hb hr hlk hP hD hS hf dX3_element_57
theorem mX3_element {S S2 : mS} {r2 : Int64} {l1 : Int32} {l2 : Int32} (hf : fX3_element l1 l2 S = some (r2, S2)) : mMet l yX3_element cX3_element 3 (some .long) 2 45 D am cI cJ [.ref (am 0), .int l1, .int l2] S (some (.long r2)) S2 := by
  exact m_start (by decide) rfl (Nat.le_of_ble_eq_true rfl) (fun p e s m args below meth c ls hc hl hP hD => wX3_element_b0 hc l1 l2 S _ _ ls hP hD va_S.rf (lv_sub hl [0, 1, 2] rfl) hf)
end
section
variable {r : Int32} {Sf : mS}
def fX3_holds (l1 : Int32) (S : mS) : Option (Int32 × mS) :=
  bd2 (fX3_isShelf l1 S) fun v1 S1 =>
  if v1 = 0 then
    some (-1, S1)
  else
    bd (mrd S1 8 8 l1) fun v3 =>
    some (v3, S1)
theorem wX3_holds_b0 (hc : mC p s m args meth c D cI cJ cX3_holds 2 (some .int)) (l1 : Int32) (S : mS) (H : Heap) (locs : List Loc) (ls : Array Slot) (hP : va_P D mCl (mws am cI cJ S) H) (hD : va_D (mA am) (mws am cI cJ S)) (hS : va_S (mA am) s.heap H locs) (hl : lv_has ls 2 [(0, .ref (am 0)), (1, .int l1)]) (hf : fX3_holds l1 S = some (r, Sf)) : W p l e (mR 2 45) s m args below meth c H locs 0 0 (mQ below D am cI cJ (some (.int r)) Sf args s) (F0 m 0 ls []) := by
  obtain ⟨hx, hb, hr, hlk, hml, hown, hts, hK⟩ := hc
  have hc : mC p s m args meth c D cI cJ cX3_holds 2 (some .int) := ⟨hx, hb, hr, hlk, hml, hown, hts, hK⟩
  unfold fX3_holds at hf
  refine lv_iload_n (pc := 0) hx hb dX3_holds_0 rfl (lv_at hl 1 rfl) ?_
  obtain ⟨v1, S1, e1, hf⟩ := bd2o hf
  refine m_callS (pc := 1) (As := [.int l1]) (rest := []) (st1 := [.int v1]) hc (mX3_isShelf e1) (va_cwS 1 hts (lw_S q3206 q3207 q105 q3208) rfl rfl rfl hdX3_isShelf ⟨Nat.le_of_ble_eq_true rfl, Nat.le_of_ble_eq_true rfl⟩) rfl hl.1 rfl rfl (lv_room (Nat.le_of_ble_eq_true rfl)) dX3_holds_1 hP hD hS (fun H locs hP hD hS => ?_)
  refine lv_if_eq (pc := 4) (tgt := 16) hx hb dX3_holds_4 (by decide) (fun c2 => ?_) (fun c2 => ?_)
  · rw [if_pos c2] at hf
    refine lv_iconst (pc := 16) (v := -1) hx hb dX3_holds_16 rfl ?_
    exact m_iret (pc := 17) hx hb hr hlk hP hD hS hf dX3_holds_17
  · rw [if_neg c2] at hf
    refine lv_aload_n (pc := 7) hx hb dX3_holds_7 rfl (lv_at hl 0 rfl) ?_
    refine va_get (D := D) (ci := 0) (v := .ref (am 9)) (C := RX3) (T := TX3) (N := 17) (pc := 8) hx hb hts in_X3 hown hK hP 0 rfl rfl 13 (by decide) (hts _ q2852) (fun _ h9 => h9) rfl dX3_holds_8 ?_
    refine lv_iload_n (pc := 11) hx hb dX3_holds_11 rfl (lv_at hl 1 rfl) ?_
    obtain ⟨v3, e3, hf⟩ := bdo hf
    refine m_iald (pc := 12) (k := 8) hx hb hK hP rfl e3 dX3_holds_12 ?_
    refine lv_goto (pc := 13) (tgt := 17) hx hb dX3_holds_13 (by decide) ?_
    exact m_iret (pc := 17) hx hb hr hlk hP hD hS hf dX3_holds_17
theorem mX3_holds {S S2 : mS} {r2 : Int32} {l1 : Int32} (hf : fX3_holds l1 S = some (r2, S2)) : mMet l yX3_holds cX3_holds 2 (some .int) 2 45 D am cI cJ [.ref (am 0), .int l1] S (some (.int r2)) S2 := by
  exact m_start (by decide) rfl (Nat.le_of_ble_eq_true rfl) (fun p e s m args below meth c ls hc hl hP hD => wX3_holds_b0 hc l1 S _ _ ls hP hD va_S.rf (lv_sub hl [0, 1] rfl) hf)
end
section
variable {r : Int32} {Sf : mS}
def fX3_isCause (l1 : Int32) (l2 : Int32) (S : mS) : Option (Int32 × mS) :=
  bd (mrd S 0 7919 (nI 3)) fun v1 =>
  bd2 (fX3_in l1.toInt64 (lN 0) ((v1 - (nI 1)).toInt64) S) fun v2 S2 =>
  if v2 = 0 then
    zr (nI 0) S2
  else
    bd (mrd S2 0 7919 (((nI 2751) + ((nI 24) * l1)) + (nI 3))) fun v4 =>
    bd2 (fX3_in l2.toInt64 (lN 0) ((v4 - (nI 1)).toInt64) S2) fun v5 S5 =>
    if v5 = 0 then
      zr (nI 0) S5
    else
      zr (nI 1) S5
theorem wX3_isCause_b0 (hc : mC p s m args meth c D cI cJ cX3_isCause 3 (some .boolean)) (l1 : Int32) (l2 : Int32) (S : mS) (H : Heap) (locs : List Loc) (ls : Array Slot) (hP : va_P D mCl (mws am cI cJ S) H) (hD : va_D (mA am) (mws am cI cJ S)) (hS : va_S (mA am) s.heap H locs) (hl : lv_has ls 3 [(0, .ref (am 0)), (1, .int l1), (2, .int l2)]) (hf : fX3_isCause l1 l2 S = some (r, Sf)) : W p l e (mR 1 25) s m args below meth c H locs 0 0 (mQ below D am cI cJ (some (.int r)) Sf args s) (F0 m 0 ls []) := by
  obtain ⟨hx, hb, hr, hlk, hml, hown, hts, hK⟩ := hc
  have hc : mC p s m args meth c D cI cJ cX3_isCause 3 (some .boolean) := ⟨hx, hb, hr, hlk, hml, hown, hts, hK⟩
  unfold fX3_isCause at hf
  refine lv_iload_n (pc := 0) hx hb dX3_isCause_0 rfl (lv_at hl 1 rfl) ?_
  refine lv_i2l (pc := 1) hx hb dX3_isCause_1 rfl ?_
  refine lv_lconst (pc := 2) (v := lN 0) hx hb dX3_isCause_2 rfl ?_
  refine lv_aload_n (pc := 3) hx hb dX3_isCause_3 rfl (lv_at hl 0 rfl) ?_
  refine va_get (D := D) (ci := 0) (v := .ref (am 1)) (C := RX3) (T := TX3) (N := 17) (pc := 4) hx hb hts in_X3 hown hK hP 0 rfl rfl 0 (by decide) (hts _ q2839) (fun _ h9 => h9) rfl dX3_isCause_4 ?_
  refine lv_iconst (pc := 7) (v := nI 3) hx hb dX3_isCause_7 rfl ?_
  obtain ⟨v1, e1, hf⟩ := bdo hf
  refine m_iald (pc := 8) (k := 0) hx hb hK hP rfl e1 dX3_isCause_8 ?_
  refine lv_iconst (pc := 9) (v := nI 1) hx hb dX3_isCause_9 rfl ?_
  refine lv_isub (pc := 10) hx hb dX3_isCause_10 ?_
  refine lv_i2l (pc := 11) hx hb dX3_isCause_11 rfl ?_
  obtain ⟨v2, S2, e2, hf⟩ := bd2o hf
  refine m_callS (pc := 12) (As := [.long l1.toInt64, .long (lN 0), .long ((v1 - (nI 1)).toInt64)]) (rest := []) (st1 := [.int v2]) hc (mX3_in e2) (va_cwS 3 hts (lw_S q2896 q2897 q105 q2898) rfl rfl rfl hdX3_in ⟨Nat.le_of_ble_eq_true rfl, Nat.le_of_ble_eq_true rfl⟩) rfl hl.1 rfl rfl (lv_room (Nat.le_of_ble_eq_true rfl)) dX3_isCause_12 hP hD hS (fun H locs hP hD hS => ?_)
  refine lv_if_eq (pc := 15) (tgt := 49) hx hb dX3_isCause_15 (by decide) (fun c3 => ?_) (fun c3 => ?_)
  · rw [if_pos c3] at hf
    refine lv_iconst (pc := 49) (v := nI 0) hx hb dX3_isCause_49 rfl ?_
    exact m_zret (pc := 50) hx hb hr hlk hP hD hS hf dX3_isCause_50
  · rw [if_neg c3] at hf
    refine lv_iload_n (pc := 18) hx hb dX3_isCause_18 rfl (lv_at hl 2 rfl) ?_
    refine lv_i2l (pc := 19) hx hb dX3_isCause_19 rfl ?_
    refine lv_lconst (pc := 20) (v := lN 0) hx hb dX3_isCause_20 rfl ?_
    refine lv_aload_n (pc := 21) hx hb dX3_isCause_21 rfl (lv_at hl 0 rfl) ?_
    refine va_get (D := D) (ci := 0) (v := .ref (am 1)) (C := RX3) (T := TX3) (N := 17) (pc := 22) hx hb hts in_X3 hown hK hP 0 rfl rfl 0 (by decide) (hts _ q2839) (fun _ h9 => h9) rfl dX3_isCause_22 ?_
    refine lv_sipush (pc := 25) (v := nI 2751) hx hb dX3_isCause_25 kcs2751 ?_
    refine lv_bipush (pc := 28) (v := nI 24) hx hb dX3_isCause_28 kcb24 ?_
    refine lv_iload_n (pc := 30) hx hb dX3_isCause_30 rfl (lv_at hl 1 rfl) ?_
    refine lv_imul (pc := 31) hx hb dX3_isCause_31 ?_
    refine lv_iadd (pc := 32) hx hb dX3_isCause_32 ?_
    refine lv_iconst (pc := 33) (v := nI 3) hx hb dX3_isCause_33 rfl ?_
    refine lv_iadd (pc := 34) hx hb dX3_isCause_34 ?_
    obtain ⟨v4, e4, hf⟩ := bdo hf
    refine m_iald (pc := 35) (k := 0) hx hb hK hP rfl e4 dX3_isCause_35 ?_
    refine lv_iconst (pc := 36) (v := nI 1) hx hb dX3_isCause_36 rfl ?_
    refine lv_isub (pc := 37) hx hb dX3_isCause_37 ?_
    refine lv_i2l (pc := 38) hx hb dX3_isCause_38 rfl ?_
    obtain ⟨v5, S5, e5, hf⟩ := bd2o hf
    refine m_callS (pc := 39) (As := [.long l2.toInt64, .long (lN 0), .long ((v4 - (nI 1)).toInt64)]) (rest := []) (st1 := [.int v5]) hc (mX3_in e5) (va_cwS 3 hts (lw_S q2896 q2897 q105 q2898) rfl rfl rfl hdX3_in ⟨Nat.le_of_ble_eq_true rfl, Nat.le_of_ble_eq_true rfl⟩) rfl hl.1 rfl rfl (lv_room (Nat.le_of_ble_eq_true rfl)) dX3_isCause_39 hP hD hS (fun H locs hP hD hS => ?_)
    refine lv_if_eq (pc := 42) (tgt := 49) hx hb dX3_isCause_42 (by decide) (fun c6 => ?_) (fun c6 => ?_)
    · rw [if_pos c6] at hf
      refine lv_iconst (pc := 49) (v := nI 0) hx hb dX3_isCause_49 rfl ?_
      exact m_zret (pc := 50) hx hb hr hlk hP hD hS hf dX3_isCause_50
    · rw [if_neg c6] at hf
      refine lv_iconst (pc := 45) (v := nI 1) hx hb dX3_isCause_45 rfl ?_
      refine lv_goto (pc := 46) (tgt := 50) hx hb dX3_isCause_46 (by decide) ?_
      exact m_zret (pc := 50) hx hb hr hlk hP hD hS hf dX3_isCause_50
theorem mX3_isCause {S S2 : mS} {r2 : Int32} {l1 : Int32} {l2 : Int32} (hf : fX3_isCause l1 l2 S = some (r2, S2)) : mMet l yX3_isCause cX3_isCause 3 (some .boolean) 1 25 D am cI cJ [.ref (am 0), .int l1, .int l2] S (some (.int r2)) S2 := by
  exact m_start (by decide) rfl (Nat.le_of_ble_eq_true rfl) (fun p e s m args below meth c ls hc hl hP hD => wX3_isCause_b0 hc l1 l2 S _ _ ls hP hD va_S.rf (lv_sub hl [0, 1, 2] rfl) hf)
end
section
variable {r : Int32} {Sf : mS}
def fX3_show_b21 (S : mS) : Option (Int32 × mS) :=
  bd2 (fX3_refused (-82) S) fun v1 S1 =>
  some (v1, S1)
theorem wX3_show_b21 (hc : mC p s m args meth c D cI cJ cX3_show 5 (some .int)) (S : mS) (H : Heap) (locs : List Loc) (ls : Array Slot) (hP : va_P D mCl (mws am cI cJ S) H) (hD : va_D (mA am) (mws am cI cJ S)) (hS : va_S (mA am) s.heap H locs) (hl : lv_has ls 5 [(0, .ref (am 0))]) (hf : fX3_show_b21  S = some (r, Sf)) : W p l e (mR 2 47) s m args below meth c H locs 0 0 (mQ below D am cI cJ (some (.int r)) Sf args s) (F0 m 21 ls []) := by
  obtain ⟨hx, hb, hr, hlk, hml, hown, hts, hK⟩ := hc
  have hc : mC p s m args meth c D cI cJ cX3_show 5 (some .int) := ⟨hx, hb, hr, hlk, hml, hown, hts, hK⟩
  unfold fX3_show_b21 at hf
  refine lv_aload_n (pc := 21) hx hb dX3_show_21 rfl (lv_at hl 0 rfl) ?_
  refine lv_bipush (pc := 22) (v := -82) hx hb dX3_show_22 kcbm82 ?_
  obtain ⟨v1, S1, e1, hf⟩ := bd2o hf
  refine m_callV (pc := 24) (As := [.int (-82)]) (rest := []) (st1 := [.int v1]) hc (mX3_refused e1) (cwV 1 hts (lw_V q2899 q2901 qs51 q105 q2902) rfl rfl rfl hdX3_refused ⟨Nat.le_of_ble_eq_true rfl, Nat.le_of_ble_eq_true rfl⟩) rfl hl.1 rfl rfl (lv_room (Nat.le_of_ble_eq_true rfl)) dX3_show_24 hP hD hS (fun H locs hP hD hS => ?_)
  exact m_iret (pc := 27) hx hb hr hlk hP hD hS hf dX3_show_27
def fX3_show_b45 : Nat → Int32 → Int32 → Int32 → Int32 → mS → Option (Int32 × mS)
  | 0, _, _, _, _, _ => none
  | n + 1, l1, l2, l3, l4, S =>
    if (nI 4) ≤ l4 then
      bd (mrd S 10 32 ((nI 4) * l1)) fun v2 =>
      bd (mwr S 8 8 l1 ((nI 10) + v2)) fun S3 =>
      some (nI 1, S3)
    else
      bd (mrd S 0 7919 (((((nI 2751) + ((nI 24) * l2)) + (nI 4)) + ((nI 4) * l3)) + l4)) fun v4 =>
      bd (mwr S 10 32 (((nI 4) * l1) + l4) v4) fun S5 =>
      fX3_show_b45 n l1 l2 l3 (l4 + (nI 1)) S5
theorem wX3_show_b45 (hc : mC p s m args meth c D cI cJ cX3_show 5 (some .int)) : ∀ (n : Nat) (l1 : Int32) (l2 : Int32) (l3 : Int32) (l4 : Int32) (S : mS) (H : Heap) (locs : List Loc) (ls : Array Slot), va_P D mCl (mws am cI cJ S) H → va_D (mA am) (mws am cI cJ S) → va_S (mA am) s.heap H locs → lv_has ls 5 [(0, .ref (am 0)), (1, .int l1), (2, .int l2), (3, .int l3), (4, .int l4)] → fX3_show_b45 n l1 l2 l3 l4 S = some (r, Sf) → W p l e (mR 2 47) s m args below meth c H locs 0 0 (mQ below D am cI cJ (some (.int r)) Sf args s) (F0 m 45 ls []) := by
  obtain ⟨hx, hb, hr, hlk, hml, hown, hts, hK⟩ := hc
  have hc : mC p s m args meth c D cI cJ cX3_show 5 (some .int) := ⟨hx, hb, hr, hlk, hml, hown, hts, hK⟩
  intro n
  induction n with
  | zero => intro l1 l2 l3 l4 S H locs ls _ _ _ _ hf; exact absurd hf (fun h => by cases h)
  | succ n ih =>
    intro l1 l2 l3 l4 S H locs ls hP hD hS hl hf
    rw [fX3_show_b45] at hf
    refine lv_iload (pc := 45) hx hb dX3_show_45 (lv_at hl 4 rfl) ?_
    refine lv_iconst (pc := 47) (v := nI 4) hx hb dX3_show_47 rfl ?_
    refine lv_icmp_ge (pc := 48) (tgt := 90) hx hb dX3_show_48 (by decide) (fun c1 => ?_) (fun c1 => ?_)
    · rw [if_pos c1] at hf
      refine lv_aload_n (pc := 90) hx hb dX3_show_90 rfl (lv_at hl 0 rfl) ?_
      refine va_get (D := D) (ci := 0) (v := .ref (am 9)) (C := RX3) (T := TX3) (N := 17) (pc := 91) hx hb hts in_X3 hown hK hP 0 rfl rfl 13 (by decide) (hts _ q2852) (fun _ h9 => h9) rfl dX3_show_91 ?_
      refine lv_iload_n (pc := 94) hx hb dX3_show_94 rfl (lv_at hl 1 rfl) ?_
      refine lv_bipush (pc := 95) (v := nI 10) hx hb dX3_show_95 kcb10 ?_
      refine lv_aload_n (pc := 97) hx hb dX3_show_97 rfl (lv_at hl 0 rfl) ?_
      refine va_get (D := D) (ci := 0) (v := .ref (am 11)) (C := RX3) (T := TX3) (N := 17) (pc := 98) hx hb hts in_X3 hown hK hP 0 rfl rfl 16 (by decide) (hts _ q2855) (fun _ h9 => h9) rfl dX3_show_98 ?_
      refine lv_iconst (pc := 101) (v := nI 4) hx hb dX3_show_101 rfl ?_
      refine lv_iload_n (pc := 102) hx hb dX3_show_102 rfl (lv_at hl 1 rfl) ?_
      refine lv_imul (pc := 103) hx hb dX3_show_103 ?_
      obtain ⟨v2, e2, hf⟩ := bdo hf
      refine m_iald (pc := 104) (k := 10) hx hb hK hP rfl e2 dX3_show_104 ?_
      refine lv_iadd (pc := 105) hx hb dX3_show_105 ?_
      obtain ⟨S3, e3, hf⟩ := bdo hf
      refine m_iast (pc := 106) (k := 8) hx hb hK hP hD hS rfl (fun _ _ => rfl) e3 dX3_show_106 (fun H locs hP hD hS => ?_)
      refine lv_iconst (pc := 107) (v := nI 1) hx hb dX3_show_107 rfl ?_
      exact m_iret (pc := 108) hx hb hr hlk hP hD hS hf dX3_show_108
    · rw [if_neg c1] at hf
      refine lv_aload_n (pc := 51) hx hb dX3_show_51 rfl (lv_at hl 0 rfl) ?_
      refine va_get (D := D) (ci := 0) (v := .ref (am 11)) (C := RX3) (T := TX3) (N := 17) (pc := 52) hx hb hts in_X3 hown hK hP 0 rfl rfl 16 (by decide) (hts _ q2855) (fun _ h9 => h9) rfl dX3_show_52 ?_
      refine lv_iconst (pc := 55) (v := nI 4) hx hb dX3_show_55 rfl ?_
      refine lv_iload_n (pc := 56) hx hb dX3_show_56 rfl (lv_at hl 1 rfl) ?_
      refine lv_imul (pc := 57) hx hb dX3_show_57 ?_
      refine lv_iload (pc := 58) hx hb dX3_show_58 (lv_at hl 4 rfl) ?_
      refine lv_iadd (pc := 60) hx hb dX3_show_60 ?_
      refine lv_aload_n (pc := 61) hx hb dX3_show_61 rfl (lv_at hl 0 rfl) ?_
      refine va_get (D := D) (ci := 0) (v := .ref (am 1)) (C := RX3) (T := TX3) (N := 17) (pc := 62) hx hb hts in_X3 hown hK hP 0 rfl rfl 0 (by decide) (hts _ q2839) (fun _ h9 => h9) rfl dX3_show_62 ?_
      refine lv_sipush (pc := 65) (v := nI 2751) hx hb dX3_show_65 kcs2751 ?_
      refine lv_bipush (pc := 68) (v := nI 24) hx hb dX3_show_68 kcb24 ?_
      refine lv_iload_n (pc := 70) hx hb dX3_show_70 rfl (lv_at hl 2 rfl) ?_
      refine lv_imul (pc := 71) hx hb dX3_show_71 ?_
      refine lv_iadd (pc := 72) hx hb dX3_show_72 ?_
      refine lv_iconst (pc := 73) (v := nI 4) hx hb dX3_show_73 rfl ?_
      refine lv_iadd (pc := 74) hx hb dX3_show_74 ?_
      refine lv_iconst (pc := 75) (v := nI 4) hx hb dX3_show_75 rfl ?_
      refine lv_iload_n (pc := 76) hx hb dX3_show_76 rfl (lv_at hl 3 rfl) ?_
      refine lv_imul (pc := 77) hx hb dX3_show_77 ?_
      refine lv_iadd (pc := 78) hx hb dX3_show_78 ?_
      refine lv_iload (pc := 79) hx hb dX3_show_79 (lv_at hl 4 rfl) ?_
      refine lv_iadd (pc := 81) hx hb dX3_show_81 ?_
      obtain ⟨v4, e4, hf⟩ := bdo hf
      refine m_iald (pc := 82) (k := 0) hx hb hK hP rfl e4 dX3_show_82 ?_
      obtain ⟨S5, e5, hf⟩ := bdo hf
      refine m_iast (pc := 83) (k := 10) hx hb hK hP hD hS rfl (fun _ _ => rfl) e5 dX3_show_83 (fun H locs hP hD hS => ?_)
      refine lv_iinc (pc := 84) (v := l4 + (nI 1)) (lv' := [(4, .int (l4 + (nI 1))), (0, .ref (am 0)), (1, .int l1), (2, .int l2), (3, .int l3)]) hx hb dX3_show_84 hl (k := 4) rfl rfl (by decide) rfl (fun ls hl => ?_)
      refine lv_goto (pc := 87) (tgt := 45) hx hb dX3_show_87 (by decide) ?_
      exact ih l1 l2 l3 (l4 + (nI 1)) S5 _ _ ls hP hD hS (lv_sub hl [1, 2, 3, 4, 0] rfl) hf
def fX3_show_b28 (l1 : Int32) (l2 : Int32) (l3 : Int32) (S : mS) : Option (Int32 × mS) :=
  if l2 = (-1) then
    bd (mwr S 8 8 l1 (-1)) fun S2 =>
    some (nI 1, S2)
  else
    fX3_show_b45 FU l1 l2 l3 (nI 0) S
theorem wX3_show_b28 (hc : mC p s m args meth c D cI cJ cX3_show 5 (some .int)) (l1 : Int32) (l2 : Int32) (l3 : Int32) (S : mS) (H : Heap) (locs : List Loc) (ls : Array Slot) (hP : va_P D mCl (mws am cI cJ S) H) (hD : va_D (mA am) (mws am cI cJ S)) (hS : va_S (mA am) s.heap H locs) (hl : lv_has ls 5 [(0, .ref (am 0)), (1, .int l1), (2, .int l2), (3, .int l3)]) (hf : fX3_show_b28 l1 l2 l3 S = some (r, Sf)) : W p l e (mR 2 47) s m args below meth c H locs 0 0 (mQ below D am cI cJ (some (.int r)) Sf args s) (F0 m 28 ls []) := by
  obtain ⟨hx, hb, hr, hlk, hml, hown, hts, hK⟩ := hc
  have hc : mC p s m args meth c D cI cJ cX3_show 5 (some .int) := ⟨hx, hb, hr, hlk, hml, hown, hts, hK⟩
  unfold fX3_show_b28 at hf
  refine lv_iload_n (pc := 28) hx hb dX3_show_28 rfl (lv_at hl 2 rfl) ?_
  refine lv_iconst (pc := 29) (v := -1) hx hb dX3_show_29 rfl ?_
  refine lv_icmp_ne (pc := 30) (tgt := 42) hx hb dX3_show_30 (by decide) (fun c1 => ?_) (fun c1 => ?_)
  · rw [if_neg c1] at hf
    refine lv_iconst (pc := 42) (v := nI 0) hx hb dX3_show_42 rfl ?_
    refine lv_istore (pc := 43) (lv' := [(4, .int (nI 0)), (0, .ref (am 0)), (1, .int l1), (2, .int l2), (3, .int l3)]) hx hb dX3_show_43 hl (by decide) rfl (fun ls hl => ?_)
    exact wX3_show_b45 hc FU l1 l2 l3 (nI 0) S _ _ ls hP hD hS (lv_sub hl [1, 2, 3, 4, 0] rfl) hf
  · rw [if_pos c1] at hf
    refine lv_aload_n (pc := 33) hx hb dX3_show_33 rfl (lv_at hl 0 rfl) ?_
    refine va_get (D := D) (ci := 0) (v := .ref (am 9)) (C := RX3) (T := TX3) (N := 17) (pc := 34) hx hb hts in_X3 hown hK hP 0 rfl rfl 13 (by decide) (hts _ q2852) (fun _ h9 => h9) rfl dX3_show_34 ?_
    refine lv_iload_n (pc := 37) hx hb dX3_show_37 rfl (lv_at hl 1 rfl) ?_
    refine lv_iconst (pc := 38) (v := -1) hx hb dX3_show_38 rfl ?_
    obtain ⟨S2, e2, hf⟩ := bdo hf
    refine m_iast (pc := 39) (k := 8) hx hb hK hP hD hS rfl (fun _ _ => rfl) e2 dX3_show_39 (fun H locs hP hD hS => ?_)
    refine lv_iconst (pc := 40) (v := nI 1) hx hb dX3_show_40 rfl ?_
    exact m_iret (pc := 41) hx hb hr hlk hP hD hS hf dX3_show_41
def fX3_show (l1 : Int32) (l2 : Int32) (l3 : Int32) (S : mS) : Option (Int32 × mS) :=
  bd2 (fX3_isShelf l1 S) fun v1 S1 =>
  if v1 = 0 then
    fX3_show_b21  S1
  else
    if l2 = (-1) then
      fX3_show_b28 l1 l2 l3 S1
    else
      bd2 (fX3_isCause l2 l3 S1) fun v4 S4 =>
      if v4 = 0 then
        fX3_show_b21  S4
      else
        fX3_show_b28 l1 l2 l3 S4
theorem wX3_show_b0 (hc : mC p s m args meth c D cI cJ cX3_show 5 (some .int)) (l1 : Int32) (l2 : Int32) (l3 : Int32) (S : mS) (H : Heap) (locs : List Loc) (ls : Array Slot) (hP : va_P D mCl (mws am cI cJ S) H) (hD : va_D (mA am) (mws am cI cJ S)) (hS : va_S (mA am) s.heap H locs) (hl : lv_has ls 5 [(0, .ref (am 0)), (1, .int l1), (2, .int l2), (3, .int l3)]) (hf : fX3_show l1 l2 l3 S = some (r, Sf)) : W p l e (mR 2 47) s m args below meth c H locs 0 0 (mQ below D am cI cJ (some (.int r)) Sf args s) (F0 m 0 ls []) := by
  obtain ⟨hx, hb, hr, hlk, hml, hown, hts, hK⟩ := hc
  have hc : mC p s m args meth c D cI cJ cX3_show 5 (some .int) := ⟨hx, hb, hr, hlk, hml, hown, hts, hK⟩
  unfold fX3_show at hf
  refine lv_iload_n (pc := 0) hx hb dX3_show_0 rfl (lv_at hl 1 rfl) ?_
  obtain ⟨v1, S1, e1, hf⟩ := bd2o hf
  refine m_callS (pc := 1) (As := [.int l1]) (rest := []) (st1 := [.int v1]) hc (mX3_isShelf e1) (va_cwS 1 hts (lw_S q3206 q3207 q105 q3208) rfl rfl rfl hdX3_isShelf ⟨Nat.le_of_ble_eq_true rfl, Nat.le_of_ble_eq_true rfl⟩) rfl hl.1 rfl rfl (lv_room (Nat.le_of_ble_eq_true rfl)) dX3_show_1 hP hD hS (fun H locs hP hD hS => ?_)
  refine lv_if_eq (pc := 4) (tgt := 21) hx hb dX3_show_4 (by decide) (fun c2 => ?_) (fun c2 => ?_)
  · rw [if_pos c2] at hf
    exact wX3_show_b21 hc  S1 _ _ ls hP hD hS (lv_sub hl [0] rfl) hf
  · rw [if_neg c2] at hf
    refine lv_iload_n (pc := 7) hx hb dX3_show_7 rfl (lv_at hl 2 rfl) ?_
    refine lv_iconst (pc := 8) (v := -1) hx hb dX3_show_8 rfl ?_
    refine lv_icmp_eq (pc := 9) (tgt := 28) hx hb dX3_show_9 (by decide) (fun c3 => ?_) (fun c3 => ?_)
    · rw [if_pos c3] at hf
      exact wX3_show_b28 hc l1 l2 l3 S1 _ _ ls hP hD hS (lv_sub hl [0, 1, 2, 3] rfl) hf
    · rw [if_neg c3] at hf
      refine lv_aload_n (pc := 12) hx hb dX3_show_12 rfl (lv_at hl 0 rfl) ?_
      refine lv_iload_n (pc := 13) hx hb dX3_show_13 rfl (lv_at hl 2 rfl) ?_
      refine lv_iload_n (pc := 14) hx hb dX3_show_14 rfl (lv_at hl 3 rfl) ?_
      obtain ⟨v4, S4, e4, hf⟩ := bd2o hf
      refine m_callV (pc := 15) (As := [.int l2, .int l3]) (rest := []) (st1 := [.int v4]) hc (mX3_isCause e4) (cwV 2 hts (lw_V q3171 q3173 qs90 q105 q3174) rfl rfl rfl hdX3_isCause ⟨Nat.le_of_ble_eq_true rfl, Nat.le_of_ble_eq_true rfl⟩) rfl hl.1 rfl rfl (lv_room (Nat.le_of_ble_eq_true rfl)) dX3_show_15 hP hD hS (fun H locs hP hD hS => ?_)
      refine lv_if_ne (pc := 18) (tgt := 28) hx hb dX3_show_18 (by decide) (fun c5 => ?_) (fun c5 => ?_)
      · rw [if_neg c5] at hf
        exact wX3_show_b28 hc l1 l2 l3 S4 _ _ ls hP hD hS (lv_sub hl [0, 1, 2, 3] rfl) hf
      · rw [if_pos c5] at hf
        exact wX3_show_b21 hc  S4 _ _ ls hP hD hS (lv_sub hl [0] rfl) hf
theorem mX3_show {S S2 : mS} {r2 : Int32} {l1 : Int32} {l2 : Int32} {l3 : Int32} (hf : fX3_show l1 l2 l3 S = some (r2, S2)) : mMet l yX3_show cX3_show 5 (some .int) 2 47 D am cI cJ [.ref (am 0), .int l1, .int l2, .int l3] S (some (.int r2)) S2 := by
  exact m_start (by decide) rfl (Nat.le_of_ble_eq_true rfl) (fun p e s m args below meth c ls hc hl hP hD => wX3_show_b0 hc l1 l2 l3 S _ _ ls hP hD va_S.rf (lv_sub hl [0, 1, 2, 3] rfl) hf)
end
section
variable {r : Int32} {Sf : mS}
def fX3_isUnder_b24 (l0 : Int32) (l1 : Int32) (S : mS) : Option (Int32 × mS) :=
  if l1 = (nI 2) then
    if l0 = (nI 5) then
      zr (nI 1) S
    else
      if l0 = (nI 6) then
        zr (nI 1) S
      else
        zr (nI 0) S
  else
    zr (nI 0) S
theorem wX3_isUnder_b24 (hc : mC p s m args meth c D cI cJ cX3_isUnder 2 (some .boolean)) (l0 : Int32) (l1 : Int32) (S : mS) (H : Heap) (locs : List Loc) (ls : Array Slot) (hP : va_P D mCl (mws am cI cJ S) H) (hD : va_D (mA am) (mws am cI cJ S)) (hS : va_S (mA am) s.heap H locs) (hl : lv_has ls 2 [(0, .int l0), (1, .int l1)]) (hf : fX3_isUnder_b24 l0 l1 S = some (r, Sf)) : W p l e (mR 0 0) s m args below meth c H locs 0 0 (mQ below D am cI cJ (some (.int r)) Sf args s) (F0 m 24 ls []) := by
  obtain ⟨hx, hb, hr, hlk, hml, hown, hts, hK⟩ := hc
  have hc : mC p s m args meth c D cI cJ cX3_isUnder 2 (some .boolean) := ⟨hx, hb, hr, hlk, hml, hown, hts, hK⟩
  unfold fX3_isUnder_b24 at hf
  refine lv_iload_n (pc := 24) hx hb dX3_isUnder_24 rfl (lv_at hl 1 rfl) ?_
  refine lv_iconst (pc := 25) (v := nI 2) hx hb dX3_isUnder_25 rfl ?_
  refine lv_icmp_ne (pc := 26) (tgt := 44) hx hb dX3_isUnder_26 (by decide) (fun c1 => ?_) (fun c1 => ?_)
  · rw [if_neg c1] at hf
    refine lv_iconst (pc := 44) (v := nI 0) hx hb dX3_isUnder_44 rfl ?_
    exact m_zret (pc := 45) hx hb hr hlk hP hD hS hf dX3_isUnder_45
  · rw [if_pos c1] at hf
    refine lv_iload_n (pc := 29) hx hb dX3_isUnder_29 rfl (lv_at hl 0 rfl) ?_
    refine lv_iconst (pc := 30) (v := nI 5) hx hb dX3_isUnder_30 rfl ?_
    refine lv_icmp_eq (pc := 31) (tgt := 40) hx hb dX3_isUnder_31 (by decide) (fun c2 => ?_) (fun c2 => ?_)
    · rw [if_pos c2] at hf
      refine lv_iconst (pc := 40) (v := nI 1) hx hb dX3_isUnder_40 rfl ?_
      refine lv_goto (pc := 41) (tgt := 45) hx hb dX3_isUnder_41 (by decide) ?_
      exact m_zret (pc := 45) hx hb hr hlk hP hD hS hf dX3_isUnder_45
    · rw [if_neg c2] at hf
      refine lv_iload_n (pc := 34) hx hb dX3_isUnder_34 rfl (lv_at hl 0 rfl) ?_
      refine lv_bipush (pc := 35) (v := nI 6) hx hb dX3_isUnder_35 kcb6 ?_
      refine lv_icmp_ne (pc := 37) (tgt := 44) hx hb dX3_isUnder_37 (by decide) (fun c3 => ?_) (fun c3 => ?_)
      · rw [if_neg c3] at hf
        refine lv_iconst (pc := 44) (v := nI 0) hx hb dX3_isUnder_44 rfl ?_
        exact m_zret (pc := 45) hx hb hr hlk hP hD hS hf dX3_isUnder_45
      · rw [if_pos c3] at hf
        refine lv_iconst (pc := 40) (v := nI 1) hx hb dX3_isUnder_40 rfl ?_
        refine lv_goto (pc := 41) (tgt := 45) hx hb dX3_isUnder_41 (by decide) ?_
        exact m_zret (pc := 45) hx hb hr hlk hP hD hS hf dX3_isUnder_45
def fX3_isUnder (l0 : Int32) (l1 : Int32) (S : mS) : Option (Int32 × mS) :=
  if l1 = 0 then
    zr (nI 1) S
  else
    if l0 = l1 then
      zr (nI 1) S
    else
      if l1 = (nI 1) then
        if l0 = (nI 3) then
          zr (nI 1) S
        else
          if l0 = (nI 4) then
            zr (nI 1) S
          else
            fX3_isUnder_b24 l0 l1 S
      else
        fX3_isUnder_b24 l0 l1 S
theorem wX3_isUnder_b0 (hc : mC p s m args meth c D cI cJ cX3_isUnder 2 (some .boolean)) (l0 : Int32) (l1 : Int32) (S : mS) (H : Heap) (locs : List Loc) (ls : Array Slot) (hP : va_P D mCl (mws am cI cJ S) H) (hD : va_D (mA am) (mws am cI cJ S)) (hS : va_S (mA am) s.heap H locs) (hl : lv_has ls 2 [(0, .int l0), (1, .int l1)]) (hf : fX3_isUnder l0 l1 S = some (r, Sf)) : W p l e (mR 0 0) s m args below meth c H locs 0 0 (mQ below D am cI cJ (some (.int r)) Sf args s) (F0 m 0 ls []) := by
  obtain ⟨hx, hb, hr, hlk, hml, hown, hts, hK⟩ := hc
  have hc : mC p s m args meth c D cI cJ cX3_isUnder 2 (some .boolean) := ⟨hx, hb, hr, hlk, hml, hown, hts, hK⟩
  unfold fX3_isUnder at hf
  refine lv_iload_n (pc := 0) hx hb dX3_isUnder_0 rfl (lv_at hl 1 rfl) ?_
  refine lv_if_eq (pc := 1) (tgt := 40) hx hb dX3_isUnder_1 (by decide) (fun c1 => ?_) (fun c1 => ?_)
  · rw [if_pos c1] at hf
    refine lv_iconst (pc := 40) (v := nI 1) hx hb dX3_isUnder_40 rfl ?_
    refine lv_goto (pc := 41) (tgt := 45) hx hb dX3_isUnder_41 (by decide) ?_
    exact m_zret (pc := 45) hx hb hr hlk hP hD hS hf dX3_isUnder_45
  · rw [if_neg c1] at hf
    refine lv_iload_n (pc := 4) hx hb dX3_isUnder_4 rfl (lv_at hl 0 rfl) ?_
    refine lv_iload_n (pc := 5) hx hb dX3_isUnder_5 rfl (lv_at hl 1 rfl) ?_
    refine lv_icmp_eq (pc := 6) (tgt := 40) hx hb dX3_isUnder_6 (by decide) (fun c2 => ?_) (fun c2 => ?_)
    · rw [if_pos c2] at hf
      refine lv_iconst (pc := 40) (v := nI 1) hx hb dX3_isUnder_40 rfl ?_
      refine lv_goto (pc := 41) (tgt := 45) hx hb dX3_isUnder_41 (by decide) ?_
      exact m_zret (pc := 45) hx hb hr hlk hP hD hS hf dX3_isUnder_45
    · rw [if_neg c2] at hf
      refine lv_iload_n (pc := 9) hx hb dX3_isUnder_9 rfl (lv_at hl 1 rfl) ?_
      refine lv_iconst (pc := 10) (v := nI 1) hx hb dX3_isUnder_10 rfl ?_
      refine lv_icmp_ne (pc := 11) (tgt := 24) hx hb dX3_isUnder_11 (by decide) (fun c3 => ?_) (fun c3 => ?_)
      · rw [if_neg c3] at hf
        exact wX3_isUnder_b24 hc l0 l1 S _ _ ls hP hD hS (lv_sub hl [0, 1] rfl) hf
      · rw [if_pos c3] at hf
        refine lv_iload_n (pc := 14) hx hb dX3_isUnder_14 rfl (lv_at hl 0 rfl) ?_
        refine lv_iconst (pc := 15) (v := nI 3) hx hb dX3_isUnder_15 rfl ?_
        refine lv_icmp_eq (pc := 16) (tgt := 40) hx hb dX3_isUnder_16 (by decide) (fun c4 => ?_) (fun c4 => ?_)
        · rw [if_pos c4] at hf
          refine lv_iconst (pc := 40) (v := nI 1) hx hb dX3_isUnder_40 rfl ?_
          refine lv_goto (pc := 41) (tgt := 45) hx hb dX3_isUnder_41 (by decide) ?_
          exact m_zret (pc := 45) hx hb hr hlk hP hD hS hf dX3_isUnder_45
        · rw [if_neg c4] at hf
          refine lv_iload_n (pc := 19) hx hb dX3_isUnder_19 rfl (lv_at hl 0 rfl) ?_
          refine lv_iconst (pc := 20) (v := nI 4) hx hb dX3_isUnder_20 rfl ?_
          refine lv_icmp_eq (pc := 21) (tgt := 40) hx hb dX3_isUnder_21 (by decide) (fun c5 => ?_) (fun c5 => ?_)
          · rw [if_pos c5] at hf
            refine lv_iconst (pc := 40) (v := nI 1) hx hb dX3_isUnder_40 rfl ?_
            refine lv_goto (pc := 41) (tgt := 45) hx hb dX3_isUnder_41 (by decide) ?_
            exact m_zret (pc := 45) hx hb hr hlk hP hD hS hf dX3_isUnder_45
          · rw [if_neg c5] at hf
            exact wX3_isUnder_b24 hc l0 l1 S _ _ ls hP hD hS (lv_sub hl [0, 1] rfl) hf
theorem mX3_isUnder {S S2 : mS} {r2 : Int32} {l0 : Int32} {l1 : Int32} (hf : fX3_isUnder l0 l1 S = some (r2, S2)) : mMet l yX3_isUnder cX3_isUnder 2 (some .boolean) 0 0 D am cI cJ [.int l0, .int l1] S (some (.int r2)) S2 := by
  exact m_start (by decide) rfl (Nat.le_of_ble_eq_true rfl) (fun p e s m args below meth c ls hc hl hP hD => wX3_isUnder_b0 hc l0 l1 S _ _ ls hP hD va_S.rf (lv_sub hl [0, 1] rfl) hf)
end
section
variable {r : Int32} {Sf : mS}
def fX3_says_b19 (S : mS) : Option (Int32 × mS) :=
  bd2 (fX3_refused (-82) S) fun v1 S1 =>
  some (v1, S1)
theorem wX3_says_b19 (hc : mC p s m args meth c D cI cJ cX3_says 3 (some .int)) (S : mS) (H : Heap) (locs : List Loc) (ls : Array Slot) (hP : va_P D mCl (mws am cI cJ S) H) (hD : va_D (mA am) (mws am cI cJ S)) (hS : va_S (mA am) s.heap H locs) (hl : lv_has ls 3 [(0, .ref (am 0))]) (hf : fX3_says_b19  S = some (r, Sf)) : W p l e (mR 2 45) s m args below meth c H locs 0 0 (mQ below D am cI cJ (some (.int r)) Sf args s) (F0 m 19 ls []) := by
  obtain ⟨hx, hb, hr, hlk, hml, hown, hts, hK⟩ := hc
  have hc : mC p s m args meth c D cI cJ cX3_says 3 (some .int) := ⟨hx, hb, hr, hlk, hml, hown, hts, hK⟩
  unfold fX3_says_b19 at hf
  refine lv_aload_n (pc := 19) hx hb dX3_says_19 rfl (lv_at hl 0 rfl) ?_
  refine lv_bipush (pc := 20) (v := -82) hx hb dX3_says_20 kcbm82 ?_
  obtain ⟨v1, S1, e1, hf⟩ := bd2o hf
  refine m_callV (pc := 22) (As := [.int (-82)]) (rest := []) (st1 := [.int v1]) hc (mX3_refused e1) (cwV 1 hts (lw_V q2899 q2901 qs51 q105 q2902) rfl rfl rfl hdX3_refused ⟨Nat.le_of_ble_eq_true rfl, Nat.le_of_ble_eq_true rfl⟩) rfl hl.1 rfl rfl (lv_room (Nat.le_of_ble_eq_true rfl)) dX3_says_22 hP hD hS (fun H locs hP hD hS => ?_)
  exact m_iret (pc := 25) hx hb hr hlk hP hD hS hf dX3_says_25
def fX3_says (l1 : Int32) (l2 : Int32) (S : mS) : Option (Int32 × mS) :=
  bd2 (fX3_isShelf l1 S) fun v1 S1 =>
  if v1 = 0 then
    fX3_says_b19  S1
  else
    bd2 (fX3_in l2.toInt64 (lN 0) (lN 6) S1) fun v3 S3 =>
    if v3 = 0 then
      fX3_says_b19  S3
    else
      bd (mrd S3 8 8 l1) fun v5 =>
      bd2 (fX3_in v5.toInt64 (lN 0) (lN 4) S3) fun v6 S6 =>
      if v6 = 0 then
        bd (mrd S6 8 8 l1) fun v8 =>
        if 0 ≤ v8 then
          bd (mrd S6 8 8 l1) fun v10 =>
          bd2 (fX3_isUnder (v10 - (nI 10)) l2 S6) fun v11 S11 =>
          if v11 = 0 then
            bd2 (fX3_refused (-83) S11) fun v18 S18 =>
            some (v18, S18)
          else
            if l2 = 0 then
              bd (mrd S11 10 32 (((nI 4) * l1) + (nI 1))) fun v17 =>
              some (v17, S11)
            else
              if (nI 3) ≤ l2 then
                bd (mrd S11 10 32 (((nI 4) * l1) + (nI 2))) fun v15 =>
                some (v15, S11)
              else
                bd (mrd S11 10 32 (((nI 4) * l1) + (nI 3))) fun v16 =>
                some (v16, S11)
        else
          bd2 (fX3_refused (-84) S6) fun v19 S19 =>
          some (v19, S19)
      else
        bd2 (fX3_refused (-83) S6) fun v20 S20 =>
        some (v20, S20)
theorem wX3_says_b0 (hc : mC p s m args meth c D cI cJ cX3_says 3 (some .int)) (l1 : Int32) (l2 : Int32) (S : mS) (H : Heap) (locs : List Loc) (ls : Array Slot) (hP : va_P D mCl (mws am cI cJ S) H) (hD : va_D (mA am) (mws am cI cJ S)) (hS : va_S (mA am) s.heap H locs) (hl : lv_has ls 3 [(0, .ref (am 0)), (1, .int l1), (2, .int l2)]) (hf : fX3_says l1 l2 S = some (r, Sf)) : W p l e (mR 2 45) s m args below meth c H locs 0 0 (mQ below D am cI cJ (some (.int r)) Sf args s) (F0 m 0 ls []) := by
  obtain ⟨hx, hb, hr, hlk, hml, hown, hts, hK⟩ := hc
  have hc : mC p s m args meth c D cI cJ cX3_says 3 (some .int) := ⟨hx, hb, hr, hlk, hml, hown, hts, hK⟩
  unfold fX3_says at hf
  refine lv_iload_n (pc := 0) hx hb dX3_says_0 rfl (lv_at hl 1 rfl) ?_
  obtain ⟨v1, S1, e1, hf⟩ := bd2o hf
  refine m_callS (pc := 1) (As := [.int l1]) (rest := []) (st1 := [.int v1]) hc (mX3_isShelf e1) (va_cwS 1 hts (lw_S q3206 q3207 q105 q3208) rfl rfl rfl hdX3_isShelf ⟨Nat.le_of_ble_eq_true rfl, Nat.le_of_ble_eq_true rfl⟩) rfl hl.1 rfl rfl (lv_room (Nat.le_of_ble_eq_true rfl)) dX3_says_1 hP hD hS (fun H locs hP hD hS => ?_)
  refine lv_if_eq (pc := 4) (tgt := 19) hx hb dX3_says_4 (by decide) (fun c2 => ?_) (fun c2 => ?_)
  · rw [if_pos c2] at hf
    exact wX3_says_b19 hc  S1 _ _ ls hP hD hS (lv_sub hl [0] rfl) hf
  · rw [if_neg c2] at hf
    refine lv_iload_n (pc := 7) hx hb dX3_says_7 rfl (lv_at hl 2 rfl) ?_
    refine lv_i2l (pc := 8) hx hb dX3_says_8 rfl ?_
    refine lv_lconst (pc := 9) (v := lN 0) hx hb dX3_says_9 rfl ?_
    refine lv_ldc2 (pc := 10) (v := lN 6) hx hb hown (hts _ q3237) dX3_says_10 ?_
    obtain ⟨v3, S3, e3, hf⟩ := bd2o hf
    refine m_callS (pc := 13) (As := [.long l2.toInt64, .long (lN 0), .long (lN 6)]) (rest := []) (st1 := [.int v3]) hc (mX3_in e3) (va_cwS 3 hts (lw_S q2896 q2897 q105 q2898) rfl rfl rfl hdX3_in ⟨Nat.le_of_ble_eq_true rfl, Nat.le_of_ble_eq_true rfl⟩) rfl hl.1 rfl rfl (lv_room (Nat.le_of_ble_eq_true rfl)) dX3_says_13 hP hD hS (fun H locs hP hD hS => ?_)
    refine lv_if_ne (pc := 16) (tgt := 26) hx hb dX3_says_16 (by decide) (fun c4 => ?_) (fun c4 => ?_)
    · rw [if_neg c4] at hf
      refine lv_aload_n (pc := 26) hx hb dX3_says_26 rfl (lv_at hl 0 rfl) ?_
      refine va_get (D := D) (ci := 0) (v := .ref (am 9)) (C := RX3) (T := TX3) (N := 17) (pc := 27) hx hb hts in_X3 hown hK hP 0 rfl rfl 13 (by decide) (hts _ q2852) (fun _ h9 => h9) rfl dX3_says_27 ?_
      refine lv_iload_n (pc := 30) hx hb dX3_says_30 rfl (lv_at hl 1 rfl) ?_
      obtain ⟨v5, e5, hf⟩ := bdo hf
      refine m_iald (pc := 31) (k := 8) hx hb hK hP rfl e5 dX3_says_31 ?_
      refine lv_i2l (pc := 32) hx hb dX3_says_32 rfl ?_
      refine lv_lconst (pc := 33) (v := lN 0) hx hb dX3_says_33 rfl ?_
      refine lv_ldc2 (pc := 34) (v := lN 4) hx hb hown (hts _ q3150) dX3_says_34 ?_
      obtain ⟨v6, S6, e6, hf⟩ := bd2o hf
      refine m_callS (pc := 37) (As := [.long v5.toInt64, .long (lN 0), .long (lN 4)]) (rest := []) (st1 := [.int v6]) hc (mX3_in e6) (va_cwS 3 hts (lw_S q2896 q2897 q105 q2898) rfl rfl rfl hdX3_in ⟨Nat.le_of_ble_eq_true rfl, Nat.le_of_ble_eq_true rfl⟩) rfl hl.1 rfl rfl (lv_room (Nat.le_of_ble_eq_true rfl)) dX3_says_37 hP hD hS (fun H locs hP hD hS => ?_)
      refine lv_if_eq (pc := 40) (tgt := 50) hx hb dX3_says_40 (by decide) (fun c7 => ?_) (fun c7 => ?_)
      · rw [if_pos c7] at hf
        refine lv_aload_n (pc := 50) hx hb dX3_says_50 rfl (lv_at hl 0 rfl) ?_
        refine va_get (D := D) (ci := 0) (v := .ref (am 9)) (C := RX3) (T := TX3) (N := 17) (pc := 51) hx hb hts in_X3 hown hK hP 0 rfl rfl 13 (by decide) (hts _ q2852) (fun _ h9 => h9) rfl dX3_says_51 ?_
        refine lv_iload_n (pc := 54) hx hb dX3_says_54 rfl (lv_at hl 1 rfl) ?_
        obtain ⟨v8, e8, hf⟩ := bdo hf
        refine m_iald (pc := 55) (k := 8) hx hb hK hP rfl e8 dX3_says_55 ?_
        refine lv_if_ge (pc := 56) (tgt := 66) hx hb dX3_says_56 (by decide) (fun c9 => ?_) (fun c9 => ?_)
        · rw [if_pos c9] at hf
          refine lv_aload_n (pc := 66) hx hb dX3_says_66 rfl (lv_at hl 0 rfl) ?_
          refine va_get (D := D) (ci := 0) (v := .ref (am 9)) (C := RX3) (T := TX3) (N := 17) (pc := 67) hx hb hts in_X3 hown hK hP 0 rfl rfl 13 (by decide) (hts _ q2852) (fun _ h9 => h9) rfl dX3_says_67 ?_
          refine lv_iload_n (pc := 70) hx hb dX3_says_70 rfl (lv_at hl 1 rfl) ?_
          obtain ⟨v10, e10, hf⟩ := bdo hf
          refine m_iald (pc := 71) (k := 8) hx hb hK hP rfl e10 dX3_says_71 ?_
          refine lv_bipush (pc := 72) (v := nI 10) hx hb dX3_says_72 kcb10 ?_
          refine lv_isub (pc := 74) hx hb dX3_says_74 ?_
          refine lv_iload_n (pc := 75) hx hb dX3_says_75 rfl (lv_at hl 2 rfl) ?_
          obtain ⟨v11, S11, e11, hf⟩ := bd2o hf
          refine m_callS (pc := 76) (As := [.int (v10 - (nI 10)), .int l2]) (rest := []) (st1 := [.int v11]) hc (mX3_isUnder e11) (va_cwS 2 hts (lw_S q3238 q3239 q105 q3240) rfl rfl rfl hdX3_isUnder ⟨Nat.le_of_ble_eq_true rfl, Nat.le_of_ble_eq_true rfl⟩) rfl hl.1 rfl rfl (lv_room (Nat.le_of_ble_eq_true rfl)) dX3_says_76 hP hD hS (fun H locs hP hD hS => ?_)
          refine lv_if_ne (pc := 79) (tgt := 89) hx hb dX3_says_79 (by decide) (fun c12 => ?_) (fun c12 => ?_)
          · rw [if_neg c12] at hf
            refine lv_iload_n (pc := 89) hx hb dX3_says_89 rfl (lv_at hl 2 rfl) ?_
            refine lv_if_ne (pc := 90) (tgt := 106) hx hb dX3_says_90 (by decide) (fun c13 => ?_) (fun c13 => ?_)
            · rw [if_neg c13] at hf
              refine lv_iload_n (pc := 106) hx hb dX3_says_106 rfl (lv_at hl 2 rfl) ?_
              refine lv_iconst (pc := 107) (v := nI 3) hx hb dX3_says_107 rfl ?_
              refine lv_icmp_ge (pc := 108) (tgt := 124) hx hb dX3_says_108 (by decide) (fun c14 => ?_) (fun c14 => ?_)
              · rw [if_pos c14] at hf
                refine lv_aload_n (pc := 124) hx hb dX3_says_124 rfl (lv_at hl 0 rfl) ?_
                refine va_get (D := D) (ci := 0) (v := .ref (am 11)) (C := RX3) (T := TX3) (N := 17) (pc := 125) hx hb hts in_X3 hown hK hP 0 rfl rfl 16 (by decide) (hts _ q2855) (fun _ h9 => h9) rfl dX3_says_125 ?_
                refine lv_iconst (pc := 128) (v := nI 4) hx hb dX3_says_128 rfl ?_
                refine lv_iload_n (pc := 129) hx hb dX3_says_129 rfl (lv_at hl 1 rfl) ?_
                refine lv_imul (pc := 130) hx hb dX3_says_130 ?_
                refine lv_iconst (pc := 131) (v := nI 2) hx hb dX3_says_131 rfl ?_
                refine lv_iadd (pc := 132) hx hb dX3_says_132 ?_
                obtain ⟨v15, e15, hf⟩ := bdo hf
                refine m_iald (pc := 133) (k := 10) hx hb hK hP rfl e15 dX3_says_133 ?_
                exact m_iret (pc := 134) hx hb hr hlk hP hD hS hf dX3_says_134
              · rw [if_neg c14] at hf
                refine lv_aload_n (pc := 111) hx hb dX3_says_111 rfl (lv_at hl 0 rfl) ?_
                refine va_get (D := D) (ci := 0) (v := .ref (am 11)) (C := RX3) (T := TX3) (N := 17) (pc := 112) hx hb hts in_X3 hown hK hP 0 rfl rfl 16 (by decide) (hts _ q2855) (fun _ h9 => h9) rfl dX3_says_112 ?_
                refine lv_iconst (pc := 115) (v := nI 4) hx hb dX3_says_115 rfl ?_
                refine lv_iload_n (pc := 116) hx hb dX3_says_116 rfl (lv_at hl 1 rfl) ?_
                refine lv_imul (pc := 117) hx hb dX3_says_117 ?_
                refine lv_iconst (pc := 118) (v := nI 3) hx hb dX3_says_118 rfl ?_
                refine lv_iadd (pc := 119) hx hb dX3_says_119 ?_
                obtain ⟨v16, e16, hf⟩ := bdo hf
                refine m_iald (pc := 120) (k := 10) hx hb hK hP rfl e16 dX3_says_120 ?_
                refine lv_goto (pc := 121) (tgt := 134) hx hb dX3_says_121 (by decide) ?_
                exact m_iret (pc := 134) hx hb hr hlk hP hD hS hf dX3_says_134
            · rw [if_pos c13] at hf
              refine lv_aload_n (pc := 93) hx hb dX3_says_93 rfl (lv_at hl 0 rfl) ?_
              refine va_get (D := D) (ci := 0) (v := .ref (am 11)) (C := RX3) (T := TX3) (N := 17) (pc := 94) hx hb hts in_X3 hown hK hP 0 rfl rfl 16 (by decide) (hts _ q2855) (fun _ h9 => h9) rfl dX3_says_94 ?_
              refine lv_iconst (pc := 97) (v := nI 4) hx hb dX3_says_97 rfl ?_
              refine lv_iload_n (pc := 98) hx hb dX3_says_98 rfl (lv_at hl 1 rfl) ?_
              refine lv_imul (pc := 99) hx hb dX3_says_99 ?_
              refine lv_iconst (pc := 100) (v := nI 1) hx hb dX3_says_100 rfl ?_
              refine lv_iadd (pc := 101) hx hb dX3_says_101 ?_
              obtain ⟨v17, e17, hf⟩ := bdo hf
              refine m_iald (pc := 102) (k := 10) hx hb hK hP rfl e17 dX3_says_102 ?_
              refine lv_goto (pc := 103) (tgt := 134) hx hb dX3_says_103 (by decide) ?_
              exact m_iret (pc := 134) hx hb hr hlk hP hD hS hf dX3_says_134
          · rw [if_pos c12] at hf
            refine lv_aload_n (pc := 82) hx hb dX3_says_82 rfl (lv_at hl 0 rfl) ?_
            refine lv_bipush (pc := 83) (v := -83) hx hb dX3_says_83 kcbm83 ?_
            obtain ⟨v18, S18, e18, hf⟩ := bd2o hf
            refine m_callV (pc := 85) (As := [.int (-83)]) (rest := []) (st1 := [.int v18]) hc (mX3_refused e18) (cwV 1 hts (lw_V q2899 q2901 qs51 q105 q2902) rfl rfl rfl hdX3_refused ⟨Nat.le_of_ble_eq_true rfl, Nat.le_of_ble_eq_true rfl⟩) rfl hl.1 rfl rfl (lv_room (Nat.le_of_ble_eq_true rfl)) dX3_says_85 hP hD hS (fun H locs hP hD hS => ?_)
            exact m_iret (pc := 88) hx hb hr hlk hP hD hS hf dX3_says_88
        · rw [if_neg c9] at hf
          refine lv_aload_n (pc := 59) hx hb dX3_says_59 rfl (lv_at hl 0 rfl) ?_
          refine lv_bipush (pc := 60) (v := -84) hx hb dX3_says_60 kcbm84 ?_
          obtain ⟨v19, S19, e19, hf⟩ := bd2o hf
          refine m_callV (pc := 62) (As := [.int (-84)]) (rest := []) (st1 := [.int v19]) hc (mX3_refused e19) (cwV 1 hts (lw_V q2899 q2901 qs51 q105 q2902) rfl rfl rfl hdX3_refused ⟨Nat.le_of_ble_eq_true rfl, Nat.le_of_ble_eq_true rfl⟩) rfl hl.1 rfl rfl (lv_room (Nat.le_of_ble_eq_true rfl)) dX3_says_62 hP hD hS (fun H locs hP hD hS => ?_)
          exact m_iret (pc := 65) hx hb hr hlk hP hD hS hf dX3_says_65
      · rw [if_neg c7] at hf
        refine lv_aload_n (pc := 43) hx hb dX3_says_43 rfl (lv_at hl 0 rfl) ?_
        refine lv_bipush (pc := 44) (v := -83) hx hb dX3_says_44 kcbm83 ?_
        obtain ⟨v20, S20, e20, hf⟩ := bd2o hf
        refine m_callV (pc := 46) (As := [.int (-83)]) (rest := []) (st1 := [.int v20]) hc (mX3_refused e20) (cwV 1 hts (lw_V q2899 q2901 qs51 q105 q2902) rfl rfl rfl hdX3_refused ⟨Nat.le_of_ble_eq_true rfl, Nat.le_of_ble_eq_true rfl⟩) rfl hl.1 rfl rfl (lv_room (Nat.le_of_ble_eq_true rfl)) dX3_says_46 hP hD hS (fun H locs hP hD hS => ?_)
        exact m_iret (pc := 49) hx hb hr hlk hP hD hS hf dX3_says_49
    · rw [if_pos c4] at hf
      exact wX3_says_b19 hc  S3 _ _ ls hP hD hS (lv_sub hl [0] rfl) hf
theorem mX3_says {S S2 : mS} {r2 : Int32} {l1 : Int32} {l2 : Int32} (hf : fX3_says l1 l2 S = some (r2, S2)) : mMet l yX3_says cX3_says 3 (some .int) 2 45 D am cI cJ [.ref (am 0), .int l1, .int l2] S (some (.int r2)) S2 := by
  exact m_start (by decide) rfl (Nat.le_of_ble_eq_true rfl) (fun p e s m args below meth c ls hc hl hP hD => wX3_says_b0 hc l1 l2 S _ _ ls hP hD va_S.rf (lv_sub hl [0, 1, 2] rfl) hf)
end
section
variable {r : Int32} {Sf : mS}
def fX3_feed (l1 : Int32) (S : mS) : Option (Int32 × mS) :=
  bd2 (fX3_in l1.toInt64 (lN 0) (lN 255) S) fun v1 S1 =>
  if v1 = 0 then
    bd2 (fX3_refused (-82) S1) fun v7 S7 =>
    some (v7, S7)
  else
    if (mf S1 1) = (nI 250) then
      bd2 (fX3_refused (-86) S1) fun v6 S6 =>
      some (v6, S6)
    else
      bd (mwr S1 5 250 (mf S1 1) l1) fun S4 =>
      bd (ms S4 1 ((mf S4 1) + (nI 1))) fun S5 =>
      some (mf S5 1, S5)
theorem wX3_feed_b0 (hc : mC p s m args meth c D cI cJ cX3_feed 2 (some .int)) (l1 : Int32) (S : mS) (H : Heap) (locs : List Loc) (ls : Array Slot) (hP : va_P D mCl (mws am cI cJ S) H) (hD : va_D (mA am) (mws am cI cJ S)) (hS : va_S (mA am) s.heap H locs) (hl : lv_has ls 2 [(0, .ref (am 0)), (1, .int l1)]) (hf : fX3_feed l1 S = some (r, Sf)) : W p l e (mR 1 25) s m args below meth c H locs 0 0 (mQ below D am cI cJ (some (.int r)) Sf args s) (F0 m 0 ls []) := by
  obtain ⟨hx, hb, hr, hlk, hml, hown, hts, hK⟩ := hc
  have hc : mC p s m args meth c D cI cJ cX3_feed 2 (some .int) := ⟨hx, hb, hr, hlk, hml, hown, hts, hK⟩
  unfold fX3_feed at hf
  refine lv_iload_n (pc := 0) hx hb dX3_feed_0 rfl (lv_at hl 1 rfl) ?_
  refine lv_i2l (pc := 1) hx hb dX3_feed_1 rfl ?_
  refine lv_lconst (pc := 2) (v := lN 0) hx hb dX3_feed_2 rfl ?_
  refine lv_ldc2 (pc := 3) (v := lN 255) hx hb hown (hts _ q2895) dX3_feed_3 ?_
  obtain ⟨v1, S1, e1, hf⟩ := bd2o hf
  refine m_callS (pc := 6) (As := [.long l1.toInt64, .long (lN 0), .long (lN 255)]) (rest := []) (st1 := [.int v1]) hc (mX3_in e1) (va_cwS 3 hts (lw_S q2896 q2897 q105 q2898) rfl rfl rfl hdX3_in ⟨Nat.le_of_ble_eq_true rfl, Nat.le_of_ble_eq_true rfl⟩) rfl hl.1 rfl rfl (lv_room (Nat.le_of_ble_eq_true rfl)) dX3_feed_6 hP hD hS (fun H locs hP hD hS => ?_)
  refine lv_if_ne (pc := 9) (tgt := 19) hx hb dX3_feed_9 (by decide) (fun c2 => ?_) (fun c2 => ?_)
  · rw [if_neg c2] at hf
    refine lv_aload_n (pc := 19) hx hb dX3_feed_19 rfl (lv_at hl 0 rfl) ?_
    refine va_get (D := D) (ci := 0) (v := .int (mf S1 1)) (C := RX3) (T := TX3) (N := 17) (pc := 20) hx hb hts in_X3 hown hK hP 0 rfl rfl 7 (by decide) (hts _ q2846) (fun _ h9 => h9) rfl dX3_feed_20 ?_
    refine lv_sipush (pc := 23) (v := nI 250) hx hb dX3_feed_23 kcs250 ?_
    refine lv_icmp_ne (pc := 26) (tgt := 36) hx hb dX3_feed_26 (by decide) (fun c3 => ?_) (fun c3 => ?_)
    · rw [if_neg c3] at hf
      refine lv_aload_n (pc := 36) hx hb dX3_feed_36 rfl (lv_at hl 0 rfl) ?_
      refine va_get (D := D) (ci := 0) (v := .ref (am 6)) (C := RX3) (T := TX3) (N := 17) (pc := 37) hx hb hts in_X3 hown hK hP 0 rfl rfl 6 (by decide) (hts _ q2845) (fun _ h9 => h9) rfl dX3_feed_37 ?_
      refine lv_aload_n (pc := 40) hx hb dX3_feed_40 rfl (lv_at hl 0 rfl) ?_
      refine va_get (D := D) (ci := 0) (v := .int (mf S1 1)) (C := RX3) (T := TX3) (N := 17) (pc := 41) hx hb hts in_X3 hown hK hP 0 rfl rfl 7 (by decide) (hts _ q2846) (fun _ h9 => h9) rfl dX3_feed_41 ?_
      refine lv_iload_n (pc := 44) hx hb dX3_feed_44 rfl (lv_at hl 1 rfl) ?_
      obtain ⟨S4, e4, hf⟩ := bdo hf
      refine m_iast (pc := 45) (k := 5) hx hb hK hP hD hS rfl (fun _ _ => rfl) e4 dX3_feed_45 (fun H locs hP hD hS => ?_)
      refine lv_aload_n (pc := 46) hx hb dX3_feed_46 rfl (lv_at hl 0 rfl) ?_
      refine lv_dup (pc := 47) hx hb dX3_feed_47 rfl ?_
      refine va_get (D := D) (ci := 0) (v := .int (mf S4 1)) (C := RX3) (T := TX3) (N := 17) (pc := 48) hx hb hts in_X3 hown hK hP 0 rfl rfl 7 (by decide) (hts _ q2846) (fun _ h9 => h9) rfl dX3_feed_48 ?_
      refine lv_iconst (pc := 51) (v := nI 1) hx hb dX3_feed_51 rfl ?_
      refine lv_iadd (pc := 52) hx hb dX3_feed_52 ?_
      obtain ⟨S5, e5, hf⟩ := bdo hf
      refine m_put (pc := 53) (j := 7) (js := 1) hx hb hts hown hK hP hD hS (by decide) rfl rfl (hts _ q2846) rfl rfl e5 dX3_feed_53 (fun H locs hP hD hS => ?_)
      refine lv_aload_n (pc := 56) hx hb dX3_feed_56 rfl (lv_at hl 0 rfl) ?_
      refine va_get (D := D) (ci := 0) (v := .int (mf S5 1)) (C := RX3) (T := TX3) (N := 17) (pc := 57) hx hb hts in_X3 hown hK hP 0 rfl rfl 7 (by decide) (hts _ q2846) (fun _ h9 => h9) rfl dX3_feed_57 ?_
      exact m_iret (pc := 60) hx hb hr hlk hP hD hS hf dX3_feed_60
    · rw [if_pos c3] at hf
      refine lv_aload_n (pc := 29) hx hb dX3_feed_29 rfl (lv_at hl 0 rfl) ?_
      refine lv_bipush (pc := 30) (v := -86) hx hb dX3_feed_30 kcbm86 ?_
      obtain ⟨v6, S6, e6, hf⟩ := bd2o hf
      refine m_callV (pc := 32) (As := [.int (-86)]) (rest := []) (st1 := [.int v6]) hc (mX3_refused e6) (cwV 1 hts (lw_V q2899 q2901 qs51 q105 q2902) rfl rfl rfl hdX3_refused ⟨Nat.le_of_ble_eq_true rfl, Nat.le_of_ble_eq_true rfl⟩) rfl hl.1 rfl rfl (lv_room (Nat.le_of_ble_eq_true rfl)) dX3_feed_32 hP hD hS (fun H locs hP hD hS => ?_)
      exact m_iret (pc := 35) hx hb hr hlk hP hD hS hf dX3_feed_35
  · rw [if_pos c2] at hf
    refine lv_aload_n (pc := 12) hx hb dX3_feed_12 rfl (lv_at hl 0 rfl) ?_
    refine lv_bipush (pc := 13) (v := -82) hx hb dX3_feed_13 kcbm82 ?_
    obtain ⟨v7, S7, e7, hf⟩ := bd2o hf
    refine m_callV (pc := 15) (As := [.int (-82)]) (rest := []) (st1 := [.int v7]) hc (mX3_refused e7) (cwV 1 hts (lw_V q2899 q2901 qs51 q105 q2902) rfl rfl rfl hdX3_refused ⟨Nat.le_of_ble_eq_true rfl, Nat.le_of_ble_eq_true rfl⟩) rfl hl.1 rfl rfl (lv_room (Nat.le_of_ble_eq_true rfl)) dX3_feed_15 hP hD hS (fun H locs hP hD hS => ?_)
    exact m_iret (pc := 18) hx hb hr hlk hP hD hS hf dX3_feed_18
theorem mX3_feed {S S2 : mS} {r2 : Int32} {l1 : Int32} (hf : fX3_feed l1 S = some (r2, S2)) : mMet l yX3_feed cX3_feed 2 (some .int) 1 25 D am cI cJ [.ref (am 0), .int l1] S (some (.int r2)) S2 := by
  exact m_start (by decide) rfl (Nat.le_of_ble_eq_true rfl) (fun p e s m args below meth c ls hc hl hP hD => wX3_feed_b0 hc l1 S _ _ ls hP hD va_S.rf (lv_sub hl [0, 1] rfl) hf)
end
section
variable {r : Int32} {Sf : mS}
def fX3_wipe (S : mS) : Option (Int32 × mS) :=
  bd (ms S 1 (nI 0)) fun S1 =>
  some (mf S 1, S1)
theorem wX3_wipe_b0 (hc : mC p s m args meth c D cI cJ cX3_wipe 2 (some .int)) (S : mS) (H : Heap) (locs : List Loc) (ls : Array Slot) (hP : va_P D mCl (mws am cI cJ S) H) (hD : va_D (mA am) (mws am cI cJ S)) (hS : va_S (mA am) s.heap H locs) (hl : lv_has ls 2 [(0, .ref (am 0))]) (hf : fX3_wipe  S = some (r, Sf)) : W p l e (mR 0 0) s m args below meth c H locs 0 0 (mQ below D am cI cJ (some (.int r)) Sf args s) (F0 m 0 ls []) := by
  obtain ⟨hx, hb, hr, hlk, hml, hown, hts, hK⟩ := hc
  have hc : mC p s m args meth c D cI cJ cX3_wipe 2 (some .int) := ⟨hx, hb, hr, hlk, hml, hown, hts, hK⟩
  unfold fX3_wipe at hf
  refine lv_aload_n (pc := 0) hx hb dX3_wipe_0 rfl (lv_at hl 0 rfl) ?_
  refine va_get (D := D) (ci := 0) (v := .int (mf S 1)) (C := RX3) (T := TX3) (N := 17) (pc := 1) hx hb hts in_X3 hown hK hP 0 rfl rfl 7 (by decide) (hts _ q2846) (fun _ h9 => h9) rfl dX3_wipe_1 ?_
  refine lv_istore_n (pc := 4) (lv' := [(1, .int (mf S 1)), (0, .ref (am 0))]) hx hb dX3_wipe_4 rfl hl (by decide) rfl (fun ls hl => ?_)
  refine lv_aload_n (pc := 5) hx hb dX3_wipe_5 rfl (lv_at hl 1 rfl) ?_
  refine lv_iconst (pc := 6) (v := nI 0) hx hb dX3_wipe_6 rfl ?_
  obtain ⟨S1, e1, hf⟩ := bdo hf
  refine m_put (pc := 7) (j := 7) (js := 1) hx hb hts hown hK hP hD hS (by decide) rfl rfl (hts _ q2846) rfl rfl e1 dX3_wipe_7 (fun H locs hP hD hS => ?_)
  refine lv_iload_n (pc := 10) hx hb dX3_wipe_10 rfl (lv_at hl 0 rfl) ?_
  exact m_iret (pc := 11) hx hb hr hlk hP hD hS hf dX3_wipe_11
theorem mX3_wipe {S S2 : mS} {r2 : Int32} (hf : fX3_wipe  S = some (r2, S2)) : mMet l yX3_wipe cX3_wipe 2 (some .int) 0 0 D am cI cJ [.ref (am 0)] S (some (.int r2)) S2 := by
  exact m_start (by decide) rfl (Nat.le_of_ble_eq_true rfl) (fun p e s m args below meth c ls hc hl hP hD => wX3_wipe_b0 hc  S _ _ ls hP hD va_S.rf (lv_sub hl [0] rfl) hf)
end
section
variable {r : Int32} {Sf : mS}
def fX3_byteAt (l1 : Int32) (S : mS) : Option (Int32 × mS) :=
  if (mf S 1) ≤ l1 then
    some (-1, S)
  else
    bd (mrd S 5 250 l1) fun v2 =>
    some (v2, S)
theorem wX3_byteAt_b0 (hc : mC p s m args meth c D cI cJ cX3_byteAt 2 (some .int)) (l1 : Int32) (S : mS) (H : Heap) (locs : List Loc) (ls : Array Slot) (hP : va_P D mCl (mws am cI cJ S) H) (hD : va_D (mA am) (mws am cI cJ S)) (hS : va_S (mA am) s.heap H locs) (hl : lv_has ls 2 [(0, .ref (am 0)), (1, .int l1)]) (hf : fX3_byteAt l1 S = some (r, Sf)) : W p l e (mR 0 0) s m args below meth c H locs 0 0 (mQ below D am cI cJ (some (.int r)) Sf args s) (F0 m 0 ls []) := by
  obtain ⟨hx, hb, hr, hlk, hml, hown, hts, hK⟩ := hc
  have hc : mC p s m args meth c D cI cJ cX3_byteAt 2 (some .int) := ⟨hx, hb, hr, hlk, hml, hown, hts, hK⟩
  unfold fX3_byteAt at hf
  refine lv_iload_n (pc := 0) hx hb dX3_byteAt_0 rfl (lv_at hl 1 rfl) ?_
  refine lv_aload_n (pc := 1) hx hb dX3_byteAt_1 rfl (lv_at hl 0 rfl) ?_
  refine va_get (D := D) (ci := 0) (v := .int (mf S 1)) (C := RX3) (T := TX3) (N := 17) (pc := 2) hx hb hts in_X3 hown hK hP 0 rfl rfl 7 (by decide) (hts _ q2846) (fun _ h9 => h9) rfl dX3_byteAt_2 ?_
  refine lv_icmp_ge (pc := 5) (tgt := 17) hx hb dX3_byteAt_5 (by decide) (fun c1 => ?_) (fun c1 => ?_)
  · rw [if_pos c1] at hf
    refine lv_iconst (pc := 17) (v := -1) hx hb dX3_byteAt_17 rfl ?_
    exact m_iret (pc := 18) hx hb hr hlk hP hD hS hf dX3_byteAt_18
  · rw [if_neg c1] at hf
    refine lv_aload_n (pc := 8) hx hb dX3_byteAt_8 rfl (lv_at hl 0 rfl) ?_
    refine va_get (D := D) (ci := 0) (v := .ref (am 6)) (C := RX3) (T := TX3) (N := 17) (pc := 9) hx hb hts in_X3 hown hK hP 0 rfl rfl 6 (by decide) (hts _ q2845) (fun _ h9 => h9) rfl dX3_byteAt_9 ?_
    refine lv_iload_n (pc := 12) hx hb dX3_byteAt_12 rfl (lv_at hl 1 rfl) ?_
    obtain ⟨v2, e2, hf⟩ := bdo hf
    refine m_iald (pc := 13) (k := 5) hx hb hK hP rfl e2 dX3_byteAt_13 ?_
    refine lv_goto (pc := 14) (tgt := 18) hx hb dX3_byteAt_14 (by decide) ?_
    exact m_iret (pc := 18) hx hb hr hlk hP hD hS hf dX3_byteAt_18
theorem mX3_byteAt {S S2 : mS} {r2 : Int32} {l1 : Int32} (hf : fX3_byteAt l1 S = some (r2, S2)) : mMet l yX3_byteAt cX3_byteAt 2 (some .int) 0 0 D am cI cJ [.ref (am 0), .int l1] S (some (.int r2)) S2 := by
  exact m_start (by decide) rfl (Nat.le_of_ble_eq_true rfl) (fun p e s m args below meth c ls hc hl hP hD => wX3_byteAt_b0 hc l1 S _ _ ls hP hD va_S.rf (lv_sub hl [0, 1] rfl) hf)
end
section
variable {r : Int32} {Sf : mS}
def fX3_isRead_b154 (k10 : Int32 → mS → Option (Int32 × mS)) (l1 : Int32) (S : mS) : Option (Int32 × mS) :=
  bd (ms S 3 ((mf S 3) + (nI 1))) fun S1 =>
  if (mf S1 2) = (mf S1 1) then
    zr (nI 1) S1
  else
    bd2 (fX3_byteAt (mf S1 2) S1) fun v3 S3 =>
    if v3 = (nI 46) then
      if (mf S3 3) = (nI 4) then
        zr (nI 0) S3
      else
        bd (mrd S3 6 4 ((mf S3 3) - (nI 1))) fun v6 =>
        if v6 = (-3) then
          zr (nI 0) S3
        else
          bd (ms S3 2 ((mf S3 2) + (nI 1))) fun S8 =>
          k10 l1 S8
    else
      zr (nI 0) S3
theorem wX3_isRead_b154 (hc : mC p s m args meth c D cI cJ cX3_isRead 5 (some .boolean)) (k10 : Int32 → mS → Option (Int32 × mS)) (h10 : ∀ (l1 : Int32) (S : mS) (H : Heap) (locs : List Loc) (ls : Array Slot), va_P D mCl (mws am cI cJ S) H → va_D (mA am) (mws am cI cJ S) → va_S (mA am) s.heap H locs → lv_has ls 5 [(0, .ref (am 0)), (1, .int l1)] → k10 l1 S = some (r, Sf) → W p l e (mR 1 25) s m args below meth c H locs 0 0 (mQ below D am cI cJ (some (.int r)) Sf args s) (F0 m 10 ls [])) (l1 : Int32) (S : mS) (H : Heap) (locs : List Loc) (ls : Array Slot) (hP : va_P D mCl (mws am cI cJ S) H) (hD : va_D (mA am) (mws am cI cJ S)) (hS : va_S (mA am) s.heap H locs) (hl : lv_has ls 5 [(0, .ref (am 0)), (1, .int l1)]) (hf : fX3_isRead_b154 k10 l1 S = some (r, Sf)) : W p l e (mR 1 25) s m args below meth c H locs 0 0 (mQ below D am cI cJ (some (.int r)) Sf args s) (F0 m 154 ls []) := by
  obtain ⟨hx, hb, hr, hlk, hml, hown, hts, hK⟩ := hc
  have hc : mC p s m args meth c D cI cJ cX3_isRead 5 (some .boolean) := ⟨hx, hb, hr, hlk, hml, hown, hts, hK⟩
  unfold fX3_isRead_b154 at hf
  refine lv_aload_n (pc := 154) hx hb dX3_isRead_154 rfl (lv_at hl 0 rfl) ?_
  refine lv_dup (pc := 155) hx hb dX3_isRead_155 rfl ?_
  refine va_get (D := D) (ci := 0) (v := .int (mf S 3)) (C := RX3) (T := TX3) (N := 17) (pc := 156) hx hb hts in_X3 hown hK hP 0 rfl rfl 10 (by decide) (hts _ q2849) (fun _ h9 => h9) rfl dX3_isRead_156 ?_
  refine lv_iconst (pc := 159) (v := nI 1) hx hb dX3_isRead_159 rfl ?_
  refine lv_iadd (pc := 160) hx hb dX3_isRead_160 ?_
  obtain ⟨S1, e1, hf⟩ := bdo hf
  refine m_put (pc := 161) (j := 10) (js := 3) hx hb hts hown hK hP hD hS (by decide) rfl rfl (hts _ q2849) rfl rfl e1 dX3_isRead_161 (fun H locs hP hD hS => ?_)
  refine lv_aload_n (pc := 164) hx hb dX3_isRead_164 rfl (lv_at hl 0 rfl) ?_
  refine va_get (D := D) (ci := 0) (v := .int (mf S1 2)) (C := RX3) (T := TX3) (N := 17) (pc := 165) hx hb hts in_X3 hown hK hP 0 rfl rfl 8 (by decide) (hts _ q2847) (fun _ h9 => h9) rfl dX3_isRead_165 ?_
  refine lv_aload_n (pc := 168) hx hb dX3_isRead_168 rfl (lv_at hl 0 rfl) ?_
  refine va_get (D := D) (ci := 0) (v := .int (mf S1 1)) (C := RX3) (T := TX3) (N := 17) (pc := 169) hx hb hts in_X3 hown hK hP 0 rfl rfl 7 (by decide) (hts _ q2846) (fun _ h9 => h9) rfl dX3_isRead_169 ?_
  refine lv_icmp_ne (pc := 172) (tgt := 177) hx hb dX3_isRead_172 (by decide) (fun c2 => ?_) (fun c2 => ?_)
  · rw [if_neg c2] at hf
    refine lv_aload_n (pc := 177) hx hb dX3_isRead_177 rfl (lv_at hl 0 rfl) ?_
    refine lv_aload_n (pc := 178) hx hb dX3_isRead_178 rfl (lv_at hl 0 rfl) ?_
    refine va_get (D := D) (ci := 0) (v := .int (mf S1 2)) (C := RX3) (T := TX3) (N := 17) (pc := 179) hx hb hts in_X3 hown hK hP 0 rfl rfl 8 (by decide) (hts _ q2847) (fun _ h9 => h9) rfl dX3_isRead_179 ?_
    obtain ⟨v3, S3, e3, hf⟩ := bd2o hf
    refine m_callV (pc := 182) (As := [.int (mf S1 2)]) (rest := []) (st1 := [.int v3]) hc (mX3_byteAt e3) (cwV 1 hts (lw_V q2915 q2917 qs53 q105 q2918) rfl rfl rfl hdX3_byteAt ⟨Nat.le_of_ble_eq_true rfl, Nat.le_of_ble_eq_true rfl⟩) rfl hl.1 rfl rfl (lv_room (Nat.le_of_ble_eq_true rfl)) dX3_isRead_182 hP hD hS (fun H locs hP hD hS => ?_)
    refine lv_bipush (pc := 185) (v := nI 46) hx hb dX3_isRead_185 kcb46 ?_
    refine lv_icmp_ne (pc := 187) (tgt := 214) hx hb dX3_isRead_187 (by decide) (fun c4 => ?_) (fun c4 => ?_)
    · rw [if_neg c4] at hf
      refine lv_iconst (pc := 214) (v := nI 0) hx hb dX3_isRead_214 rfl ?_
      exact m_zret (pc := 215) hx hb hr hlk hP hD hS hf dX3_isRead_215
    · rw [if_pos c4] at hf
      refine lv_aload_n (pc := 190) hx hb dX3_isRead_190 rfl (lv_at hl 0 rfl) ?_
      refine va_get (D := D) (ci := 0) (v := .int (mf S3 3)) (C := RX3) (T := TX3) (N := 17) (pc := 191) hx hb hts in_X3 hown hK hP 0 rfl rfl 10 (by decide) (hts _ q2849) (fun _ h9 => h9) rfl dX3_isRead_191 ?_
      refine lv_iconst (pc := 194) (v := nI 4) hx hb dX3_isRead_194 rfl ?_
      refine lv_icmp_eq (pc := 195) (tgt := 214) hx hb dX3_isRead_195 (by decide) (fun c5 => ?_) (fun c5 => ?_)
      · rw [if_pos c5] at hf
        refine lv_iconst (pc := 214) (v := nI 0) hx hb dX3_isRead_214 rfl ?_
        exact m_zret (pc := 215) hx hb hr hlk hP hD hS hf dX3_isRead_215
      · rw [if_neg c5] at hf
        refine lv_aload_n (pc := 198) hx hb dX3_isRead_198 rfl (lv_at hl 0 rfl) ?_
        refine va_get (D := D) (ci := 0) (v := .ref (am 7)) (C := RX3) (T := TX3) (N := 17) (pc := 199) hx hb hts in_X3 hown hK hP 0 rfl rfl 9 (by decide) (hts _ q2848) (fun _ h9 => h9) rfl dX3_isRead_199 ?_
        refine lv_aload_n (pc := 202) hx hb dX3_isRead_202 rfl (lv_at hl 0 rfl) ?_
        refine va_get (D := D) (ci := 0) (v := .int (mf S3 3)) (C := RX3) (T := TX3) (N := 17) (pc := 203) hx hb hts in_X3 hown hK hP 0 rfl rfl 10 (by decide) (hts _ q2849) (fun _ h9 => h9) rfl dX3_isRead_203 ?_
        refine lv_iconst (pc := 206) (v := nI 1) hx hb dX3_isRead_206 rfl ?_
        refine lv_isub (pc := 207) hx hb dX3_isRead_207 ?_
        obtain ⟨v6, e6, hf⟩ := bdo hf
        refine m_iald (pc := 208) (k := 6) hx hb hK hP rfl e6 dX3_isRead_208 ?_
        refine lv_bipush (pc := 209) (v := -3) hx hb dX3_isRead_209 kcbm3 ?_
        refine lv_icmp_ne (pc := 211) (tgt := 216) hx hb dX3_isRead_211 (by decide) (fun c7 => ?_) (fun c7 => ?_)
        · rw [if_neg c7] at hf
          refine lv_aload_n (pc := 216) hx hb dX3_isRead_216 rfl (lv_at hl 0 rfl) ?_
          refine lv_dup (pc := 217) hx hb dX3_isRead_217 rfl ?_
          refine va_get (D := D) (ci := 0) (v := .int (mf S3 2)) (C := RX3) (T := TX3) (N := 17) (pc := 218) hx hb hts in_X3 hown hK hP 0 rfl rfl 8 (by decide) (hts _ q2847) (fun _ h9 => h9) rfl dX3_isRead_218 ?_
          refine lv_iconst (pc := 221) (v := nI 1) hx hb dX3_isRead_221 rfl ?_
          refine lv_iadd (pc := 222) hx hb dX3_isRead_222 ?_
          obtain ⟨S8, e8, hf⟩ := bdo hf
          refine m_put (pc := 223) (j := 8) (js := 2) hx hb hts hown hK hP hD hS (by decide) rfl rfl (hts _ q2847) rfl rfl e8 dX3_isRead_223 (fun H locs hP hD hS => ?_)
          refine lv_goto (pc := 226) (tgt := 10) hx hb dX3_isRead_226 (by decide) ?_
          exact h10 l1 S8 _ _ ls hP hD hS (lv_sub hl [0, 1] rfl) hf
        · rw [if_pos c7] at hf
          refine lv_iconst (pc := 214) (v := nI 0) hx hb dX3_isRead_214 rfl ?_
          exact m_zret (pc := 215) hx hb hr hlk hP hD hS hf dX3_isRead_215
  · rw [if_pos c2] at hf
    refine lv_iconst (pc := 175) (v := nI 1) hx hb dX3_isRead_175 rfl ?_
    exact m_zret (pc := 176) hx hb hr hlk hP hD hS hf dX3_isRead_176
def fX3_isRead_b137 (k10 : Int32 → mS → Option (Int32 × mS)) (l1 : Int32) (l3 : Int32) (l4 : Int32) (S : mS) : Option (Int32 × mS) :=
  if l4 = 0 then
    zr (nI 0) S
  else
    bd (mwr S 6 4 (mf S 3) l3) fun S2 =>
    fX3_isRead_b154 k10 l1 S2
theorem wX3_isRead_b137 (hc : mC p s m args meth c D cI cJ cX3_isRead 5 (some .boolean)) (k10 : Int32 → mS → Option (Int32 × mS)) (h10 : ∀ (l1 : Int32) (S : mS) (H : Heap) (locs : List Loc) (ls : Array Slot), va_P D mCl (mws am cI cJ S) H → va_D (mA am) (mws am cI cJ S) → va_S (mA am) s.heap H locs → lv_has ls 5 [(0, .ref (am 0)), (1, .int l1)] → k10 l1 S = some (r, Sf) → W p l e (mR 1 25) s m args below meth c H locs 0 0 (mQ below D am cI cJ (some (.int r)) Sf args s) (F0 m 10 ls [])) (l1 : Int32) (l3 : Int32) (l4 : Int32) (S : mS) (H : Heap) (locs : List Loc) (ls : Array Slot) (hP : va_P D mCl (mws am cI cJ S) H) (hD : va_D (mA am) (mws am cI cJ S)) (hS : va_S (mA am) s.heap H locs) (hl : lv_has ls 5 [(0, .ref (am 0)), (1, .int l1), (3, .int l3), (4, .int l4)]) (hf : fX3_isRead_b137 k10 l1 l3 l4 S = some (r, Sf)) : W p l e (mR 1 25) s m args below meth c H locs 0 0 (mQ below D am cI cJ (some (.int r)) Sf args s) (F0 m 137 ls []) := by
  obtain ⟨hx, hb, hr, hlk, hml, hown, hts, hK⟩ := hc
  have hc : mC p s m args meth c D cI cJ cX3_isRead 5 (some .boolean) := ⟨hx, hb, hr, hlk, hml, hown, hts, hK⟩
  unfold fX3_isRead_b137 at hf
  refine lv_iload (pc := 137) hx hb dX3_isRead_137 (lv_at hl 3 rfl) ?_
  refine lv_if_ne (pc := 139) (tgt := 144) hx hb dX3_isRead_139 (by decide) (fun c1 => ?_) (fun c1 => ?_)
  · rw [if_neg c1] at hf
    refine lv_aload_n (pc := 144) hx hb dX3_isRead_144 rfl (lv_at hl 0 rfl) ?_
    refine va_get (D := D) (ci := 0) (v := .ref (am 7)) (C := RX3) (T := TX3) (N := 17) (pc := 145) hx hb hts in_X3 hown hK hP 0 rfl rfl 9 (by decide) (hts _ q2848) (fun _ h9 => h9) rfl dX3_isRead_145 ?_
    refine lv_aload_n (pc := 148) hx hb dX3_isRead_148 rfl (lv_at hl 0 rfl) ?_
    refine va_get (D := D) (ci := 0) (v := .int (mf S 3)) (C := RX3) (T := TX3) (N := 17) (pc := 149) hx hb hts in_X3 hown hK hP 0 rfl rfl 10 (by decide) (hts _ q2849) (fun _ h9 => h9) rfl dX3_isRead_149 ?_
    refine lv_iload_n (pc := 152) hx hb dX3_isRead_152 rfl (lv_at hl 2 rfl) ?_
    obtain ⟨S2, e2, hf⟩ := bdo hf
    refine m_iast (pc := 153) (k := 6) hx hb hK hP hD hS rfl (fun _ _ => rfl) e2 dX3_isRead_153 (fun H locs hP hD hS => ?_)
    exact wX3_isRead_b154 hc k10 h10 l1 S2 _ _ ls hP hD hS (lv_sub hl [0, 1] rfl) hf
  · rw [if_pos c1] at hf
    refine lv_iconst (pc := 142) (v := nI 0) hx hb dX3_isRead_142 rfl ?_
    exact m_zret (pc := 143) hx hb hr hlk hP hD hS hf dX3_isRead_143
def fX3_isRead_b75 (k10 : Int32 → mS → Option (Int32 × mS)) : Nat → Int32 → Int32 → Int32 → mS → Option (Int32 × mS)
  | 0, _, _, _, _ => none
  | n + 1, l1, l3, l4, S =>
    if (nI 4) ≤ l4 then
      fX3_isRead_b137 k10 l1 l3 l4 S
    else
      bd2 (fX3_byteAt (mf S 2) S) fun v2 S2 =>
      bd2 (fX3_in v2.toInt64 (lN 97) (lN 122) S2) fun v3 S3 =>
      if v3 = 0 then
        fX3_isRead_b137 k10 l1 l3 l4 S3
      else
        bd2 (fX3_byteAt (mf S3 2) S3) fun v5 S5 =>
        bd (ms S5 2 ((mf S5 2) + (nI 1))) fun S6 =>
        fX3_isRead_b75 k10 n l1 (((((nI 27) * l3) + v5) - (nI 97)) + (nI 1)) (l4 + (nI 1)) S6
theorem wX3_isRead_b75 (hc : mC p s m args meth c D cI cJ cX3_isRead 5 (some .boolean)) (k10 : Int32 → mS → Option (Int32 × mS)) (h10 : ∀ (l1 : Int32) (S : mS) (H : Heap) (locs : List Loc) (ls : Array Slot), va_P D mCl (mws am cI cJ S) H → va_D (mA am) (mws am cI cJ S) → va_S (mA am) s.heap H locs → lv_has ls 5 [(0, .ref (am 0)), (1, .int l1)] → k10 l1 S = some (r, Sf) → W p l e (mR 1 25) s m args below meth c H locs 0 0 (mQ below D am cI cJ (some (.int r)) Sf args s) (F0 m 10 ls [])) : ∀ (n : Nat) (l1 : Int32) (l3 : Int32) (l4 : Int32) (S : mS) (H : Heap) (locs : List Loc) (ls : Array Slot), va_P D mCl (mws am cI cJ S) H → va_D (mA am) (mws am cI cJ S) → va_S (mA am) s.heap H locs → lv_has ls 5 [(0, .ref (am 0)), (1, .int l1), (3, .int l3), (4, .int l4)] → fX3_isRead_b75 k10 n l1 l3 l4 S = some (r, Sf) → W p l e (mR 1 25) s m args below meth c H locs 0 0 (mQ below D am cI cJ (some (.int r)) Sf args s) (F0 m 75 ls []) := by
  obtain ⟨hx, hb, hr, hlk, hml, hown, hts, hK⟩ := hc
  have hc : mC p s m args meth c D cI cJ cX3_isRead 5 (some .boolean) := ⟨hx, hb, hr, hlk, hml, hown, hts, hK⟩
  intro n
  induction n with
  | zero => intro l1 l3 l4 S H locs ls _ _ _ _ hf; exact absurd hf (fun h => by cases h)
  | succ n ih =>
    intro l1 l3 l4 S H locs ls hP hD hS hl hf
    rw [fX3_isRead_b75] at hf
    refine lv_iload (pc := 75) hx hb dX3_isRead_75 (lv_at hl 3 rfl) ?_
    refine lv_iconst (pc := 77) (v := nI 4) hx hb dX3_isRead_77 rfl ?_
    refine lv_icmp_ge (pc := 78) (tgt := 137) hx hb dX3_isRead_78 (by decide) (fun c1 => ?_) (fun c1 => ?_)
    · rw [if_pos c1] at hf
      exact wX3_isRead_b137 hc k10 h10 l1 l3 l4 S _ _ ls hP hD hS (lv_sub hl [0, 1, 2, 3] rfl) hf
    · rw [if_neg c1] at hf
      refine lv_aload_n (pc := 81) hx hb dX3_isRead_81 rfl (lv_at hl 0 rfl) ?_
      refine lv_aload_n (pc := 82) hx hb dX3_isRead_82 rfl (lv_at hl 0 rfl) ?_
      refine va_get (D := D) (ci := 0) (v := .int (mf S 2)) (C := RX3) (T := TX3) (N := 17) (pc := 83) hx hb hts in_X3 hown hK hP 0 rfl rfl 8 (by decide) (hts _ q2847) (fun _ h9 => h9) rfl dX3_isRead_83 ?_
      obtain ⟨v2, S2, e2, hf⟩ := bd2o hf
      refine m_callV (pc := 86) (As := [.int (mf S 2)]) (rest := []) (st1 := [.int v2]) hc (mX3_byteAt e2) (cwV 1 hts (lw_V q2915 q2917 qs53 q105 q2918) rfl rfl rfl hdX3_byteAt ⟨Nat.le_of_ble_eq_true rfl, Nat.le_of_ble_eq_true rfl⟩) rfl hl.1 rfl rfl (lv_room (Nat.le_of_ble_eq_true rfl)) dX3_isRead_86 hP hD hS (fun H locs hP hD hS => ?_)
      refine lv_i2l (pc := 89) hx hb dX3_isRead_89 rfl ?_
      refine lv_ldc2 (pc := 90) (v := lN 97) hx hb hown (hts _ q2919) dX3_isRead_90 ?_
      refine lv_ldc2 (pc := 93) (v := lN 122) hx hb hown (hts _ q2920) dX3_isRead_93 ?_
      obtain ⟨v3, S3, e3, hf⟩ := bd2o hf
      refine m_callS (pc := 96) (As := [.long v2.toInt64, .long (lN 97), .long (lN 122)]) (rest := []) (st1 := [.int v3]) hc (mX3_in e3) (va_cwS 3 hts (lw_S q2896 q2897 q105 q2898) rfl rfl rfl hdX3_in ⟨Nat.le_of_ble_eq_true rfl, Nat.le_of_ble_eq_true rfl⟩) rfl hl.1 rfl rfl (lv_room (Nat.le_of_ble_eq_true rfl)) dX3_isRead_96 hP hD hS (fun H locs hP hD hS => ?_)
      refine lv_if_eq (pc := 99) (tgt := 137) hx hb dX3_isRead_99 (by decide) (fun c4 => ?_) (fun c4 => ?_)
      · rw [if_pos c4] at hf
        exact wX3_isRead_b137 hc k10 h10 l1 l3 l4 S3 _ _ ls hP hD hS (lv_sub hl [0, 1, 2, 3] rfl) hf
      · rw [if_neg c4] at hf
        refine lv_bipush (pc := 102) (v := nI 27) hx hb dX3_isRead_102 kcb27 ?_
        refine lv_iload_n (pc := 104) hx hb dX3_isRead_104 rfl (lv_at hl 2 rfl) ?_
        refine lv_imul (pc := 105) hx hb dX3_isRead_105 ?_
        refine lv_aload_n (pc := 106) hx hb dX3_isRead_106 rfl (lv_at hl 0 rfl) ?_
        refine lv_aload_n (pc := 107) hx hb dX3_isRead_107 rfl (lv_at hl 0 rfl) ?_
        refine va_get (D := D) (ci := 0) (v := .int (mf S3 2)) (C := RX3) (T := TX3) (N := 17) (pc := 108) hx hb hts in_X3 hown hK hP 0 rfl rfl 8 (by decide) (hts _ q2847) (fun _ h9 => h9) rfl dX3_isRead_108 ?_
        obtain ⟨v5, S5, e5, hf⟩ := bd2o hf
        refine m_callV (pc := 111) (As := [.int (mf S3 2)]) (rest := [.int ((nI 27) * l3)]) (st1 := [.int v5, .int ((nI 27) * l3)]) hc (mX3_byteAt e5) (cwV 1 hts (lw_V q2915 q2917 qs53 q105 q2918) rfl rfl rfl hdX3_byteAt ⟨Nat.le_of_ble_eq_true rfl, Nat.le_of_ble_eq_true rfl⟩) rfl hl.1 rfl rfl (lv_room (Nat.le_of_ble_eq_true rfl)) dX3_isRead_111 hP hD hS (fun H locs hP hD hS => ?_)
        refine lv_iadd (pc := 114) hx hb dX3_isRead_114 ?_
        refine lv_bipush (pc := 115) (v := nI 97) hx hb dX3_isRead_115 kcb97 ?_
        refine lv_isub (pc := 117) hx hb dX3_isRead_117 ?_
        refine lv_iconst (pc := 118) (v := nI 1) hx hb dX3_isRead_118 rfl ?_
        refine lv_iadd (pc := 119) hx hb dX3_isRead_119 ?_
        refine lv_istore_n (pc := 120) (lv' := [(3, .int (((((nI 27) * l3) + v5) - (nI 97)) + (nI 1))), (0, .ref (am 0)), (1, .int l1), (4, .int l4)]) hx hb dX3_isRead_120 rfl hl (by decide) rfl (fun ls hl => ?_)
        refine lv_aload_n (pc := 121) hx hb dX3_isRead_121 rfl (lv_at hl 1 rfl) ?_
        refine lv_dup (pc := 122) hx hb dX3_isRead_122 rfl ?_
        refine va_get (D := D) (ci := 0) (v := .int (mf S5 2)) (C := RX3) (T := TX3) (N := 17) (pc := 123) hx hb hts in_X3 hown hK hP 0 rfl rfl 8 (by decide) (hts _ q2847) (fun _ h9 => h9) rfl dX3_isRead_123 ?_
        refine lv_iconst (pc := 126) (v := nI 1) hx hb dX3_isRead_126 rfl ?_
        refine lv_iadd (pc := 127) hx hb dX3_isRead_127 ?_
        obtain ⟨S6, e6, hf⟩ := bdo hf
        refine m_put (pc := 128) (j := 8) (js := 2) hx hb hts hown hK hP hD hS (by decide) rfl rfl (hts _ q2847) rfl rfl e6 dX3_isRead_128 (fun H locs hP hD hS => ?_)
        refine lv_iinc (pc := 131) (v := l4 + (nI 1)) (lv' := [(4, .int (l4 + (nI 1))), (3, .int (((((nI 27) * l3) + v5) - (nI 97)) + (nI 1))), (0, .ref (am 0)), (1, .int l1)]) hx hb dX3_isRead_131 hl (k := 3) rfl rfl (by decide) rfl (fun ls hl => ?_)
        refine lv_goto (pc := 134) (tgt := 75) hx hb dX3_isRead_134 (by decide) ?_
        exact ih l1 (((((nI 27) * l3) + v5) - (nI 97)) + (nI 1)) (l4 + (nI 1)) S6 _ _ ls hP hD hS (lv_sub hl [2, 3, 1, 0] rfl) hf
def fX3_isRead_b70 (k10 : Int32 → mS → Option (Int32 × mS)) (l1 : Int32) (S : mS) : Option (Int32 × mS) :=
  fX3_isRead_b75 k10 FU l1 (nI 0) (nI 0) S
theorem wX3_isRead_b70 (hc : mC p s m args meth c D cI cJ cX3_isRead 5 (some .boolean)) (k10 : Int32 → mS → Option (Int32 × mS)) (h10 : ∀ (l1 : Int32) (S : mS) (H : Heap) (locs : List Loc) (ls : Array Slot), va_P D mCl (mws am cI cJ S) H → va_D (mA am) (mws am cI cJ S) → va_S (mA am) s.heap H locs → lv_has ls 5 [(0, .ref (am 0)), (1, .int l1)] → k10 l1 S = some (r, Sf) → W p l e (mR 1 25) s m args below meth c H locs 0 0 (mQ below D am cI cJ (some (.int r)) Sf args s) (F0 m 10 ls [])) (l1 : Int32) (S : mS) (H : Heap) (locs : List Loc) (ls : Array Slot) (hP : va_P D mCl (mws am cI cJ S) H) (hD : va_D (mA am) (mws am cI cJ S)) (hS : va_S (mA am) s.heap H locs) (hl : lv_has ls 5 [(0, .ref (am 0)), (1, .int l1)]) (hf : fX3_isRead_b70 k10 l1 S = some (r, Sf)) : W p l e (mR 1 25) s m args below meth c H locs 0 0 (mQ below D am cI cJ (some (.int r)) Sf args s) (F0 m 70 ls []) := by
  obtain ⟨hx, hb, hr, hlk, hml, hown, hts, hK⟩ := hc
  have hc : mC p s m args meth c D cI cJ cX3_isRead 5 (some .boolean) := ⟨hx, hb, hr, hlk, hml, hown, hts, hK⟩
  unfold fX3_isRead_b70 at hf
  refine lv_iconst (pc := 70) (v := nI 0) hx hb dX3_isRead_70 rfl ?_
  refine lv_istore_n (pc := 71) (lv' := [(3, .int (nI 0)), (0, .ref (am 0)), (1, .int l1)]) hx hb dX3_isRead_71 rfl hl (by decide) rfl (fun ls hl => ?_)
  refine lv_iconst (pc := 72) (v := nI 0) hx hb dX3_isRead_72 rfl ?_
  refine lv_istore (pc := 73) (lv' := [(4, .int (nI 0)), (3, .int (nI 0)), (0, .ref (am 0)), (1, .int l1)]) hx hb dX3_isRead_73 hl (by decide) rfl (fun ls hl => ?_)
  exact wX3_isRead_b75 hc k10 h10 FU l1 (nI 0) (nI 0) S _ _ ls hP hD hS (lv_sub hl [2, 3, 1, 0] rfl) hf
def fX3_isRead_b56 (k10 : Int32 → mS → Option (Int32 × mS)) (l1 : Int32) (t1 : Int32) (t2 : Int32) (S : mS) : Option (Int32 × mS) :=
  bd (mwr S 6 4 t1 t2) fun S1 =>
  bd (ms S1 2 ((mf S1 2) + (nI 1))) fun S2 =>
  fX3_isRead_b154 k10 l1 S2
theorem wX3_isRead_b56 (hc : mC p s m args meth c D cI cJ cX3_isRead 5 (some .boolean)) (k10 : Int32 → mS → Option (Int32 × mS)) (h10 : ∀ (l1 : Int32) (S : mS) (H : Heap) (locs : List Loc) (ls : Array Slot), va_P D mCl (mws am cI cJ S) H → va_D (mA am) (mws am cI cJ S) → va_S (mA am) s.heap H locs → lv_has ls 5 [(0, .ref (am 0)), (1, .int l1)] → k10 l1 S = some (r, Sf) → W p l e (mR 1 25) s m args below meth c H locs 0 0 (mQ below D am cI cJ (some (.int r)) Sf args s) (F0 m 10 ls [])) (l1 : Int32) (t1 : Int32) (t2 : Int32) (S : mS) (H : Heap) (locs : List Loc) (ls : Array Slot) (hP : va_P D mCl (mws am cI cJ S) H) (hD : va_D (mA am) (mws am cI cJ S)) (hS : va_S (mA am) s.heap H locs) (hl : lv_has ls 5 [(0, .ref (am 0)), (1, .int l1)]) (hf : fX3_isRead_b56 k10 l1 t1 t2 S = some (r, Sf)) : W p l e (mR 1 25) s m args below meth c H locs 0 0 (mQ below D am cI cJ (some (.int r)) Sf args s) (F0 m 56 ls [.int t2, .int t1, .ref (am 7)]) := by
  obtain ⟨hx, hb, hr, hlk, hml, hown, hts, hK⟩ := hc
  have hc : mC p s m args meth c D cI cJ cX3_isRead 5 (some .boolean) := ⟨hx, hb, hr, hlk, hml, hown, hts, hK⟩
  unfold fX3_isRead_b56 at hf
  obtain ⟨S1, e1, hf⟩ := bdo hf
  refine m_iast (pc := 56) (k := 6) hx hb hK hP hD hS rfl (fun _ _ => rfl) e1 dX3_isRead_56 (fun H locs hP hD hS => ?_)
  refine lv_aload_n (pc := 57) hx hb dX3_isRead_57 rfl (lv_at hl 0 rfl) ?_
  refine lv_dup (pc := 58) hx hb dX3_isRead_58 rfl ?_
  refine va_get (D := D) (ci := 0) (v := .int (mf S1 2)) (C := RX3) (T := TX3) (N := 17) (pc := 59) hx hb hts in_X3 hown hK hP 0 rfl rfl 8 (by decide) (hts _ q2847) (fun _ h9 => h9) rfl dX3_isRead_59 ?_
  refine lv_iconst (pc := 62) (v := nI 1) hx hb dX3_isRead_62 rfl ?_
  refine lv_iadd (pc := 63) hx hb dX3_isRead_63 ?_
  obtain ⟨S2, e2, hf⟩ := bdo hf
  refine m_put (pc := 64) (j := 8) (js := 2) hx hb hts hown hK hP hD hS (by decide) rfl rfl (hts _ q2847) rfl rfl e2 dX3_isRead_64 (fun H locs hP hD hS => ?_)
  refine lv_goto (pc := 67) (tgt := 154) hx hb dX3_isRead_67 (by decide) ?_
  exact wX3_isRead_b154 hc k10 h10 l1 S2 _ _ ls hP hD hS (lv_sub hl [0, 1] rfl) hf
def fX3_isRead_b35 (k10 : Int32 → mS → Option (Int32 × mS)) (l1 : Int32) (l2 : Int32) (S : mS) : Option (Int32 × mS) :=
  if l2 = (nI 42) then
    fX3_isRead_b56 k10 l1 (mf S 3) (-2) S
  else
    fX3_isRead_b56 k10 l1 (mf S 3) (-3) S
theorem wX3_isRead_b35 (hc : mC p s m args meth c D cI cJ cX3_isRead 5 (some .boolean)) (k10 : Int32 → mS → Option (Int32 × mS)) (h10 : ∀ (l1 : Int32) (S : mS) (H : Heap) (locs : List Loc) (ls : Array Slot), va_P D mCl (mws am cI cJ S) H → va_D (mA am) (mws am cI cJ S) → va_S (mA am) s.heap H locs → lv_has ls 5 [(0, .ref (am 0)), (1, .int l1)] → k10 l1 S = some (r, Sf) → W p l e (mR 1 25) s m args below meth c H locs 0 0 (mQ below D am cI cJ (some (.int r)) Sf args s) (F0 m 10 ls [])) (l1 : Int32) (l2 : Int32) (S : mS) (H : Heap) (locs : List Loc) (ls : Array Slot) (hP : va_P D mCl (mws am cI cJ S) H) (hD : va_D (mA am) (mws am cI cJ S)) (hS : va_S (mA am) s.heap H locs) (hl : lv_has ls 5 [(0, .ref (am 0)), (1, .int l1), (2, .int l2)]) (hf : fX3_isRead_b35 k10 l1 l2 S = some (r, Sf)) : W p l e (mR 1 25) s m args below meth c H locs 0 0 (mQ below D am cI cJ (some (.int r)) Sf args s) (F0 m 35 ls []) := by
  obtain ⟨hx, hb, hr, hlk, hml, hown, hts, hK⟩ := hc
  have hc : mC p s m args meth c D cI cJ cX3_isRead 5 (some .boolean) := ⟨hx, hb, hr, hlk, hml, hown, hts, hK⟩
  unfold fX3_isRead_b35 at hf
  refine lv_aload_n (pc := 35) hx hb dX3_isRead_35 rfl (lv_at hl 0 rfl) ?_
  refine va_get (D := D) (ci := 0) (v := .ref (am 7)) (C := RX3) (T := TX3) (N := 17) (pc := 36) hx hb hts in_X3 hown hK hP 0 rfl rfl 9 (by decide) (hts _ q2848) (fun _ h9 => h9) rfl dX3_isRead_36 ?_
  refine lv_aload_n (pc := 39) hx hb dX3_isRead_39 rfl (lv_at hl 0 rfl) ?_
  refine va_get (D := D) (ci := 0) (v := .int (mf S 3)) (C := RX3) (T := TX3) (N := 17) (pc := 40) hx hb hts in_X3 hown hK hP 0 rfl rfl 10 (by decide) (hts _ q2849) (fun _ h9 => h9) rfl dX3_isRead_40 ?_
  refine lv_iload_n (pc := 43) hx hb dX3_isRead_43 rfl (lv_at hl 2 rfl) ?_
  refine lv_bipush (pc := 44) (v := nI 42) hx hb dX3_isRead_44 kcb42 ?_
  refine lv_icmp_ne (pc := 46) (tgt := 54) hx hb dX3_isRead_46 (by decide) (fun c1 => ?_) (fun c1 => ?_)
  · rw [if_neg c1] at hf
    refine lv_bipush (pc := 54) (v := -3) hx hb dX3_isRead_54 kcbm3 ?_
    exact wX3_isRead_b56 hc k10 h10 l1 (mf S 3) (-3) S _ _ ls hP hD hS (lv_sub hl [0, 1] rfl) hf
  · rw [if_pos c1] at hf
    refine lv_bipush (pc := 49) (v := -2) hx hb dX3_isRead_49 kcbm2 ?_
    refine lv_goto (pc := 51) (tgt := 56) hx hb dX3_isRead_51 (by decide) ?_
    exact wX3_isRead_b56 hc k10 h10 l1 (mf S 3) (-2) S _ _ ls hP hD hS (lv_sub hl [0, 1] rfl) hf
def fX3_isRead_b10 : Nat → Int32 → mS → Option (Int32 × mS)
  | 0, _, _ => none
  | n + 1, l1, S =>
    bd2 (fX3_byteAt (mf S 2) S) fun v1 S1 =>
    if l1 = 0 then
      fX3_isRead_b70 (fX3_isRead_b10 n) l1 S1
    else
      if v1 = (nI 42) then
        fX3_isRead_b35 (fX3_isRead_b10 n) l1 v1 S1
      else
        if v1 = (nI 35) then
          fX3_isRead_b35 (fX3_isRead_b10 n) l1 v1 S1
        else
          fX3_isRead_b70 (fX3_isRead_b10 n) l1 S1
theorem wX3_isRead_b10 (hc : mC p s m args meth c D cI cJ cX3_isRead 5 (some .boolean)) : ∀ (n : Nat) (l1 : Int32) (S : mS) (H : Heap) (locs : List Loc) (ls : Array Slot), va_P D mCl (mws am cI cJ S) H → va_D (mA am) (mws am cI cJ S) → va_S (mA am) s.heap H locs → lv_has ls 5 [(0, .ref (am 0)), (1, .int l1)] → fX3_isRead_b10 n l1 S = some (r, Sf) → W p l e (mR 1 25) s m args below meth c H locs 0 0 (mQ below D am cI cJ (some (.int r)) Sf args s) (F0 m 10 ls []) := by
  obtain ⟨hx, hb, hr, hlk, hml, hown, hts, hK⟩ := hc
  have hc : mC p s m args meth c D cI cJ cX3_isRead 5 (some .boolean) := ⟨hx, hb, hr, hlk, hml, hown, hts, hK⟩
  intro n
  induction n with
  | zero => intro l1 S H locs ls _ _ _ _ hf; exact absurd hf (fun h => by cases h)
  | succ n ih =>
    intro l1 S H locs ls hP hD hS hl hf
    rw [fX3_isRead_b10] at hf
    refine lv_aload_n (pc := 10) hx hb dX3_isRead_10 rfl (lv_at hl 0 rfl) ?_
    refine lv_aload_n (pc := 11) hx hb dX3_isRead_11 rfl (lv_at hl 0 rfl) ?_
    refine va_get (D := D) (ci := 0) (v := .int (mf S 2)) (C := RX3) (T := TX3) (N := 17) (pc := 12) hx hb hts in_X3 hown hK hP 0 rfl rfl 8 (by decide) (hts _ q2847) (fun _ h9 => h9) rfl dX3_isRead_12 ?_
    obtain ⟨v1, S1, e1, hf⟩ := bd2o hf
    refine m_callV (pc := 15) (As := [.int (mf S 2)]) (rest := []) (st1 := [.int v1]) hc (mX3_byteAt e1) (cwV 1 hts (lw_V q2915 q2917 qs53 q105 q2918) rfl rfl rfl hdX3_byteAt ⟨Nat.le_of_ble_eq_true rfl, Nat.le_of_ble_eq_true rfl⟩) rfl hl.1 rfl rfl (lv_room (Nat.le_of_ble_eq_true rfl)) dX3_isRead_15 hP hD hS (fun H locs hP hD hS => ?_)
    refine lv_istore_n (pc := 18) (lv' := [(2, .int v1), (0, .ref (am 0)), (1, .int l1)]) hx hb dX3_isRead_18 rfl hl (by decide) rfl (fun ls hl => ?_)
    refine lv_iload_n (pc := 19) hx hb dX3_isRead_19 rfl (lv_at hl 2 rfl) ?_
    refine lv_if_eq (pc := 20) (tgt := 70) hx hb dX3_isRead_20 (by decide) (fun c2 => ?_) (fun c2 => ?_)
    · rw [if_pos c2] at hf
      exact wX3_isRead_b70 hc (fX3_isRead_b10 n) ih l1 S1 _ _ ls hP hD hS (lv_sub hl [1, 2] rfl) hf
    · rw [if_neg c2] at hf
      refine lv_iload_n (pc := 23) hx hb dX3_isRead_23 rfl (lv_at hl 0 rfl) ?_
      refine lv_bipush (pc := 24) (v := nI 42) hx hb dX3_isRead_24 kcb42 ?_
      refine lv_icmp_eq (pc := 26) (tgt := 35) hx hb dX3_isRead_26 (by decide) (fun c3 => ?_) (fun c3 => ?_)
      · rw [if_pos c3] at hf
        exact wX3_isRead_b35 hc (fX3_isRead_b10 n) ih l1 v1 S1 _ _ ls hP hD hS (lv_sub hl [1, 2, 0] rfl) hf
      · rw [if_neg c3] at hf
        refine lv_iload_n (pc := 29) hx hb dX3_isRead_29 rfl (lv_at hl 0 rfl) ?_
        refine lv_bipush (pc := 30) (v := nI 35) hx hb dX3_isRead_30 kcb35 ?_
        refine lv_icmp_ne (pc := 32) (tgt := 70) hx hb dX3_isRead_32 (by decide) (fun c4 => ?_) (fun c4 => ?_)
        · rw [if_neg c4] at hf
          exact wX3_isRead_b70 hc (fX3_isRead_b10 n) ih l1 S1 _ _ ls hP hD hS (lv_sub hl [1, 2] rfl) hf
        · rw [if_pos c4] at hf
          exact wX3_isRead_b35 hc (fX3_isRead_b10 n) ih l1 v1 S1 _ _ ls hP hD hS (lv_sub hl [1, 2, 0] rfl) hf
def fX3_isRead (l1 : Int32) (S : mS) : Option (Int32 × mS) :=
  bd (ms S 2 (nI 0)) fun S1 =>
  bd (ms S1 3 (nI 0)) fun S2 =>
  fX3_isRead_b10 FU l1 S2
theorem wX3_isRead_b0 (hc : mC p s m args meth c D cI cJ cX3_isRead 5 (some .boolean)) (l1 : Int32) (S : mS) (H : Heap) (locs : List Loc) (ls : Array Slot) (hP : va_P D mCl (mws am cI cJ S) H) (hD : va_D (mA am) (mws am cI cJ S)) (hS : va_S (mA am) s.heap H locs) (hl : lv_has ls 5 [(0, .ref (am 0)), (1, .int l1)]) (hf : fX3_isRead l1 S = some (r, Sf)) : W p l e (mR 1 25) s m args below meth c H locs 0 0 (mQ below D am cI cJ (some (.int r)) Sf args s) (F0 m 0 ls []) := by
  obtain ⟨hx, hb, hr, hlk, hml, hown, hts, hK⟩ := hc
  have hc : mC p s m args meth c D cI cJ cX3_isRead 5 (some .boolean) := ⟨hx, hb, hr, hlk, hml, hown, hts, hK⟩
  unfold fX3_isRead at hf
  refine lv_aload_n (pc := 0) hx hb dX3_isRead_0 rfl (lv_at hl 0 rfl) ?_
  refine lv_iconst (pc := 1) (v := nI 0) hx hb dX3_isRead_1 rfl ?_
  obtain ⟨S1, e1, hf⟩ := bdo hf
  refine m_put (pc := 2) (j := 8) (js := 2) hx hb hts hown hK hP hD hS (by decide) rfl rfl (hts _ q2847) rfl rfl e1 dX3_isRead_2 (fun H locs hP hD hS => ?_)
  refine lv_aload_n (pc := 5) hx hb dX3_isRead_5 rfl (lv_at hl 0 rfl) ?_
  refine lv_iconst (pc := 6) (v := nI 0) hx hb dX3_isRead_6 rfl ?_
  obtain ⟨S2, e2, hf⟩ := bdo hf
  refine m_put (pc := 7) (j := 10) (js := 3) hx hb hts hown hK hP hD hS (by decide) rfl rfl (hts _ q2849) rfl rfl e2 dX3_isRead_7 (fun H locs hP hD hS => ?_)
  exact wX3_isRead_b10 hc FU l1 S2 _ _ ls hP hD hS (lv_sub hl [0, 1] rfl) hf
theorem mX3_isRead {S S2 : mS} {r2 : Int32} {l1 : Int32} (hf : fX3_isRead l1 S = some (r2, S2)) : mMet l yX3_isRead cX3_isRead 5 (some .boolean) 1 25 D am cI cJ [.ref (am 0), .int l1] S (some (.int r2)) S2 := by
  exact m_start (by decide) rfl (Nat.le_of_ble_eq_true rfl) (fun p e s m args below meth c ls hc hl hP hD => wX3_isRead_b0 hc l1 S _ _ ls hP hD va_S.rf (lv_sub hl [0, 1] rfl) hf)
end
end

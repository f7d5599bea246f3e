/-! printed by gen/jgen.py: methods of the JDK, lifted and walked at the plain level (1) -/
set_option maxRecDepth 100000
set_option maxHeartbeats 4000000
theorem jgkbm128 : (Int8.ofInt (-128)).toInt32 = -128 := by decide +kernel
theorem jgkb10 : (Int8.ofInt 10).toInt32 = nI 10 := by decide +kernel
theorem jgkb16 : (Int8.ofInt 16).toInt32 = nI 16 := by decide +kernel
theorem jgkb17 : (Int8.ofInt 17).toInt32 = nI 17 := by decide +kernel
theorem jgkb64 : (Int8.ofInt 64).toInt32 = nI 64 := by decide +kernel
theorem jgks128 : (Int16.ofInt 128).toInt32 = nI 128 := by decide +kernel
theorem jgks255 : (Int16.ofInt 255).toInt32 = nI 255 := by decide +kernel
theorem jhdX9_compare : yX9_compare.cls = RX9 ∧ yX9_compare.cls ≠ "java/lang/invoke/MethodHandle" ∧ yX9_compare.cls ≠ "java/lang/invoke/VarHandle" ∧ (parseMethodDescriptor yX9_compare.desc).map (fun d => d.parameters.length) = some 2 := by decide +kernel
theorem jhdJ14_ensureCapacityInternal : yJ14_ensureCapacityInternal.cls = RJ14 ∧ yJ14_ensureCapacityInternal.cls ≠ "java/lang/invoke/MethodHandle" ∧ yJ14_ensureCapacityInternal.cls ≠ "java/lang/invoke/VarHandle" ∧ (parseMethodDescriptor yJ14_ensureCapacityInternal.desc).map (fun d => d.parameters.length) = some 1 := by decide +kernel
theorem jhdJ14_getValue : yJ14_getValue.cls = RJ14 ∧ yJ14_getValue.cls ≠ "java/lang/invoke/MethodHandle" ∧ yJ14_getValue.cls ≠ "java/lang/invoke/VarHandle" ∧ (parseMethodDescriptor yJ14_getValue.desc).map (fun d => d.parameters.length) = some 0 := by decide +kernel
theorem jhdJ14_inflateIfNeededFor : yJ14_inflateIfNeededFor.cls = RJ14 ∧ yJ14_inflateIfNeededFor.cls ≠ "java/lang/invoke/MethodHandle" ∧ yJ14_inflateIfNeededFor.cls ≠ "java/lang/invoke/VarHandle" ∧ (parseMethodDescriptor yJ14_inflateIfNeededFor.desc).map (fun d => d.parameters.length) = some 1 := by decide +kernel
theorem jhdJ14_isLatin1 : yJ14_isLatin1.cls = RJ14 ∧ yJ14_isLatin1.cls ≠ "java/lang/invoke/MethodHandle" ∧ yJ14_isLatin1.cls ≠ "java/lang/invoke/VarHandle" ∧ (parseMethodDescriptor yJ14_isLatin1.desc).map (fun d => d.parameters.length) = some 0 := by decide +kernel
theorem jhdJ14_newCapacity : yJ14_newCapacity.cls = RJ14 ∧ yJ14_newCapacity.cls ≠ "java/lang/invoke/MethodHandle" ∧ yJ14_newCapacity.cls ≠ "java/lang/invoke/VarHandle" ∧ (parseMethodDescriptor yJ14_newCapacity.desc).map (fun d => d.parameters.length) = some 1 := by decide +kernel
theorem jhdJ14_putStringAt : yJ14_putStringAt.cls = RJ14 ∧ yJ14_putStringAt.cls ≠ "java/lang/invoke/MethodHandle" ∧ yJ14_putStringAt.cls ≠ "java/lang/invoke/VarHandle" ∧ (parseMethodDescriptor yJ14_putStringAt.desc).map (fun d => d.parameters.length) = some 2 := by decide +kernel
theorem jhdJ41_equals : yJ41_equals.cls = RJ41 ∧ yJ41_equals.cls ≠ "java/lang/invoke/MethodHandle" ∧ yJ41_equals.cls ≠ "java/lang/invoke/VarHandle" ∧ (parseMethodDescriptor yJ41_equals.desc).map (fun d => d.parameters.length) = some 1 := by decide +kernel
theorem jhdJ9_checkIndex : yJ9_checkIndex.cls ≠ "java/lang/invoke/MethodHandle" ∧ yJ9_checkIndex.cls ≠ "java/lang/invoke/VarHandle" ∧ (parseMethodDescriptor yJ9_checkIndex.desc).map (fun d => d.parameters.length) = some 2 := by decide +kernel
theorem jhdJ9_coder : yJ9_coder.cls = RJ9 ∧ yJ9_coder.cls ≠ "java/lang/invoke/MethodHandle" ∧ yJ9_coder.cls ≠ "java/lang/invoke/VarHandle" ∧ (parseMethodDescriptor yJ9_coder.desc).map (fun d => d.parameters.length) = some 0 := by decide +kernel
theorem jhdJ9_getBytes : yJ9_getBytes.cls = RJ9 ∧ yJ9_getBytes.cls ≠ "java/lang/invoke/MethodHandle" ∧ yJ9_getBytes.cls ≠ "java/lang/invoke/VarHandle" ∧ (parseMethodDescriptor yJ9_getBytes.desc).map (fun d => d.parameters.length) = some 3 := by decide +kernel
theorem jhdJ9_isLatin1 : yJ9_isLatin1.cls = RJ9 ∧ yJ9_isLatin1.cls ≠ "java/lang/invoke/MethodHandle" ∧ yJ9_isLatin1.cls ≠ "java/lang/invoke/VarHandle" ∧ (parseMethodDescriptor yJ9_isLatin1.desc).map (fun d => d.parameters.length) = some 0 := by decide +kernel
theorem jhdJ9_length : yJ9_length.cls = RJ9 ∧ yJ9_length.cls ≠ "java/lang/invoke/MethodHandle" ∧ yJ9_length.cls ≠ "java/lang/invoke/VarHandle" ∧ (parseMethodDescriptor yJ9_length.desc).map (fun d => d.parameters.length) = some 0 := by decide +kernel
theorem jhdJ21_canEncode : yJ21_canEncode.cls ≠ "java/lang/invoke/MethodHandle" ∧ yJ21_canEncode.cls ≠ "java/lang/invoke/VarHandle" ∧ (parseMethodDescriptor yJ21_canEncode.desc).map (fun d => d.parameters.length) = some 1 := by decide +kernel
theorem jhdJ21_charAt : yJ21_charAt.cls ≠ "java/lang/invoke/MethodHandle" ∧ yJ21_charAt.cls ≠ "java/lang/invoke/VarHandle" ∧ (parseMethodDescriptor yJ21_charAt.desc).map (fun d => d.parameters.length) = some 2 := by decide +kernel
theorem jhdJ21_equals : yJ21_equals.cls ≠ "java/lang/invoke/MethodHandle" ∧ yJ21_equals.cls ≠ "java/lang/invoke/VarHandle" ∧ (parseMethodDescriptor yJ21_equals.desc).map (fun d => d.parameters.length) = some 2 := by decide +kernel
theorem jhdJ28_elementAt : yJ28_elementAt.cls ≠ "java/lang/invoke/MethodHandle" ∧ yJ28_elementAt.cls ≠ "java/lang/invoke/VarHandle" ∧ (parseMethodDescriptor yJ28_elementAt.desc).map (fun d => d.parameters.length) = some 2 := by decide +kernel
theorem jhdJ28_grow : yJ28_grow.cls = RJ28 ∧ yJ28_grow.cls ≠ "java/lang/invoke/MethodHandle" ∧ yJ28_grow.cls ≠ "java/lang/invoke/VarHandle" ∧ (parseMethodDescriptor yJ28_grow.desc).map (fun d => d.parameters.length) = some 1 := by decide +kernel
theorem jhdJ28_inc : yJ28_inc.cls ≠ "java/lang/invoke/MethodHandle" ∧ yJ28_inc.cls ≠ "java/lang/invoke/VarHandle" ∧ (parseMethodDescriptor yJ28_inc.desc).map (fun d => d.parameters.length) = some 2 := by decide +kernel
theorem jhdJ28_newCapacity : yJ28_newCapacity.cls = RJ28 ∧ yJ28_newCapacity.cls ≠ "java/lang/invoke/MethodHandle" ∧ yJ28_newCapacity.cls ≠ "java/lang/invoke/VarHandle" ∧ (parseMethodDescriptor yJ28_newCapacity.desc).map (fun d => d.parameters.length) = some 2 := by decide +kernel
theorem jhdJ28_nonNullElementAt : yJ28_nonNullElementAt.cls ≠ "java/lang/invoke/MethodHandle" ∧ yJ28_nonNullElementAt.cls ≠ "java/lang/invoke/VarHandle" ∧ (parseMethodDescriptor yJ28_nonNullElementAt.desc).map (fun d => d.parameters.length) = some 2 := by decide +kernel
theorem jhdJ28_size : yJ28_size.cls = RJ28 ∧ yJ28_size.cls ≠ "java/lang/invoke/MethodHandle" ∧ yJ28_size.cls ≠ "java/lang/invoke/VarHandle" ∧ (parseMethodDescriptor yJ28_size.desc).map (fun d => d.parameters.length) = some 0 := by decide +kernel
theorem jhdJ28_sub : yJ28_sub.cls ≠ "java/lang/invoke/MethodHandle" ∧ yJ28_sub.cls ≠ "java/lang/invoke/VarHandle" ∧ (parseMethodDescriptor yJ28_sub.desc).map (fun d => d.parameters.length) = some 3 := by decide +kernel
theorem jhdJ2_add_2 : yJ2_add_2.cls = RJ2 ∧ yJ2_add_2.cls ≠ "java/lang/invoke/MethodHandle" ∧ yJ2_add_2.cls ≠ "java/lang/invoke/VarHandle" ∧ (parseMethodDescriptor yJ2_add_2.desc).map (fun d => d.parameters.length) = some 3 := by decide +kernel
theorem jhdJ2_elementData : yJ2_elementData.cls = RJ2 ∧ yJ2_elementData.cls ≠ "java/lang/invoke/MethodHandle" ∧ yJ2_elementData.cls ≠ "java/lang/invoke/VarHandle" ∧ (parseMethodDescriptor yJ2_elementData.desc).map (fun d => d.parameters.length) = some 1 := by decide +kernel
theorem jhdJ2_fastRemove : yJ2_fastRemove.cls = RJ2 ∧ yJ2_fastRemove.cls ≠ "java/lang/invoke/MethodHandle" ∧ yJ2_fastRemove.cls ≠ "java/lang/invoke/VarHandle" ∧ (parseMethodDescriptor yJ2_fastRemove.desc).map (fun d => d.parameters.length) = some 2 := by decide +kernel
theorem jhdJ2_grow : yJ2_grow.cls = RJ2 ∧ yJ2_grow.cls ≠ "java/lang/invoke/MethodHandle" ∧ yJ2_grow.cls ≠ "java/lang/invoke/VarHandle" ∧ (parseMethodDescriptor yJ2_grow.desc).map (fun d => d.parameters.length) = some 0 := by decide +kernel
theorem jhdJ2_grow_2 : yJ2_grow_2.cls = RJ2 ∧ yJ2_grow_2.cls ≠ "java/lang/invoke/MethodHandle" ∧ yJ2_grow_2.cls ≠ "java/lang/invoke/VarHandle" ∧ (parseMethodDescriptor yJ2_grow_2.desc).map (fun d => d.parameters.length) = some 1 := by decide +kernel
theorem jhdJ2_rangeCheckForAdd : yJ2_rangeCheckForAdd.cls = RJ2 ∧ yJ2_rangeCheckForAdd.cls ≠ "java/lang/invoke/MethodHandle" ∧ yJ2_rangeCheckForAdd.cls ≠ "java/lang/invoke/VarHandle" ∧ (parseMethodDescriptor yJ2_rangeCheckForAdd.desc).map (fun d => d.parameters.length) = some 1 := by decide +kernel
theorem jhdJ2_remove_2 : yJ2_remove_2.cls = RJ2 ∧ yJ2_remove_2.cls ≠ "java/lang/invoke/MethodHandle" ∧ yJ2_remove_2.cls ≠ "java/lang/invoke/VarHandle" ∧ (parseMethodDescriptor yJ2_remove_2.desc).map (fun d => d.parameters.length) = some 1 := by decide +kernel
theorem jhdJ26_checkForComodification : yJ26_checkForComodification.cls = RJ26 ∧ yJ26_checkForComodification.cls ≠ "java/lang/invoke/MethodHandle" ∧ yJ26_checkForComodification.cls ≠ "java/lang/invoke/VarHandle" ∧ (parseMethodDescriptor yJ26_checkForComodification.desc).map (fun d => d.parameters.length) = some 0 := by decide +kernel
theorem jhdJ19_checkLength : yJ19_checkLength.cls ≠ "java/lang/invoke/MethodHandle" ∧ yJ19_checkLength.cls ≠ "java/lang/invoke/VarHandle" ∧ (parseMethodDescriptor yJ19_checkLength.desc).map (fun d => d.parameters.length) = some 2 := by decide +kernel
theorem jhdJ19_copyOf : yJ19_copyOf.cls ≠ "java/lang/invoke/MethodHandle" ∧ yJ19_copyOf.cls ≠ "java/lang/invoke/VarHandle" ∧ (parseMethodDescriptor yJ19_copyOf.desc).map (fun d => d.parameters.length) = some 2 := by decide +kernel
theorem jhdJ19_copyOf_2 : yJ19_copyOf_2.cls ≠ "java/lang/invoke/MethodHandle" ∧ yJ19_copyOf_2.cls ≠ "java/lang/invoke/VarHandle" ∧ (parseMethodDescriptor yJ19_copyOf_2.desc).map (fun d => d.parameters.length) = some 2 := by decide +kernel
theorem jhdJ19_copyOf_3 : yJ19_copyOf_3.cls ≠ "java/lang/invoke/MethodHandle" ∧ yJ19_copyOf_3.cls ≠ "java/lang/invoke/VarHandle" ∧ (parseMethodDescriptor yJ19_copyOf_3.desc).map (fun d => d.parameters.length) = some 3 := by decide +kernel
theorem jhdJ19_copyOfRange : yJ19_copyOfRange.cls ≠ "java/lang/invoke/MethodHandle" ∧ yJ19_copyOfRange.cls ≠ "java/lang/invoke/VarHandle" ∧ (parseMethodDescriptor yJ19_copyOfRange.desc).map (fun d => d.parameters.length) = some 3 := by decide +kernel
theorem jhdJ19_copyOfRangeByte : yJ19_copyOfRangeByte.cls ≠ "java/lang/invoke/MethodHandle" ∧ yJ19_copyOfRangeByte.cls ≠ "java/lang/invoke/VarHandle" ∧ (parseMethodDescriptor yJ19_copyOfRangeByte.desc).map (fun d => d.parameters.length) = some 3 := by decide +kernel
theorem jhdJ4_addAll_2 : yJ4_addAll_2.cls = RJ4 ∧ yJ4_addAll_2.cls ≠ "java/lang/invoke/MethodHandle" ∧ yJ4_addAll_2.cls ≠ "java/lang/invoke/VarHandle" ∧ (parseMethodDescriptor yJ4_addAll_2.desc).map (fun d => d.parameters.length) = some 2 := by decide +kernel
theorem jhdJ4_checkElementIndex : yJ4_checkElementIndex.cls = RJ4 ∧ yJ4_checkElementIndex.cls ≠ "java/lang/invoke/MethodHandle" ∧ yJ4_checkElementIndex.cls ≠ "java/lang/invoke/VarHandle" ∧ (parseMethodDescriptor yJ4_checkElementIndex.desc).map (fun d => d.parameters.length) = some 1 := by decide +kernel
theorem jhdJ4_checkPositionIndex : yJ4_checkPositionIndex.cls = RJ4 ∧ yJ4_checkPositionIndex.cls ≠ "java/lang/invoke/MethodHandle" ∧ yJ4_checkPositionIndex.cls ≠ "java/lang/invoke/VarHandle" ∧ (parseMethodDescriptor yJ4_checkPositionIndex.desc).map (fun d => d.parameters.length) = some 1 := by decide +kernel
theorem jhdJ4_isElementIndex : yJ4_isElementIndex.cls = RJ4 ∧ yJ4_isElementIndex.cls ≠ "java/lang/invoke/MethodHandle" ∧ yJ4_isElementIndex.cls ≠ "java/lang/invoke/VarHandle" ∧ (parseMethodDescriptor yJ4_isElementIndex.desc).map (fun d => d.parameters.length) = some 1 := by decide +kernel
theorem jhdJ4_isPositionIndex : yJ4_isPositionIndex.cls = RJ4 ∧ yJ4_isPositionIndex.cls ≠ "java/lang/invoke/MethodHandle" ∧ yJ4_isPositionIndex.cls ≠ "java/lang/invoke/VarHandle" ∧ (parseMethodDescriptor yJ4_isPositionIndex.desc).map (fun d => d.parameters.length) = some 1 := by decide +kernel
theorem jhdJ4_linkLast : yJ4_linkLast.cls = RJ4 ∧ yJ4_linkLast.cls ≠ "java/lang/invoke/MethodHandle" ∧ yJ4_linkLast.cls ≠ "java/lang/invoke/VarHandle" ∧ (parseMethodDescriptor yJ4_linkLast.desc).map (fun d => d.parameters.length) = some 1 := by decide +kernel
theorem jhdJ4_node : yJ4_node.cls = RJ4 ∧ yJ4_node.cls ≠ "java/lang/invoke/MethodHandle" ∧ yJ4_node.cls ≠ "java/lang/invoke/VarHandle" ∧ (parseMethodDescriptor yJ4_node.desc).map (fun d => d.parameters.length) = some 1 := by decide +kernel
theorem jhdJ4_unlink : yJ4_unlink.cls = RJ4 ∧ yJ4_unlink.cls ≠ "java/lang/invoke/MethodHandle" ∧ yJ4_unlink.cls ≠ "java/lang/invoke/VarHandle" ∧ (parseMethodDescriptor yJ4_unlink.desc).map (fun d => d.parameters.length) = some 1 := by decide +kernel
theorem jhdJ4_unlinkFirst : yJ4_unlinkFirst.cls = RJ4 ∧ yJ4_unlinkFirst.cls ≠ "java/lang/invoke/MethodHandle" ∧ yJ4_unlinkFirst.cls ≠ "java/lang/invoke/VarHandle" ∧ (parseMethodDescriptor yJ4_unlinkFirst.desc).map (fun d => d.parameters.length) = some 1 := by decide +kernel
theorem jhdJ32_checkForComodification : yJ32_checkForComodification.cls = RJ32 ∧ yJ32_checkForComodification.cls ≠ "java/lang/invoke/MethodHandle" ∧ yJ32_checkForComodification.cls ≠ "java/lang/invoke/VarHandle" ∧ (parseMethodDescriptor yJ32_checkForComodification.desc).map (fun d => d.parameters.length) = some 0 := by decide +kernel
theorem jhdJ32_hasNext : yJ32_hasNext.cls = RJ32 ∧ yJ32_hasNext.cls ≠ "java/lang/invoke/MethodHandle" ∧ yJ32_hasNext.cls ≠ "java/lang/invoke/VarHandle" ∧ (parseMethodDescriptor yJ32_hasNext.desc).map (fun d => d.parameters.length) = some 0 := by decide +kernel
theorem jhdJ25_checkIndex : yJ25_checkIndex.cls ≠ "java/lang/invoke/MethodHandle" ∧ yJ25_checkIndex.cls ≠ "java/lang/invoke/VarHandle" ∧ (parseMethodDescriptor yJ25_checkIndex.desc).map (fun d => d.parameters.length) = some 2 := by decide +kernel
theorem jhdJ36_offer : yJ36_offer.cls = RJ36 ∧ yJ36_offer.cls ≠ "java/lang/invoke/MethodHandle" ∧ yJ36_offer.cls ≠ "java/lang/invoke/VarHandle" ∧ (parseMethodDescriptor yJ36_offer.desc).map (fun d => d.parameters.length) = some 1 := by decide +kernel
theorem jhdJ36_siftUp : yJ36_siftUp.cls = RJ36 ∧ yJ36_siftUp.cls ≠ "java/lang/invoke/MethodHandle" ∧ yJ36_siftUp.cls ≠ "java/lang/invoke/VarHandle" ∧ (parseMethodDescriptor yJ36_siftUp.desc).map (fun d => d.parameters.length) = some 2 := by decide +kernel
theorem jhdJ36_siftUpUsingComparator : yJ36_siftUpUsingComparator.cls ≠ "java/lang/invoke/MethodHandle" ∧ yJ36_siftUpUsingComparator.cls ≠ "java/lang/invoke/VarHandle" ∧ (parseMethodDescriptor yJ36_siftUpUsingComparator.desc).map (fun d => d.parameters.length) = some 4 := by decide +kernel
theorem jhdJ17_newLength : yJ17_newLength.cls ≠ "java/lang/invoke/MethodHandle" ∧ yJ17_newLength.cls ≠ "java/lang/invoke/VarHandle" ∧ (parseMethodDescriptor yJ17_newLength.desc).map (fun d => d.parameters.length) = some 3 := by decide +kernel
theorem jhdJ20_checkIndex : yJ20_checkIndex.cls ≠ "java/lang/invoke/MethodHandle" ∧ yJ20_checkIndex.cls ≠ "java/lang/invoke/VarHandle" ∧ (parseMethodDescriptor yJ20_checkIndex.desc).map (fun d => d.parameters.length) = some 3 := by decide +kernel
theorem jhsuJ14_append_3 : yJ14_append_3.name ≠ "<init>" ∧ (parseMethodDescriptor yJ14_append_3.desc).map (fun d => d.parameters.length) = some 1 := by decide +kernel
theorem jhsuJ14_append : yJ14_append.name ≠ "<init>" ∧ (parseMethodDescriptor yJ14_append.desc).map (fun d => d.parameters.length) = some 1 := by decide +kernel
theorem jhsuJ14_length : yJ14_length.name ≠ "<init>" ∧ (parseMethodDescriptor yJ14_length.desc).map (fun d => d.parameters.length) = some 0 := by decide +kernel
theorem jhdiJ14_init : yJ14_init.cls ≠ "java/lang/invoke/MethodHandle" ∧ yJ14_init.cls ≠ "java/lang/invoke/VarHandle" ∧ (parseMethodDescriptor yJ14_init.desc).map (fun d => d.parameters.length) = some 1 := by decide +kernel
theorem jhdiJ23_init : yJ23_init.cls ≠ "java/lang/invoke/MethodHandle" ∧ yJ23_init.cls ≠ "java/lang/invoke/VarHandle" ∧ (parseMethodDescriptor yJ23_init.desc).map (fun d => d.parameters.length) = some 1 := by decide +kernel
theorem jhdiJ22_init : yJ22_init.cls ≠ "java/lang/invoke/MethodHandle" ∧ yJ22_init.cls ≠ "java/lang/invoke/VarHandle" ∧ (parseMethodDescriptor yJ22_init.desc).map (fun d => d.parameters.length) = some 0 := by decide +kernel
theorem jhdiJ9_init_2 : yJ9_init_2.cls ≠ "java/lang/invoke/MethodHandle" ∧ yJ9_init_2.cls ≠ "java/lang/invoke/VarHandle" ∧ (parseMethodDescriptor yJ9_init_2.desc).map (fun d => d.parameters.length) = some 2 := by decide +kernel
theorem jhdiJ9_init : yJ9_init.cls ≠ "java/lang/invoke/MethodHandle" ∧ yJ9_init.cls ≠ "java/lang/invoke/VarHandle" ∧ (parseMethodDescriptor yJ9_init.desc).map (fun d => d.parameters.length) = some 1 := by decide +kernel
theorem jhdiJ0_init : yJ0_init.cls ≠ "java/lang/invoke/MethodHandle" ∧ yJ0_init.cls ≠ "java/lang/invoke/VarHandle" ∧ (parseMethodDescriptor yJ0_init.desc).map (fun d => d.parameters.length) = some 0 := by decide +kernel
theorem jhdiJ1_init : yJ1_init.cls ≠ "java/lang/invoke/MethodHandle" ∧ yJ1_init.cls ≠ "java/lang/invoke/VarHandle" ∧ (parseMethodDescriptor yJ1_init.desc).map (fun d => d.parameters.length) = some 0 := by decide +kernel
theorem jhdiJ35_init : yJ35_init.cls ≠ "java/lang/invoke/MethodHandle" ∧ yJ35_init.cls ≠ "java/lang/invoke/VarHandle" ∧ (parseMethodDescriptor yJ35_init.desc).map (fun d => d.parameters.length) = some 0 := by decide +kernel
theorem jhdiJ3_init : yJ3_init.cls ≠ "java/lang/invoke/MethodHandle" ∧ yJ3_init.cls ≠ "java/lang/invoke/VarHandle" ∧ (parseMethodDescriptor yJ3_init.desc).map (fun d => d.parameters.length) = some 0 := by decide +kernel
theorem jhdiJ40_init : yJ40_init.cls ≠ "java/lang/invoke/MethodHandle" ∧ yJ40_init.cls ≠ "java/lang/invoke/VarHandle" ∧ (parseMethodDescriptor yJ40_init.desc).map (fun d => d.parameters.length) = some 1 := by decide +kernel
theorem jhdiJ26_init : yJ26_init.cls ≠ "java/lang/invoke/MethodHandle" ∧ yJ26_init.cls ≠ "java/lang/invoke/VarHandle" ∧ (parseMethodDescriptor yJ26_init.desc).map (fun d => d.parameters.length) = some 1 := by decide +kernel
theorem jhdiJ32_init : yJ32_init.cls ≠ "java/lang/invoke/MethodHandle" ∧ yJ32_init.cls ≠ "java/lang/invoke/VarHandle" ∧ (parseMethodDescriptor yJ32_init.desc).map (fun d => d.parameters.length) = some 2 := by decide +kernel
theorem jhdiJ29_init : yJ29_init.cls ≠ "java/lang/invoke/MethodHandle" ∧ yJ29_init.cls ≠ "java/lang/invoke/VarHandle" ∧ (parseMethodDescriptor yJ29_init.desc).map (fun d => d.parameters.length) = some 3 := by decide +kernel
theorem jhdiJ39_init : yJ39_init.cls ≠ "java/lang/invoke/MethodHandle" ∧ yJ39_init.cls ≠ "java/lang/invoke/VarHandle" ∧ (parseMethodDescriptor yJ39_init.desc).map (fun d => d.parameters.length) = some 1 := by decide +kernel
theorem jhduJ1_listIterator : "java/util/AbstractList" ≠ "java/lang/invoke/MethodHandle" ∧ "java/util/AbstractList" ≠ "java/lang/invoke/VarHandle" ∧ (parseMethodDescriptor "()Ljava/util/ListIterator;").map (fun d => d.parameters.length) = some 0 := by decide +kernel
theorem jhdx_toArray : ((⟨"java/util/Collection", "toArray", "()[Ljava/lang/Object;"⟩ : MethodName).cls ≠ "java/lang/invoke/MethodHandle" ∧ (⟨"java/util/Collection", "toArray", "()[Ljava/lang/Object;"⟩ : MethodName).cls ≠ "java/lang/invoke/VarHandle") ∧ ((⟨"java/util/Collection", "toArray", "()[Ljava/lang/Object;"⟩ : MethodName).cls ≠ "java/lang/invoke/MethodHandle" ∧ (⟨"java/util/Collection", "toArray", "()[Ljava/lang/Object;"⟩ : MethodName).cls ≠ "java/lang/invoke/VarHandle" ∧ (parseMethodDescriptor (⟨"java/util/Collection", "toArray", "()[Ljava/lang/Object;"⟩ : MethodName).desc).map (fun d => d.parameters.length) = some 0) := by decide +kernel
theorem jhdx_compare : ((⟨"java/util/Comparator", "compare", "(Ljava/lang/Object;Ljava/lang/Object;)I"⟩ : MethodName).cls ≠ "java/lang/invoke/MethodHandle" ∧ (⟨"java/util/Comparator", "compare", "(Ljava/lang/Object;Ljava/lang/Object;)I"⟩ : MethodName).cls ≠ "java/lang/invoke/VarHandle") ∧ ((⟨"java/util/Comparator", "compare", "(Ljava/lang/Object;Ljava/lang/Object;)I"⟩ : MethodName).cls ≠ "java/lang/invoke/MethodHandle" ∧ (⟨"java/util/Comparator", "compare", "(Ljava/lang/Object;Ljava/lang/Object;)I"⟩ : MethodName).cls ≠ "java/lang/invoke/VarHandle" ∧ (parseMethodDescriptor (⟨"java/util/Comparator", "compare", "(Ljava/lang/Object;Ljava/lang/Object;)I"⟩ : MethodName).desc).map (fun d => d.parameters.length) = some 2) := by decide +kernel
section
variable {p : Program} {l : Launch} {e : Env} {s : State} {m : MethodId} {args : Array Value} {below : List Frame} {meth : Method} {c : Code} {G : gG} {Rp : gM → gM → Nat → Prop} {mc ms : Nat}
section
variable {r : Unit} {Sf : gS}
def fJ0_init_c15 (G : gG) (l0 : Nat) (S : gS) : gO Unit :=
  some ((), S, 0, 0)
theorem wJ0_init_c15_b0 (hk : rOK Rp) (hc : gC p s m args meth c G RJ0 "<init>" cJ0_init 1 (none)) (l0 : Nat) (S : gS) (H : Heap) (locs : List Loc) (ls : Array Slot) (kc ks C N : Nat) (hkc : kc + C ≤ mc) (hks : ks + N ≤ ms) (hH : hp G Rp S H) (hS : va_S G.2.2.2 s.heap H locs) (hl : lv_has ls 1 [(0, .ref l0)]) (hf : fJ0_init_c15 G l0 S = some (r, Sf, C, N)) : W p l e (gR 1 60 mc ms) s m args below meth c H locs kc ks (gQ below G Rp none Sf args s mc ms) (F0 m 0 ls []) := by
  obtain ⟨hx, hb, hr, hlk, hml, hown, hts, hE, hA, hnm⟩ := hc
  have hc : gC p s m args meth c G RJ0 "<init>" cJ0_init 1 (none) := ⟨hx, hb, hr, hlk, hml, hown, hts, hE, hA, hnm⟩
  unfold fJ0_init_c15 at hf
  refine lv_aload_n (pc := 0) hx hb dJ0_init_0 rfl (lv_at hl 0 rfl) ?_
  refine W.objInit  hx hb hown (hts _ q188) (hts _ q169) (hts _ q170) rfl (by rw [hml]; exact hl.1) rfl dJ0_init_1 (Nat.le_of_ble_eq_true rfl) (Nat.le_of_ble_eq_true rfl) ?_
  refine W.eq (g2 := F0 m 4 ls []) rfl ?_
  exact g_vret (pc := 4) hx hb hr hlk hH hS hkc hks hf dJ0_init_4
theorem mJ0_init_c15 {l : Launch} {G : gG} {Rp : gM → gM → Nat → Prop} (hk : rOK Rp) {S S2 : gS} {r2 : Unit} {C N : Nat} {l0 : Nat} (hf : fJ0_init_c15 G l0 S = some (r2, S2, C, N)) : gMet l yJ0_init cJ0_init 1 (none) 1 60 G Rp [.ref l0] S none S2 C N := by
  refine g_start (by decide) (Nat.le_of_ble_eq_true rfl) (fun p e s m args below meth c ls hc hl hH => ?_)
  have hl : lv_has ls 1 [(0, .ref l0)] := hl
  exact wJ0_init_c15_b0 hk hc l0 S _ _ ls 0 0 C N (by omega) (by omega) hH va_S.rf (lv_sub hl [0] rfl) hf
end
section
variable {r : Unit} {Sf : gS}
def fJ1_init_c15 (G : gG) (l0 : Nat) (S : gS) : gO Unit :=
  gb (fJ0_init_c15 G l0 S) fun _ S1 =>
  bd (wr S1 l0 15 0 (.int (nI 0))) fun S2 =>
  some ((), S2, 0, 0)
theorem wJ1_init_c15_b0 (hk : rOK Rp) (hc : gC p s m args meth c G RJ1 "<init>" cJ1_init 1 (none)) (l0 : Nat) (S : gS) (H : Heap) (locs : List Loc) (ls : Array Slot) (kc ks C N : Nat) (hkc : kc + C ≤ mc) (hks : ks + N ≤ ms) (hH : hp G Rp S H) (hS : va_S G.2.2.2 s.heap H locs) (hl : lv_has ls 1 [(0, .ref l0)]) (hf : fJ1_init_c15 G l0 S = some (r, Sf, C, N)) : W p l e (gR 2 80 mc ms) s m args below meth c H locs kc ks (gQ below G Rp none Sf args s mc ms) (F0 m 0 ls []) := by
  obtain ⟨hx, hb, hr, hlk, hml, hown, hts, hE, hA, hnm⟩ := hc
  have hc : gC p s m args meth c G RJ1 "<init>" cJ1_init 1 (none) := ⟨hx, hb, hr, hlk, hml, hown, hts, hE, hA, hnm⟩
  unfold fJ1_init_c15 at hf
  refine lv_aload_n (pc := 0) hx hb dJ1_init_0 rfl (lv_at hl 0 rfl) ?_
  obtain ⟨_, S1, c1, n1, c2_1, n2_1, e1, hf, hC1, hN1⟩ := gbo hf
  refine g_callI (pc := 1) (o := (some l0)) (b := l0) (As := []) (rest := []) hc (mJ0_init_c15 hk (l0 := l0) e1) (cwI 0 hts (lw_meth q187) rfl rfl rfl (hts _ q99) (hts _ q185) (hts _ q186) rfl jhdiJ0_init ⟨Nat.le_of_ble_eq_true rfl, Nat.le_of_ble_eq_true rfl⟩) rfl rfl hl.1 rfl (lv_room (Nat.le_of_ble_eq_true rfl)) dJ1_init_1 hH hS (by omega) (by omega) (fun H locs hH hS => ?_)
  have hkc : kc + c1 + c2_1 ≤ mc := by omega
  have hks : ks + n1 + n2_1 ≤ ms := by omega
  refine lv_aload_n (pc := 4) hx hb dJ1_init_4 rfl (lv_at hl 0 rfl) ?_
  refine lv_iconst (pc := 5) (v := nI 0) hx hb dJ1_init_5 rfl ?_
  obtain ⟨S2, e2, hf⟩ := bdo hf
  refine g_put (pc := 6) (o := (some l0)) (a := l0) (ci := 15) (k := 0) (v := .int (nI 0)) (C := RJ2) (T := TJ2) (N := 3) (ty := .int) hx hb hts hown hE hk hH hS rfl in_J2 tyJ2_ok nmJ2 rfl (by decide) (hts _ q195) (fun _ h9 => h9) rfl rfl rfl rfl rfl e2 dJ1_init_6 (fun H locs hH hS => ?_)
  exact g_vret (pc := 9) hx hb hr hlk hH hS hkc hks hf dJ1_init_9
theorem mJ1_init_c15 {l : Launch} {G : gG} {Rp : gM → gM → Nat → Prop} (hk : rOK Rp) {S S2 : gS} {r2 : Unit} {C N : Nat} {l0 : Nat} (hf : fJ1_init_c15 G l0 S = some (r2, S2, C, N)) : gMet l yJ1_init cJ1_init 1 (none) 2 80 G Rp [.ref l0] S none S2 C N := by
  refine g_start (by decide) (Nat.le_of_ble_eq_true rfl) (fun p e s m args below meth c ls hc hl hH => ?_)
  have hl : lv_has ls 1 [(0, .ref l0)] := hl
  exact wJ1_init_c15_b0 hk hc l0 S _ _ ls 0 0 C N (by omega) (by omega) hH va_S.rf (lv_sub hl [0] rfl) hf
end
section
variable {r : Unit} {Sf : gS}
def fJ2_init (G : gG) (l0 : Nat) (S : gS) : gO Unit :=
  gb (fJ1_init_c15 G l0 S) fun _ S1 =>
  bd (wr S1 l0 15 1 (.ref (G.2.2.1 1))) fun S2 =>
  some ((), S2, 0, 0)
theorem wJ2_init_b0 (hk : rOK Rp) (hc : gC p s m args meth c G RJ2 "<init>" cJ2_init 1 (none)) (l0 : Nat) (S : gS) (H : Heap) (locs : List Loc) (ls : Array Slot) (kc ks C N : Nat) (hkc : kc + C ≤ mc) (hks : ks + N ≤ ms) (hH : hp G Rp S H) (hS : va_S G.2.2.2 s.heap H locs) (hl : lv_has ls 1 [(0, .ref l0)]) (hf : fJ2_init G l0 S = some (r, Sf, C, N)) : W p l e (gR 3 100 mc ms) s m args below meth c H locs kc ks (gQ below G Rp none Sf args s mc ms) (F0 m 0 ls []) := by
  obtain ⟨hx, hb, hr, hlk, hml, hown, hts, hE, hA, hnm⟩ := hc
  have hc : gC p s m args meth c G RJ2 "<init>" cJ2_init 1 (none) := ⟨hx, hb, hr, hlk, hml, hown, hts, hE, hA, hnm⟩
  unfold fJ2_init at hf
  refine lv_aload_n (pc := 0) hx hb dJ2_init_0 rfl (lv_at hl 0 rfl) ?_
  obtain ⟨_, S1, c1, n1, c2_1, n2_1, e1, hf, hC1, hN1⟩ := gbo hf
  refine g_callI (pc := 1) (o := (some l0)) (b := l0) (As := []) (rest := []) hc (mJ1_init_c15 hk (l0 := l0) e1) (cwI 0 hts (lw_meth q184) rfl rfl rfl (hts _ q100) (hts _ q182) (hts _ q183) rfl jhdiJ1_init ⟨Nat.le_of_ble_eq_true rfl, Nat.le_of_ble_eq_true rfl⟩) rfl rfl hl.1 rfl (lv_room (Nat.le_of_ble_eq_true rfl)) dJ2_init_1 hH hS (by omega) (by omega) (fun H locs hH hS => ?_)
  have hkc : kc + c1 + c2_1 ≤ mc := by omega
  have hks : ks + n1 + n2_1 ≤ ms := by omega
  refine lv_aload_n (pc := 4) hx hb dJ2_init_4 rfl (lv_at hl 0 rfl) ?_
  refine g_emptyQ (pc := 5) hx hb hE hS hown (hts _ q189) dJ2_init_5 ?_
  obtain ⟨S2, e2, hf⟩ := bdo hf
  refine g_put (pc := 8) (o := (some l0)) (a := l0) (ci := 15) (k := 1) (v := .ref (G.2.2.1 1)) (C := RJ2) (T := TJ2) (N := 3) (ty := tyJ2 1) hx hb hts hown hE hk hH hS rfl in_J2 tyJ2_ok nmJ2 rfl (by decide) (hts _ q191) (fun _ h9 => h9) rfl rfl rfl rfl rfl e2 dJ2_init_8 (fun H locs hH hS => ?_)
  exact g_vret (pc := 11) hx hb hr hlk hH hS hkc hks hf dJ2_init_11
theorem mJ2_init {l : Launch} {G : gG} {Rp : gM → gM → Nat → Prop} (hk : rOK Rp) {S S2 : gS} {r2 : Unit} {C N : Nat} {l0 : Nat} (hf : fJ2_init G l0 S = some (r2, S2, C, N)) : gMet l yJ2_init cJ2_init 1 (none) 3 100 G Rp [.ref l0] S none S2 C N := by
  refine g_start (by decide) (Nat.le_of_ble_eq_true rfl) (fun p e s m args below meth c ls hc hl hH => ?_)
  have hl : lv_has ls 1 [(0, .ref l0)] := hl
  exact wJ2_init_b0 hk hc l0 S _ _ ls 0 0 C N (by omega) (by omega) hH va_S.rf (lv_sub hl [0] rfl) hf
end
section
variable {r : Int32} {Sf : gS}
def fJ2_size (G : gG) (l0 : Nat) (S : gS) : gO Int32 :=
  bd (rdI S l0 15 2) fun v1 =>
  some (v1, S, 0, 0)
theorem wJ2_size_b0 (hk : rOK Rp) (hc : gC p s m args meth c G RJ2 "size" cJ2_size 1 (some .int)) (l0 : Nat) (S : gS) (H : Heap) (locs : List Loc) (ls : Array Slot) (kc ks C N : Nat) (hkc : kc + C ≤ mc) (hks : ks + N ≤ ms) (hH : hp G Rp S H) (hS : va_S G.2.2.2 s.heap H locs) (hl : lv_has ls 1 [(0, .ref l0)]) (hf : fJ2_size G l0 S = some (r, Sf, C, N)) : W p l e (gR 1 60 mc ms) s m args below meth c H locs kc ks (gQ below G Rp (some (.int r)) Sf args s mc ms) (F0 m 0 ls []) := by
  obtain ⟨hx, hb, hr, hlk, hml, hown, hts, hE, hA, hnm⟩ := hc
  have hc : gC p s m args meth c G RJ2 "size" cJ2_size 1 (some .int) := ⟨hx, hb, hr, hlk, hml, hown, hts, hE, hA, hnm⟩
  unfold fJ2_size at hf
  refine lv_aload_n (pc := 0) hx hb dJ2_size_0 rfl (lv_at hl 0 rfl) ?_
  obtain ⟨v1, e1, hf⟩ := bdo hf
  refine g_get (pc := 1) (o := (some l0)) (a := l0) (ci := 15) (k := 2) (v := .int v1) (C := RJ2) (T := TJ2) (N := 3) hx hb hts hown hE hk hH in_J2 rfl (by decide) (hts _ q194) (fun _ h9 => h9) rfl (rdI_o e1) dJ2_size_1 ?_
  exact g_iret (pc := 4) hx hb hr hlk hH hS hkc hks hf dJ2_size_4
theorem mJ2_size {l : Launch} {G : gG} {Rp : gM → gM → Nat → Prop} (hk : rOK Rp) {S S2 : gS} {r2 : Int32} {C N : Nat} {l0 : Nat} (hf : fJ2_size G l0 S = some (r2, S2, C, N)) : gMet l yJ2_size cJ2_size 1 (some .int) 1 60 G Rp [.ref l0] S (some (.int r2)) S2 C N := by
  refine g_start (by decide) (Nat.le_of_ble_eq_true rfl) (fun p e s m args below meth c ls hc hl hH => ?_)
  have hl : lv_has ls 1 [(0, .ref l0)] := hl
  exact wJ2_size_b0 hk hc l0 S _ _ ls 0 0 C N (by omega) (by omega) hH va_S.rf (lv_sub hl [0] rfl) hf
end
section
variable {r : Int32} {Sf : gS}
def fJ2_isEmpty (G : gG) (l0 : Nat) (S : gS) : gO Int32 :=
  bd (rdI S l0 15 2) fun v1 =>
  if v1 = 0 then
    zg (nI 1) S
  else
    zg (nI 0) S
theorem wJ2_isEmpty_b0 (hk : rOK Rp) (hc : gC p s m args meth c G RJ2 "isEmpty" cJ2_isEmpty 1 (some .boolean)) (l0 : Nat) (S : gS) (H : Heap) (locs : List Loc) (ls : Array Slot) (kc ks C N : Nat) (hkc : kc + C ≤ mc) (hks : ks + N ≤ ms) (hH : hp G Rp S H) (hS : va_S G.2.2.2 s.heap H locs) (hl : lv_has ls 1 [(0, .ref l0)]) (hf : fJ2_isEmpty G l0 S = some (r, Sf, C, N)) : W p l e (gR 1 60 mc ms) s m args below meth c H locs kc ks (gQ below G Rp (some (.int r)) Sf args s mc ms) (F0 m 0 ls []) := by
  obtain ⟨hx, hb, hr, hlk, hml, hown, hts, hE, hA, hnm⟩ := hc
  have hc : gC p s m args meth c G RJ2 "isEmpty" cJ2_isEmpty 1 (some .boolean) := ⟨hx, hb, hr, hlk, hml, hown, hts, hE, hA, hnm⟩
  unfold fJ2_isEmpty at hf
  refine lv_aload_n (pc := 0) hx hb dJ2_isEmpty_0 rfl (lv_at hl 0 rfl) ?_
  obtain ⟨v1, e1, hf⟩ := bdo hf
  refine g_get (pc := 1) (o := (some l0)) (a := l0) (ci := 15) (k := 2) (v := .int v1) (C := RJ2) (T := TJ2) (N := 3) hx hb hts hown hE hk hH in_J2 rfl (by decide) (hts _ q194) (fun _ h9 => h9) rfl (rdI_o e1) dJ2_isEmpty_1 ?_
  refine lv_if_ne (pc := 4) (tgt := 11) hx hb dJ2_isEmpty_4 (by decide) (fun c2 => ?_) (fun c2 => ?_)
  · rw [if_neg c2] at hf
    refine lv_iconst (pc := 11) (v := nI 0) hx hb dJ2_isEmpty_11 rfl ?_
    exact g_zret (pc := 12) hx hb hr hlk hH hS hkc hks hf dJ2_isEmpty_12
  · rw [if_pos c2] at hf
    refine lv_iconst (pc := 7) (v := nI 1) hx hb dJ2_isEmpty_7 rfl ?_
    refine lv_goto (pc := 8) (tgt := 12) hx hb dJ2_isEmpty_8 (by decide) ?_
    exact g_zret (pc := 12) hx hb hr hlk hH hS hkc hks hf dJ2_isEmpty_12
theorem mJ2_isEmpty {l : Launch} {G : gG} {Rp : gM → gM → Nat → Prop} (hk : rOK Rp) {S S2 : gS} {r2 : Int32} {C N : Nat} {l0 : Nat} (hf : fJ2_isEmpty G l0 S = some (r2, S2, C, N)) : gMet l yJ2_isEmpty cJ2_isEmpty 1 (some .boolean) 1 60 G Rp [.ref l0] S (some (.int r2)) S2 C N := by
  refine g_start (by decide) (Nat.le_of_ble_eq_true rfl) (fun p e s m args below meth c ls hc hl hH => ?_)
  have hl : lv_has ls 1 [(0, .ref l0)] := hl
  exact wJ2_isEmpty_b0 hk hc l0 S _ _ ls 0 0 C N (by omega) (by omega) hH va_S.rf (lv_sub hl [0] rfl) hf
end
section
variable {r : Int32} {Sf : gS}
def fJ20_checkIndex_b9 (G : gG) (l0 : Int32) (l1 : Int32) (l2 : Option Nat) (S : gS) : gO Int32 :=
  none
theorem wJ20_checkIndex_b9 (hk : rOK Rp) (hc : gC p s m args meth c G RJ20 "checkIndex" cJ20_checkIndex 3 (some .int)) (l0 : Int32) (l1 : Int32) (l2 : Option Nat) (S : gS) (H : Heap) (locs : List Loc) (ls : Array Slot) (kc ks C N : Nat) (hkc : kc + C ≤ mc) (hks : ks + N ≤ ms) (hH : hp G Rp S H) (hS : va_S G.2.2.2 s.heap H locs) (hl : lv_has ls 3 [(0, .int l0), (1, .int l1), (2, va_rf l2)]) (hf : fJ20_checkIndex_b9 G l0 l1 l2 S = some (r, Sf, C, N)) : W p l e (gR 1 60 mc ms) s m args below meth c H locs kc ks (gQ below G Rp (some (.int r)) Sf args s mc ms) (F0 m 9 ls []) := by
  obtain ⟨hx, hb, hr, hlk, hml, hown, hts, hE, hA, hnm⟩ := hc
  have hc : gC p s m args meth c G RJ20 "checkIndex" cJ20_checkIndex 3 (some .int) := ⟨hx, hb, hr, hlk, hml, hown, hts, hE, hA, hnm⟩
  unfold fJ20_checkIndex_b9 at hf
  refine g_aload_n (pc := 9) (o := l2) hx hb dJ20_checkIndex_9 rfl (lv_at hl 2 rfl) ?_
  refine lv_iload_n (pc := 10) hx hb dJ20_checkIndex_10 rfl (lv_at hl 0 rfl) ?_
  refine lv_iload_n (pc := 11) hx hb dJ20_checkIndex_11 rfl (lv_at hl 1 rfl) ?_
  exact absurd hf (fun h => by cases h)
def fJ20_checkIndex (G : gG) (l0 : Int32) (l1 : Int32) (l2 : Option Nat) (S : gS) : gO Int32 :=
  if l0 < 0 then
    fJ20_checkIndex_b9 G l0 l1 l2 S
  else
    if l0 < l1 then
      some (l0, S, 0, 0)
    else
      fJ20_checkIndex_b9 G l0 l1 l2 S
theorem wJ20_checkIndex_b0 (hk : rOK Rp) (hc : gC p s m args meth c G RJ20 "checkIndex" cJ20_checkIndex 3 (some .int)) (l0 : Int32) (l1 : Int32) (l2 : Option Nat) (S : gS) (H : Heap) (locs : List Loc) (ls : Array Slot) (kc ks C N : Nat) (hkc : kc + C ≤ mc) (hks : ks + N ≤ ms) (hH : hp G Rp S H) (hS : va_S G.2.2.2 s.heap H locs) (hl : lv_has ls 3 [(0, .int l0), (1, .int l1), (2, va_rf l2)]) (hf : fJ20_checkIndex G l0 l1 l2 S = some (r, Sf, C, N)) : W p l e (gR 1 60 mc ms) s m args below meth c H locs kc ks (gQ below G Rp (some (.int r)) Sf args s mc ms) (F0 m 0 ls []) := by
  obtain ⟨hx, hb, hr, hlk, hml, hown, hts, hE, hA, hnm⟩ := hc
  have hc : gC p s m args meth c G RJ20 "checkIndex" cJ20_checkIndex 3 (some .int) := ⟨hx, hb, hr, hlk, hml, hown, hts, hE, hA, hnm⟩
  unfold fJ20_checkIndex at hf
  refine lv_iload_n (pc := 0) hx hb dJ20_checkIndex_0 rfl (lv_at hl 0 rfl) ?_
  refine lv_if_lt (pc := 1) (tgt := 9) hx hb dJ20_checkIndex_1 (by decide) (fun c1 => ?_) (fun c1 => ?_)
  · rw [if_pos c1] at hf
    exact wJ20_checkIndex_b9 hk hc l0 l1 l2 S _ _ ls _ _ _ _ hkc hks hH hS (lv_sub hl [0, 1, 2] rfl) hf
  · rw [if_neg c1] at hf
    refine lv_iload_n (pc := 4) hx hb dJ20_checkIndex_4 rfl (lv_at hl 0 rfl) ?_
    refine lv_iload_n (pc := 5) hx hb dJ20_checkIndex_5 rfl (lv_at hl 1 rfl) ?_
    refine lv_icmp_lt (pc := 6) (tgt := 16) hx hb dJ20_checkIndex_6 (by decide) (fun c2 => ?_) (fun c2 => ?_)
    · rw [if_pos c2] at hf
      refine lv_iload_n (pc := 16) hx hb dJ20_checkIndex_16 rfl (lv_at hl 0 rfl) ?_
      exact g_iret (pc := 17) hx hb hr hlk hH hS hkc hks hf dJ20_checkIndex_17
    · rw [if_neg c2] at hf
      exact wJ20_checkIndex_b9 hk hc l0 l1 l2 S _ _ ls _ _ _ _ hkc hks hH hS (lv_sub hl [0, 1, 2] rfl) hf
theorem mJ20_checkIndex {l : Launch} {G : gG} {Rp : gM → gM → Nat → Prop} (hk : rOK Rp) {S S2 : gS} {r2 : Int32} {C N : Nat} {l0 : Int32} {l1 : Int32} {l2 : Option Nat} (hf : fJ20_checkIndex G l0 l1 l2 S = some (r2, S2, C, N)) : gMet l yJ20_checkIndex cJ20_checkIndex 3 (some .int) 1 60 G Rp [.int l0, .int l1, va_rf l2] S (some (.int r2)) S2 C N := by
  refine g_start (by decide) (by simp [lg_sl, va_rf_cat, cat_i, cat_j, cat_r]) (fun p e s m args below meth c ls hc hl hH => ?_)
  have hl : lv_has ls 3 [(0, .int l0), (1, .int l1), (2, va_rf l2)] := by simpa [lv_args, va_rf_cat, cat_i, cat_j, cat_r] using hl
  exact wJ20_checkIndex_b0 hk hc l0 l1 l2 S _ _ ls 0 0 C N (by omega) (by omega) hH va_S.rf (lv_sub hl [0, 1, 2] rfl) hf
end
section
variable {r : Int32} {Sf : gS}
def fJ25_checkIndex (G : gG) (l0 : Int32) (l1 : Int32) (S : gS) : gO Int32 :=
  gb (fJ20_checkIndex G l0 l1 none S) fun v1 S1 =>
  some (v1, S1, 0, 0)
theorem wJ25_checkIndex_b0 (hk : rOK Rp) (hc : gC p s m args meth c G RJ25 "checkIndex" cJ25_checkIndex 2 (some .int)) (l0 : Int32) (l1 : Int32) (S : gS) (H : Heap) (locs : List Loc) (ls : Array Slot) (kc ks C N : Nat) (hkc : kc + C ≤ mc) (hks : ks + N ≤ ms) (hH : hp G Rp S H) (hS : va_S G.2.2.2 s.heap H locs) (hl : lv_has ls 2 [(0, .int l0), (1, .int l1)]) (hf : fJ25_checkIndex G l0 l1 S = some (r, Sf, C, N)) : W p l e (gR 2 82 mc ms) s m args below meth c H locs kc ks (gQ below G Rp (some (.int r)) Sf args s mc ms) (F0 m 0 ls []) := by
  obtain ⟨hx, hb, hr, hlk, hml, hown, hts, hE, hA, hnm⟩ := hc
  have hc : gC p s m args meth c G RJ25 "checkIndex" cJ25_checkIndex 2 (some .int) := ⟨hx, hb, hr, hlk, hml, hown, hts, hE, hA, hnm⟩
  unfold fJ25_checkIndex at hf
  refine lv_iload_n (pc := 0) hx hb dJ25_checkIndex_0 rfl (lv_at hl 0 rfl) ?_
  refine lv_iload_n (pc := 1) hx hb dJ25_checkIndex_1 rfl (lv_at hl 1 rfl) ?_
  refine lv_null (pc := 2) hx hb dJ25_checkIndex_2 ?_
  obtain ⟨v1, S1, c1, n1, c2_1, n2_1, e1, hf, hC1, hN1⟩ := gbo hf
  refine g_callS (pc := 3) (As := [.int l0, .int l1, va_rf none]) (rest := []) (st1 := [.int v1]) hc (mJ20_checkIndex hk (l0 := l0) (l1 := l1) (l2 := none) e1) (va_cwS 3 hts (lw_S q1229 q973 q123 q974) rfl rfl rfl jhdJ20_checkIndex ⟨Nat.le_of_ble_eq_true rfl, Nat.le_of_ble_eq_true rfl⟩) rfl hl.1 rfl rfl (lv_room (Nat.le_of_ble_eq_true rfl)) dJ25_checkIndex_3 hH hS (by omega) (by omega) (fun H locs hH hS => ?_)
  have hkc : kc + c1 + c2_1 ≤ mc := by omega
  have hks : ks + n1 + n2_1 ≤ ms := by omega
  exact g_iret (pc := 6) hx hb hr hlk hH hS hkc hks hf dJ25_checkIndex_6
theorem mJ25_checkIndex {l : Launch} {G : gG} {Rp : gM → gM → Nat → Prop} (hk : rOK Rp) {S S2 : gS} {r2 : Int32} {C N : Nat} {l0 : Int32} {l1 : Int32} (hf : fJ25_checkIndex G l0 l1 S = some (r2, S2, C, N)) : gMet l yJ25_checkIndex cJ25_checkIndex 2 (some .int) 2 82 G Rp [.int l0, .int l1] S (some (.int r2)) S2 C N := by
  refine g_start (by decide) (Nat.le_of_ble_eq_true rfl) (fun p e s m args below meth c ls hc hl hH => ?_)
  have hl : lv_has ls 2 [(0, .int l0), (1, .int l1)] := hl
  exact wJ25_checkIndex_b0 hk hc l0 l1 S _ _ ls 0 0 C N (by omega) (by omega) hH va_S.rf (lv_sub hl [0, 1] rfl) hf
end
section
variable {r : Option Nat} {Sf : gS}
def fJ2_elementData (G : gG) (l0 : Nat) (l1 : Int32) (S : gS) : gO (Option Nat) :=
  bd (rdR S l0 15 1) fun v1 =>
  bd v1 fun a2 =>
  bd (rdAq S a2 5 l1) fun v3 =>
  some (v3, S, 0, 0)
theorem wJ2_elementData_b0 (hk : rOK Rp) (hc : gC p s m args meth c G RJ2 "elementData" cJ2_elementData 2 (some (.object "java/lang/Object"))) (l0 : Nat) (l1 : Int32) (S : gS) (H : Heap) (locs : List Loc) (ls : Array Slot) (kc ks C N : Nat) (hkc : kc + C ≤ mc) (hks : ks + N ≤ ms) (hH : hp G Rp S H) (hS : va_S G.2.2.2 s.heap H locs) (hl : lv_has ls 2 [(0, .ref l0), (1, .int l1)]) (hf : fJ2_elementData G l0 l1 S = some (r, Sf, C, N)) : W p l e (gR 1 60 mc ms) s m args below meth c H locs kc ks (gQ below G Rp (some (va_rf r)) Sf args s mc ms) (F0 m 0 ls []) := by
  obtain ⟨hx, hb, hr, hlk, hml, hown, hts, hE, hA, hnm⟩ := hc
  have hc : gC p s m args meth c G RJ2 "elementData" cJ2_elementData 2 (some (.object "java/lang/Object")) := ⟨hx, hb, hr, hlk, hml, hown, hts, hE, hA, hnm⟩
  unfold fJ2_elementData at hf
  refine lv_aload_n (pc := 0) hx hb dJ2_elementData_0 rfl (lv_at hl 0 rfl) ?_
  obtain ⟨v1, e1, hf⟩ := bdo hf
  refine g_get (pc := 1) (o := (some l0)) (a := l0) (ci := 15) (k := 1) (v := va_rf v1) (C := RJ2) (T := TJ2) (N := 3) hx hb hts hown hE hk hH in_J2 rfl (by decide) (hts _ q191) (fun _ h9 => h9) rfl (rdR_o e1) dJ2_elementData_1 ?_
  refine lv_iload_n (pc := 4) hx hb dJ2_elementData_4 rfl (lv_at hl 1 rfl) ?_
  obtain ⟨a2, ea2, hf⟩ := bdo hf
  obtain ⟨v3, e3, hf⟩ := bdo hf
  refine g_aald (pc := 5) (o := v1) (a := a2) (t := 5) (t0 := 5) hx hb hE hk hH rfl ea2 e3 dJ2_elementData_5 ?_
  exact g_aret (pc := 6) (v := v3) hx hb hr (Or.inl ⟨_, rfl⟩) hlk hH hS hkc hks hf dJ2_elementData_6
theorem mJ2_elementData {l : Launch} {G : gG} {Rp : gM → gM → Nat → Prop} (hk : rOK Rp) {S S2 : gS} {r2 : Option Nat} {C N : Nat} {l0 : Nat} {l1 : Int32} (hf : fJ2_elementData G l0 l1 S = some (r2, S2, C, N)) : gMet l yJ2_elementData cJ2_elementData 2 (some (.object "java/lang/Object")) 1 60 G Rp [.ref l0, .int l1] S (some (va_rf r2)) S2 C N := by
  refine g_start (by decide) (Nat.le_of_ble_eq_true rfl) (fun p e s m args below meth c ls hc hl hH => ?_)
  have hl : lv_has ls 2 [(0, .ref l0), (1, .int l1)] := hl
  exact wJ2_elementData_b0 hk hc l0 l1 S _ _ ls 0 0 C N (by omega) (by omega) hH va_S.rf (lv_sub hl [0, 1] rfl) hf
end
section
variable {r : Option Nat} {Sf : gS}
def fJ2_get (G : gG) (l0 : Nat) (l1 : Int32) (S : gS) : gO (Option Nat) :=
  bd (rdI S l0 15 2) fun v1 =>
  gb (fJ25_checkIndex G l1 v1 S) fun v2 S2 =>
  bd (chk S2 l0 15) fun _ =>
  gb (fJ2_elementData G l0 l1 S2) fun v3 S3 =>
  some (v3, S3, 0, 0)
theorem wJ2_get_b0 (hk : rOK Rp) (hc : gC p s m args meth c G RJ2 "get" cJ2_get 2 (some (.object "java/lang/Object"))) (l0 : Nat) (l1 : Int32) (S : gS) (H : Heap) (locs : List Loc) (ls : Array Slot) (kc ks C N : Nat) (hkc : kc + C ≤ mc) (hks : ks + N ≤ ms) (hH : hp G Rp S H) (hS : va_S G.2.2.2 s.heap H locs) (hl : lv_has ls 2 [(0, .ref l0), (1, .int l1)]) (hf : fJ2_get G l0 l1 S = some (r, Sf, C, N)) : W p l e (gR 3 103 mc ms) s m args below meth c H locs kc ks (gQ below G Rp (some (va_rf r)) Sf args s mc ms) (F0 m 0 ls []) := by
  obtain ⟨hx, hb, hr, hlk, hml, hown, hts, hE, hA, hnm⟩ := hc
  have hc : gC p s m args meth c G RJ2 "get" cJ2_get 2 (some (.object "java/lang/Object")) := ⟨hx, hb, hr, hlk, hml, hown, hts, hE, hA, hnm⟩
  unfold fJ2_get at hf
  refine lv_iload_n (pc := 0) hx hb dJ2_get_0 rfl (lv_at hl 1 rfl) ?_
  refine lv_aload_n (pc := 1) hx hb dJ2_get_1 rfl (lv_at hl 0 rfl) ?_
  obtain ⟨v1, e1, hf⟩ := bdo hf
  refine g_get (pc := 2) (o := (some l0)) (a := l0) (ci := 15) (k := 2) (v := .int v1) (C := RJ2) (T := TJ2) (N := 3) hx hb hts hown hE hk hH in_J2 rfl (by decide) (hts _ q194) (fun _ h9 => h9) rfl (rdI_o e1) dJ2_get_2 ?_
  obtain ⟨v2, S2, c2, n2, c2_2, n2_2, e2, hf, hC2, hN2⟩ := gbo hf
  refine g_callS (pc := 5) (As := [.int l1, .int v1]) (rest := []) (st1 := [.int v2]) hc (mJ25_checkIndex hk (l0 := l1) (l1 := v1) e2) (va_cwS 2 hts (lw_S q1226 q1227 q133 q1228) rfl rfl rfl jhdJ25_checkIndex ⟨Nat.le_of_ble_eq_true rfl, Nat.le_of_ble_eq_true rfl⟩) rfl hl.1 rfl rfl (lv_room (Nat.le_of_ble_eq_true rfl)) dJ2_get_5 hH hS (by omega) (by omega) (fun H locs hH hS => ?_)
  have hkc : kc + c2 + c2_2 ≤ mc := by omega
  have hks : ks + n2 + n2_2 ≤ ms := by omega
  refine lv_pop (pc := 8) hx hb dJ2_get_8 rfl ?_
  refine lv_aload_n (pc := 9) hx hb dJ2_get_9 rfl (lv_at hl 0 rfl) ?_
  refine lv_iload_n (pc := 10) hx hb dJ2_get_10 rfl (lv_at hl 1 rfl) ?_
  obtain ⟨_, ek3, hf⟩ := bdo hf
  obtain ⟨v3, S3, c3, n3, c2_3, n2_3, e3, hf, hC3, hN3⟩ := gbo hf
  refine g_callV (pc := 11) (o := (some l0)) (b := l0) (As := [.int l1]) (rest := []) (st1 := [va_rf v3]) hc (mJ2_elementData hk (l0 := l0) (l1 := l1) e3) (cwV 1 hts (lw_V q1230 q1231 q1232 q101 q1233) rfl rfl rfl jhdJ2_elementData ⟨Nat.le_of_ble_eq_true rfl, Nat.le_of_ble_eq_true rfl⟩) (g_recv hE hk hH (ci := 15) (q := (RJ2, TJ2, 3)) rfl (chk_o ek3).choose_spec) rfl rfl hl.1 rfl rfl (lv_room (Nat.le_of_ble_eq_true rfl)) dJ2_get_11 hH hS (by omega) (by omega) (fun H locs hH hS => ?_)
  have hkc : kc + c2 + c3 + c2_3 ≤ mc := by omega
  have hks : ks + n2 + n3 + n2_3 ≤ ms := by omega
  exact g_aret (pc := 14) (v := v3) hx hb hr (Or.inl ⟨_, rfl⟩) hlk hH hS hkc hks hf dJ2_get_14
theorem mJ2_get {l : Launch} {G : gG} {Rp : gM → gM → Nat → Prop} (hk : rOK Rp) {S S2 : gS} {r2 : Option Nat} {C N : Nat} {l0 : Nat} {l1 : Int32} (hf : fJ2_get G l0 l1 S = some (r2, S2, C, N)) : gMet l yJ2_get cJ2_get 2 (some (.object "java/lang/Object")) 3 103 G Rp [.ref l0, .int l1] S (some (va_rf r2)) S2 C N := by
  refine g_start (by decide) (Nat.le_of_ble_eq_true rfl) (fun p e s m args below meth c ls hc hl hH => ?_)
  have hl : lv_has ls 2 [(0, .ref l0), (1, .int l1)] := hl
  exact wJ2_get_b0 hk hc l0 l1 S _ _ ls 0 0 C N (by omega) (by omega) hH va_S.rf (lv_sub hl [0, 1] rfl) hf
end
section
variable {r : Int32} {Sf : gS}
def fJ17_newLength_b21 (G : gG) (l0 : Int32) (l1 : Int32) (S : gS) : gO Int32 :=
  none
theorem wJ17_newLength_b21 (hk : rOK Rp) (hc : gC p s m args meth c G RJ17 "newLength" cJ17_newLength 4 (some .int)) (l0 : Int32) (l1 : Int32) (S : gS) (H : Heap) (locs : List Loc) (ls : Array Slot) (kc ks C N : Nat) (hkc : kc + C ≤ mc) (hks : ks + N ≤ ms) (hH : hp G Rp S H) (hS : va_S G.2.2.2 s.heap H locs) (hl : lv_has ls 4 [(0, .int l0), (1, .int l1)]) (hf : fJ17_newLength_b21 G l0 l1 S = some (r, Sf, C, N)) : W p l e (gR 1 60 mc ms) s m args below meth c H locs kc ks (gQ below G Rp (some (.int r)) Sf args s mc ms) (F0 m 21 ls []) := by
  obtain ⟨hx, hb, hr, hlk, hml, hown, hts, hE, hA, hnm⟩ := hc
  have hc : gC p s m args meth c G RJ17 "newLength" cJ17_newLength 4 (some .int) := ⟨hx, hb, hr, hlk, hml, hown, hts, hE, hA, hnm⟩
  unfold fJ17_newLength_b21 at hf
  refine lv_iload_n (pc := 21) hx hb dJ17_newLength_21 rfl (lv_at hl 0 rfl) ?_
  refine lv_iload_n (pc := 22) hx hb dJ17_newLength_22 rfl (lv_at hl 1 rfl) ?_
  exact absurd hf (fun h => by cases h)
def fJ17_newLength (G : gG) (l0 : Int32) (l1 : Int32) (l2 : Int32) (S : gS) : gO Int32 :=
  if (l0 + (if l1 < l2 then l2 else l1)) ≤ (nI 0) then
    fJ17_newLength_b21 G l0 l1 S
  else
    if (nI 2147483639) < (l0 + (if l1 < l2 then l2 else l1)) then
      fJ17_newLength_b21 G l0 l1 S
    else
      some (l0 + (if l1 < l2 then l2 else l1), S, 0, 0)
theorem wJ17_newLength_b0 (hk : rOK Rp) (hc : gC p s m args meth c G RJ17 "newLength" cJ17_newLength 4 (some .int)) (l0 : Int32) (l1 : Int32) (l2 : Int32) (S : gS) (H : Heap) (locs : List Loc) (ls : Array Slot) (kc ks C N : Nat) (hkc : kc + C ≤ mc) (hks : ks + N ≤ ms) (hH : hp G Rp S H) (hS : va_S G.2.2.2 s.heap H locs) (hl : lv_has ls 4 [(0, .int l0), (1, .int l1), (2, .int l2)]) (hf : fJ17_newLength G l0 l1 l2 S = some (r, Sf, C, N)) : W p l e (gR 1 60 mc ms) s m args below meth c H locs kc ks (gQ below G Rp (some (.int r)) Sf args s mc ms) (F0 m 0 ls []) := by
  obtain ⟨hx, hb, hr, hlk, hml, hown, hts, hE, hA, hnm⟩ := hc
  have hc : gC p s m args meth c G RJ17 "newLength" cJ17_newLength 4 (some .int) := ⟨hx, hb, hr, hlk, hml, hown, hts, hE, hA, hnm⟩
  unfold fJ17_newLength at hf
  refine lv_iload_n (pc := 0) hx hb dJ17_newLength_0 rfl (lv_at hl 0 rfl) ?_
  refine lv_iload_n (pc := 1) hx hb dJ17_newLength_1 rfl (lv_at hl 1 rfl) ?_
  refine lv_iload_n (pc := 2) hx hb dJ17_newLength_2 rfl (lv_at hl 2 rfl) ?_
  refine va_mmax (pc := 3) hx hb (hml.trans hl.1.symm) hown (hts _ q664) (hts _ q665) (hts _ q121) (hts _ q666) (Nat.le_of_ble_eq_true rfl) (by simp [gR, va_rf_cat, cat_i, cat_j, cat_r]) (Nat.le_trans (by omega) hkc) (Nat.le_trans (by omega) hks) dJ17_newLength_3 ?_
  refine lv_iadd (pc := 6) hx hb dJ17_newLength_6 ?_
  refine lv_istore_n (pc := 7) (i := 3) (lv' := [(3, .int (l0 + (if l1 < l2 then l2 else l1))), (0, .int l0), (1, .int l1), (2, .int l2)]) hx hb dJ17_newLength_7 rfl hl (by decide) rfl (fun ls hl => ?_)
  refine lv_iconst (pc := 8) (v := nI 0) hx hb dJ17_newLength_8 rfl ?_
  refine lv_iload_n (pc := 9) hx hb dJ17_newLength_9 rfl (lv_at hl 0 rfl) ?_
  refine lv_icmp_ge (pc := 10) (tgt := 21) hx hb dJ17_newLength_10 (by decide) (fun c1 => ?_) (fun c1 => ?_)
  · rw [if_pos c1] at hf
    exact wJ17_newLength_b21 hk hc l0 l1 S _ _ ls _ _ _ _ hkc hks hH hS (lv_sub hl [1, 2] rfl) hf
  · rw [if_neg c1] at hf
    refine lv_iload_n (pc := 13) hx hb dJ17_newLength_13 rfl (lv_at hl 0 rfl) ?_
    refine lv_ldc (pc := 14) (v := nI 2147483639) hx hb hown (hts _ q667) dJ17_newLength_14 ?_
    refine lv_icmp_gt (pc := 16) (tgt := 21) hx hb dJ17_newLength_16 (by decide) (fun c2 => ?_) (fun c2 => ?_)
    · rw [if_pos c2] at hf
      exact wJ17_newLength_b21 hk hc l0 l1 S _ _ ls _ _ _ _ hkc hks hH hS (lv_sub hl [1, 2] rfl) hf
    · rw [if_neg c2] at hf
      refine lv_iload_n (pc := 19) hx hb dJ17_newLength_19 rfl (lv_at hl 0 rfl) ?_
      exact g_iret (pc := 20) hx hb hr hlk hH hS hkc hks hf dJ17_newLength_20
theorem mJ17_newLength {l : Launch} {G : gG} {Rp : gM → gM → Nat → Prop} (hk : rOK Rp) {S S2 : gS} {r2 : Int32} {C N : Nat} {l0 : Int32} {l1 : Int32} {l2 : Int32} (hf : fJ17_newLength G l0 l1 l2 S = some (r2, S2, C, N)) : gMet l yJ17_newLength cJ17_newLength 4 (some .int) 1 60 G Rp [.int l0, .int l1, .int l2] S (some (.int r2)) S2 C N := by
  refine g_start (by decide) (Nat.le_of_ble_eq_true rfl) (fun p e s m args below meth c ls hc hl hH => ?_)
  have hl : lv_has ls 4 [(0, .int l0), (1, .int l1), (2, .int l2)] := hl
  exact wJ17_newLength_b0 hk hc l0 l1 l2 S _ _ ls 0 0 C N (by omega) (by omega) hH va_S.rf (lv_sub hl [0, 1, 2] rfl) hf
end
section
variable {r : Option Nat} {Sf : gS}
def fJ19_copyOf_3 (G : gG) (l0 : Option Nat) (l1 : Int32) (l2 : Option Nat) (S : gS) : gO (Option Nat) :=
  if l2 = (some (G.2.2.1 14)) then
    nwq S 5 l1 fun S2 =>
    bd l0 fun a3 =>
    bd (lenQ G S2 a3) fun v4 =>
    bd (cpyQ G S2 a3 (nI 0) S.2 (nI 0) (if l1 < v4 then l1 else v4)) fun S6 =>
    some ((some S.2), S6, 0, 0)
  else
    none
theorem wJ19_copyOf_3_b0 (hk : rOK Rp) (hc : gC p s m args meth c G RJ19 "copyOf" cJ19_copyOf_3 4 (some (.array (.object "java/lang/Object")))) (l0 : Option Nat) (l1 : Int32) (l2 : Option Nat) (S : gS) (H : Heap) (locs : List Loc) (ls : Array Slot) (kc ks C N : Nat) (hkc : kc + C ≤ mc) (hks : ks + N ≤ ms) (hH : hp G Rp S H) (hS : va_S G.2.2.2 s.heap H locs) (hl : lv_has ls 4 [(0, va_rf l0), (1, .int l1), (2, va_rf l2)]) (hf : fJ19_copyOf_3 G l0 l1 l2 S = some (r, Sf, C, N)) : W p l e (gR 1 60 mc ms) s m args below meth c H locs kc ks (gQ below G Rp (some (va_rf r)) Sf args s mc ms) (F0 m 0 ls []) := by
  obtain ⟨hx, hb, hr, hlk, hml, hown, hts, hE, hA, hnm⟩ := hc
  have hc : gC p s m args meth c G RJ19 "copyOf" cJ19_copyOf_3 4 (some (.array (.object "java/lang/Object"))) := ⟨hx, hb, hr, hlk, hml, hown, hts, hE, hA, hnm⟩
  unfold fJ19_copyOf_3 at hf
  refine g_aload_n (pc := 0) (o := l2) hx hb dJ19_copyOf_3_0 rfl (lv_at hl 2 rfl) ?_
  refine g_ldcM (pc := 1) hx hb hts hown hE q1108 dJ19_copyOf_3_1 ?_
  refine lv_acmp_ne (pc := 3) (rx := l2) (ry := (some (G.2.2.1 14))) (tgt := 13) hx hb dJ19_copyOf_3_3 (by decide) (fun c1 => ?_) (fun c1 => ?_)
  · rw [if_neg c1] at hf
    refine g_aload_n (pc := 13) (o := l2) hx hb dJ19_copyOf_3_13 rfl (lv_at hl 2 rfl) ?_
    exact absurd hf (fun h => by cases h)
  · rw [if_pos c1] at hf
    refine lv_iload_n (pc := 6) hx hb dJ19_copyOf_3_6 rfl (lv_at hl 1 rfl) ?_
    obtain ⟨hn2, hi2, S2, c2_2, n2_2, eS2, hf, hC2, hN2⟩ := nwqo hf
    refine g_newqo (pc := 7) (C := "java/lang/Object") (t := 5) (t0 := 5) hx hb hts hown hE hA hk hH hS q1110 q1109 rfl hn2 hi2 eS2 (Nat.le_trans (by omega) hkc) (Nat.le_trans (by omega) hks) dJ19_copyOf_3_7 (fun H hH hS => ?_)
    have hkc : kc + 1 + c2_2 ≤ mc := by omega
    have hks : ks + l1.toNatClampNeg + n2_2 ≤ ms := by omega
    refine lv_goto (pc := 10) (tgt := 24) hx hb dJ19_copyOf_3_10 (by decide) ?_
    refine lv_astore_n (pc := 24) (i := 3) (lv' := [(3, .ref S.2), (0, va_rf l0), (1, .int l1), (2, va_rf l2)]) hx hb dJ19_copyOf_3_24 rfl hl (by decide) (by simp [va_rf_cat, cat_i, cat_j, cat_r] <;> rfl) (fun ls hl => ?_)
    refine g_aload_n (pc := 25) (o := l0) hx hb dJ19_copyOf_3_25 rfl (lv_at hl 1 rfl) ?_
    refine lv_iconst (pc := 26) (v := nI 0) hx hb dJ19_copyOf_3_26 rfl ?_
    refine lv_aload_n (pc := 27) hx hb dJ19_copyOf_3_27 rfl (lv_at hl 0 rfl) ?_
    refine lv_iconst (pc := 28) (v := nI 0) hx hb dJ19_copyOf_3_28 rfl ?_
    refine g_aload_n (pc := 29) (o := l0) hx hb dJ19_copyOf_3_29 rfl (lv_at hl 1 rfl) ?_
    obtain ⟨a3, ea3, hf⟩ := bdo hf
    obtain ⟨v4, e4, hf⟩ := bdo hf
    refine g_lenQ (pc := 30) (o := l0) (a := a3) hx hb hE hk hH hS ea3 e4 dJ19_copyOf_3_30 ?_
    refine lv_iload_n (pc := 31) hx hb dJ19_copyOf_3_31 rfl (lv_at hl 2 rfl) ?_
    refine va_mmin (pc := 32) hx hb (hml.trans hl.1.symm) hown (hts _ q682) (hts _ q683) (hts _ q121) (hts _ q684) (Nat.le_of_ble_eq_true rfl) (by simp [gR, va_rf_cat, cat_i, cat_j, cat_r]) (Nat.le_trans (by omega) hkc) (Nat.le_trans (by omega) hks) dJ19_copyOf_3_32 ?_
    obtain ⟨S6, e6, hf⟩ := bdo hf
    refine g_cpyQ (pc := 35) (o0 := l0) (a0 := a3) (o := (some S.2)) (a := S.2) hx hb (hml.trans hl.1.symm) hts hown hE hk hH hS q685 q520 q519 q116 ea3 rfl e6 (Nat.le_of_ble_eq_true rfl) (by simp [gR, va_rf_cat, cat_i, cat_j, cat_r]) dJ19_copyOf_3_35 (fun H locs hH hS => ?_)
    refine lv_aload_n (pc := 38) hx hb dJ19_copyOf_3_38 rfl (lv_at hl 0 rfl) ?_
    exact g_aret (pc := 39) (v := (some S.2)) hx hb hr (Or.inr ⟨_, rfl⟩) hlk hH hS hkc hks hf dJ19_copyOf_3_39
theorem mJ19_copyOf_3 {l : Launch} {G : gG} {Rp : gM → gM → Nat → Prop} (hk : rOK Rp) {S S2 : gS} {r2 : Option Nat} {C N : Nat} {l0 : Option Nat} {l1 : Int32} {l2 : Option Nat} (hf : fJ19_copyOf_3 G l0 l1 l2 S = some (r2, S2, C, N)) : gMet l yJ19_copyOf_3 cJ19_copyOf_3 4 (some (.array (.object "java/lang/Object"))) 1 60 G Rp [va_rf l0, .int l1, va_rf l2] S (some (va_rf r2)) S2 C N := by
  refine g_start (by decide) (by simp [lg_sl, va_rf_cat, cat_i, cat_j, cat_r]) (fun p e s m args below meth c ls hc hl hH => ?_)
  have hl : lv_has ls 4 [(0, va_rf l0), (1, .int l1), (2, va_rf l2)] := by simpa [lv_args, va_rf_cat, cat_i, cat_j, cat_r] using hl
  exact wJ19_copyOf_3_b0 hk hc l0 l1 l2 S _ _ ls 0 0 C N (by omega) (by omega) hH va_S.rf (lv_sub hl [0, 1, 2] rfl) hf
end
section
variable {r : Option Nat} {Sf : gS}
def fJ19_copyOf_2 (G : gG) (l0 : Option Nat) (l1 : Int32) (S : gS) : gO (Option Nat) :=
  bd l0 fun a1 =>
  bd (lenQ G S a1) fun _ =>
  gb (fJ19_copyOf_3 G l0 l1 (some (G.2.2.1 14)) S) fun v3 S3 =>
  some (v3, S3, 0, 0)
theorem wJ19_copyOf_2_b0 (hk : rOK Rp) (hc : gC p s m args meth c G RJ19 "copyOf" cJ19_copyOf_2 2 (some (.array (.object "java/lang/Object")))) (l0 : Option Nat) (l1 : Int32) (S : gS) (H : Heap) (locs : List Loc) (ls : Array Slot) (kc ks C N : Nat) (hkc : kc + C ≤ mc) (hks : ks + N ≤ ms) (hH : hp G Rp S H) (hS : va_S G.2.2.2 s.heap H locs) (hl : lv_has ls 2 [(0, va_rf l0), (1, .int l1)]) (hf : fJ19_copyOf_2 G l0 l1 S = some (r, Sf, C, N)) : W p l e (gR 2 83 mc ms) s m args below meth c H locs kc ks (gQ below G Rp (some (va_rf r)) Sf args s mc ms) (F0 m 0 ls []) := by
  obtain ⟨hx, hb, hr, hlk, hml, hown, hts, hE, hA, hnm⟩ := hc
  have hc : gC p s m args meth c G RJ19 "copyOf" cJ19_copyOf_2 2 (some (.array (.object "java/lang/Object"))) := ⟨hx, hb, hr, hlk, hml, hown, hts, hE, hA, hnm⟩
  unfold fJ19_copyOf_2 at hf
  refine g_aload_n (pc := 0) (o := l0) hx hb dJ19_copyOf_2_0 rfl (lv_at hl 0 rfl) ?_
  refine lv_iload_n (pc := 1) hx hb dJ19_copyOf_2_1 rfl (lv_at hl 1 rfl) ?_
  refine g_aload_n (pc := 2) (o := l0) hx hb dJ19_copyOf_2_2 rfl (lv_at hl 0 rfl) ?_
  obtain ⟨a1, ea1, hf⟩ := bdo hf
  obtain ⟨_, e2, hf⟩ := bdo hf
  refine g_getC (pc := 3) (o := l0) (a := a1) hx hb (hml.trans hl.1.symm) hts hown hE hk hH hS q1059 ea1 e2 (Nat.le_of_ble_eq_true rfl) (by simp [gR, va_rf_cat, cat_i, cat_j, cat_r]) dJ19_copyOf_2_3 ?_
  obtain ⟨v3, S3, c3, n3, c2_3, n2_3, e3, hf, hC3, hN3⟩ := gbo hf
  refine g_callS (pc := 6) (As := [va_rf l0, .int l1, .ref (G.2.2.1 14)]) (rest := []) (st1 := [va_rf v3]) hc (mJ19_copyOf_3 hk (l0 := l0) (l1 := l1) (l2 := (some (G.2.2.1 14))) e3) (va_cwS 3 hts (lw_S q1105 q1106 q122 q1107) rfl rfl rfl jhdJ19_copyOf_3 ⟨Nat.le_of_ble_eq_true rfl, Nat.le_of_ble_eq_true rfl⟩) rfl hl.1 rfl rfl (lv_room (Nat.le_of_ble_eq_true rfl)) dJ19_copyOf_2_6 hH hS (by omega) (by omega) (fun H locs hH hS => ?_)
  have hkc : kc + c3 + c2_3 ≤ mc := by omega
  have hks : ks + n3 + n2_3 ≤ ms := by omega
  exact g_aret (pc := 9) (v := v3) hx hb hr (Or.inr ⟨_, rfl⟩) hlk hH hS hkc hks hf dJ19_copyOf_2_9
theorem mJ19_copyOf_2 {l : Launch} {G : gG} {Rp : gM → gM → Nat → Prop} (hk : rOK Rp) {S S2 : gS} {r2 : Option Nat} {C N : Nat} {l0 : Option Nat} {l1 : Int32} (hf : fJ19_copyOf_2 G l0 l1 S = some (r2, S2, C, N)) : gMet l yJ19_copyOf_2 cJ19_copyOf_2 2 (some (.array (.object "java/lang/Object"))) 2 83 G Rp [va_rf l0, .int l1] S (some (va_rf r2)) S2 C N := by
  refine g_start (by decide) (by simp [lg_sl, va_rf_cat, cat_i, cat_j, cat_r]) (fun p e s m args below meth c ls hc hl hH => ?_)
  have hl : lv_has ls 2 [(0, va_rf l0), (1, .int l1)] := by simpa [lv_args, va_rf_cat, cat_i, cat_j, cat_r] using hl
  exact wJ19_copyOf_2_b0 hk hc l0 l1 S _ _ ls 0 0 C N (by omega) (by omega) hH va_S.rf (lv_sub hl [0, 1] rfl) hf
end
section
variable {r : Option Nat} {Sf : gS}
def fJ2_grow_2_b20 (G : gG) (l0 : Nat) (l1 : Int32) (l2 : Int32) (S : gS) : gO (Option Nat) :=
  gb (fJ17_newLength G l2 (l1 - l2) (l2 >>> ((nI 1) &&& 31)) S) fun v1 S1 =>
  bd (rdR S1 l0 15 1) fun v2 =>
  gb (fJ19_copyOf_2 G v2 v1 S1) fun v3 S3 =>
  bd (wr S3 l0 15 1 (va_rf v3)) fun S4 =>
  some (v3, S4, 0, 0)
theorem wJ2_grow_2_b20 (hk : rOK Rp) (hc : gC p s m args meth c G RJ2 "grow" cJ2_grow_2 4 (some (.array (.object "java/lang/Object")))) (l0 : Nat) (l1 : Int32) (l2 : Int32) (S : gS) (H : Heap) (locs : List Loc) (ls : Array Slot) (kc ks C N : Nat) (hkc : kc + C ≤ mc) (hks : ks + N ≤ ms) (hH : hp G Rp S H) (hS : va_S G.2.2.2 s.heap H locs) (hl : lv_has ls 4 [(0, .ref l0), (1, .int l1), (2, .int l2)]) (hf : fJ2_grow_2_b20 G l0 l1 l2 S = some (r, Sf, C, N)) : W p l e (gR 3 104 mc ms) s m args below meth c H locs kc ks (gQ below G Rp (some (va_rf r)) Sf args s mc ms) (F0 m 20 ls []) := by
  obtain ⟨hx, hb, hr, hlk, hml, hown, hts, hE, hA, hnm⟩ := hc
  have hc : gC p s m args meth c G RJ2 "grow" cJ2_grow_2 4 (some (.array (.object "java/lang/Object"))) := ⟨hx, hb, hr, hlk, hml, hown, hts, hE, hA, hnm⟩
  unfold fJ2_grow_2_b20 at hf
  refine lv_iload_n (pc := 20) hx hb dJ2_grow_2_20 rfl (lv_at hl 2 rfl) ?_
  refine lv_iload_n (pc := 21) hx hb dJ2_grow_2_21 rfl (lv_at hl 1 rfl) ?_
  refine lv_iload_n (pc := 22) hx hb dJ2_grow_2_22 rfl (lv_at hl 2 rfl) ?_
  refine lv_isub (pc := 23) hx hb dJ2_grow_2_23 ?_
  refine lv_iload_n (pc := 24) hx hb dJ2_grow_2_24 rfl (lv_at hl 2 rfl) ?_
  refine lv_iconst (pc := 25) (v := nI 1) hx hb dJ2_grow_2_25 rfl ?_
  refine lv_ishr (pc := 26) hx hb dJ2_grow_2_26 ?_
  obtain ⟨v1, S1, c1, n1, c2_1, n2_1, e1, hf, hC1, hN1⟩ := gbo hf
  refine g_callS (pc := 27) (As := [.int l2, .int (l1 - l2), .int (l2 >>> ((nI 1) &&& 31))]) (rest := []) (st1 := [.int v1]) hc (mJ17_newLength hk (l0 := l2) (l1 := (l1 - l2)) (l2 := (l2 >>> ((nI 1) &&& 31))) e1) (va_cwS 3 hts (lw_S q1055 q662 q120 q663) rfl rfl rfl jhdJ17_newLength ⟨Nat.le_of_ble_eq_true rfl, Nat.le_of_ble_eq_true rfl⟩) rfl hl.1 rfl rfl (lv_room (Nat.le_of_ble_eq_true rfl)) dJ2_grow_2_27 hH hS (by omega) (by omega) (fun H locs hH hS => ?_)
  have hkc : kc + c1 + c2_1 ≤ mc := by omega
  have hks : ks + n1 + n2_1 ≤ ms := by omega
  refine lv_istore_n (pc := 30) (i := 3) (lv' := [(3, .int v1), (0, .ref l0), (1, .int l1), (2, .int l2)]) hx hb dJ2_grow_2_30 rfl hl (by decide) rfl (fun ls hl => ?_)
  refine lv_aload_n (pc := 31) hx hb dJ2_grow_2_31 rfl (lv_at hl 1 rfl) ?_
  refine lv_aload_n (pc := 32) hx hb dJ2_grow_2_32 rfl (lv_at hl 1 rfl) ?_
  obtain ⟨v2, e2, hf⟩ := bdo hf
  refine g_get (pc := 33) (o := (some l0)) (a := l0) (ci := 15) (k := 1) (v := va_rf v2) (C := RJ2) (T := TJ2) (N := 3) hx hb hts hown hE hk hH in_J2 rfl (by decide) (hts _ q191) (fun _ h9 => h9) rfl (rdR_o e2) dJ2_grow_2_33 ?_
  refine lv_iload_n (pc := 36) hx hb dJ2_grow_2_36 rfl (lv_at hl 0 rfl) ?_
  obtain ⟨v3, S3, c3, n3, c2_3, n2_3, e3, hf, hC3, hN3⟩ := gbo hf
  refine g_callS (pc := 37) (As := [va_rf v2, .int v1]) (rest := [.ref l0]) (st1 := [va_rf v3, .ref l0]) hc (mJ19_copyOf_2 hk (l0 := v2) (l1 := v1) e3) (va_cwS 2 hts (lw_S q1056 q1057 q122 q1058) rfl rfl rfl jhdJ19_copyOf_2 ⟨Nat.le_of_ble_eq_true rfl, Nat.le_of_ble_eq_true rfl⟩) rfl hl.1 rfl rfl (lv_room (Nat.le_of_ble_eq_true rfl)) dJ2_grow_2_37 hH hS (by omega) (by omega) (fun H locs hH hS => ?_)
  have hkc : kc + c1 + c3 + c2_3 ≤ mc := by omega
  have hks : ks + n1 + n3 + n2_3 ≤ ms := by omega
  refine lv_dup_x1 (pc := 40) hx hb dJ2_grow_2_40 (va_rf_cat _) rfl ?_
  obtain ⟨S4, e4, hf⟩ := bdo hf
  refine g_put (pc := 41) (o := (some l0)) (a := l0) (ci := 15) (k := 1) (v := va_rf v3) (C := RJ2) (T := TJ2) (N := 3) (ty := tyJ2 1) hx hb hts hown hE hk hH hS rfl in_J2 tyJ2_ok nmJ2 rfl (by decide) (hts _ q191) (fun _ h9 => h9) rfl rfl (nar_ra _ _) (fit_ra _ _) rfl e4 dJ2_grow_2_41 (fun H locs hH hS => ?_)
  exact g_aret (pc := 44) (v := v3) hx hb hr (Or.inr ⟨_, rfl⟩) hlk hH hS hkc hks hf dJ2_grow_2_44
def fJ2_grow_2 (G : gG) (l0 : Nat) (l1 : Int32) (S : gS) : gO (Option Nat) :=
  bd (rdR S l0 15 1) fun v1 =>
  bd v1 fun a2 =>
  bd (lenQ G S a2) fun v3 =>
  if 0 < v3 then
    fJ2_grow_2_b20 G l0 l1 v3 S
  else
    bd (rdR S l0 15 1) fun v5 =>
    if v5 = (some (G.2.2.1 1)) then
      nwq S 5 (if (nI 10) < l1 then l1 else (nI 10)) fun S7 =>
      bd (wr S7 l0 15 1 (.ref S.2)) fun S8 =>
      some ((some S.2), S8, 0, 0)
    else
      fJ2_grow_2_b20 G l0 l1 v3 S
theorem wJ2_grow_2_b0 (hk : rOK Rp) (hc : gC p s m args meth c G RJ2 "grow" cJ2_grow_2 4 (some (.array (.object "java/lang/Object")))) (l0 : Nat) (l1 : Int32) (S : gS) (H : Heap) (locs : List Loc) (ls : Array Slot) (kc ks C N : Nat) (hkc : kc + C ≤ mc) (hks : ks + N ≤ ms) (hH : hp G Rp S H) (hS : va_S G.2.2.2 s.heap H locs) (hl : lv_has ls 4 [(0, .ref l0), (1, .int l1)]) (hf : fJ2_grow_2 G l0 l1 S = some (r, Sf, C, N)) : W p l e (gR 3 104 mc ms) s m args below meth c H locs kc ks (gQ below G Rp (some (va_rf r)) Sf args s mc ms) (F0 m 0 ls []) := by
  obtain ⟨hx, hb, hr, hlk, hml, hown, hts, hE, hA, hnm⟩ := hc
  have hc : gC p s m args meth c G RJ2 "grow" cJ2_grow_2 4 (some (.array (.object "java/lang/Object"))) := ⟨hx, hb, hr, hlk, hml, hown, hts, hE, hA, hnm⟩
  unfold fJ2_grow_2 at hf
  refine lv_aload_n (pc := 0) hx hb dJ2_grow_2_0 rfl (lv_at hl 0 rfl) ?_
  obtain ⟨v1, e1, hf⟩ := bdo hf
  refine g_get (pc := 1) (o := (some l0)) (a := l0) (ci := 15) (k := 1) (v := va_rf v1) (C := RJ2) (T := TJ2) (N := 3) hx hb hts hown hE hk hH in_J2 rfl (by decide) (hts _ q191) (fun _ h9 => h9) rfl (rdR_o e1) dJ2_grow_2_1 ?_
  obtain ⟨a2, ea2, hf⟩ := bdo hf
  obtain ⟨v3, e3, hf⟩ := bdo hf
  refine g_lenQ (pc := 4) (o := v1) (a := a2) hx hb hE hk hH hS ea2 e3 dJ2_grow_2_4 ?_
  refine lv_istore_n (pc := 5) (i := 2) (lv' := [(2, .int v3), (0, .ref l0), (1, .int l1)]) hx hb dJ2_grow_2_5 rfl hl (by decide) rfl (fun ls hl => ?_)
  refine lv_iload_n (pc := 6) hx hb dJ2_grow_2_6 rfl (lv_at hl 0 rfl) ?_
  refine lv_if_gt (pc := 7) (tgt := 20) hx hb dJ2_grow_2_7 (by decide) (fun c4 => ?_) (fun c4 => ?_)
  · rw [if_pos c4] at hf
    exact wJ2_grow_2_b20 hk hc l0 l1 v3 S _ _ ls _ _ _ _ hkc hks hH hS (lv_sub hl [1, 2, 0] rfl) hf
  · rw [if_neg c4] at hf
    refine lv_aload_n (pc := 10) hx hb dJ2_grow_2_10 rfl (lv_at hl 1 rfl) ?_
    obtain ⟨v5, e5, hf⟩ := bdo hf
    refine g_get (pc := 11) (o := (some l0)) (a := l0) (ci := 15) (k := 1) (v := va_rf v5) (C := RJ2) (T := TJ2) (N := 3) hx hb hts hown hE hk hH in_J2 rfl (by decide) (hts _ q191) (fun _ h9 => h9) rfl (rdR_o e5) dJ2_grow_2_11 ?_
    refine g_emptyQ (pc := 14) hx hb hE hS hown (hts _ q189) dJ2_grow_2_14 ?_
    refine lv_acmp_eq (pc := 17) (rx := v5) (ry := (some (G.2.2.1 1))) (tgt := 45) hx hb dJ2_grow_2_17 (by decide) (fun c6 => ?_) (fun c6 => ?_)
    · rw [if_pos c6] at hf
      refine lv_aload_n (pc := 45) hx hb dJ2_grow_2_45 rfl (lv_at hl 1 rfl) ?_
      refine lv_bipush (pc := 46) (v := nI 10) hx hb dJ2_grow_2_46 jgkb10 ?_
      refine lv_iload_n (pc := 48) hx hb dJ2_grow_2_48 rfl (lv_at hl 2 rfl) ?_
      refine va_mmax (pc := 49) hx hb (hml.trans hl.1.symm) hown (hts _ q1111) (hts _ q665) (hts _ q121) (hts _ q666) (Nat.le_of_ble_eq_true rfl) (by simp [gR, va_rf_cat, cat_i, cat_j, cat_r]) (Nat.le_trans (by omega) hkc) (Nat.le_trans (by omega) hks) dJ2_grow_2_49 ?_
      obtain ⟨hn7, hi7, S7, c2_7, n2_7, eS7, hf, hC7, hN7⟩ := nwqo hf
      refine g_newqo (pc := 52) (C := "java/lang/Object") (t := 5) (t0 := 5) hx hb hts hown hE hA hk hH hS q1112 q1109 rfl hn7 hi7 eS7 (Nat.le_trans (by omega) hkc) (Nat.le_trans (by omega) hks) dJ2_grow_2_52 (fun H hH hS => ?_)
      have hkc : kc + 1 + c2_7 ≤ mc := by omega
      have hks : ks + (if (nI 10) < l1 then l1 else (nI 10)).toNatClampNeg + n2_7 ≤ ms := by omega
      refine lv_dup_x1 (pc := 55) hx hb dJ2_grow_2_55 rfl rfl ?_
      obtain ⟨S8, e8, hf⟩ := bdo hf
      refine g_put (pc := 56) (o := (some l0)) (a := l0) (ci := 15) (k := 1) (v := .ref S.2) (C := RJ2) (T := TJ2) (N := 3) (ty := tyJ2 1) hx hb hts hown hE hk hH hS rfl in_J2 tyJ2_ok nmJ2 rfl (by decide) (hts _ q191) (fun _ h9 => h9) rfl rfl rfl rfl rfl e8 dJ2_grow_2_56 (fun H locs hH hS => ?_)
      exact g_aret (pc := 59) (v := (some S.2)) hx hb hr (Or.inr ⟨_, rfl⟩) hlk hH hS hkc hks hf dJ2_grow_2_59
    · rw [if_neg c6] at hf
      exact wJ2_grow_2_b20 hk hc l0 l1 v3 S _ _ ls _ _ _ _ hkc hks hH hS (lv_sub hl [1, 2, 0] rfl) hf
theorem mJ2_grow_2 {l : Launch} {G : gG} {Rp : gM → gM → Nat → Prop} (hk : rOK Rp) {S S2 : gS} {r2 : Option Nat} {C N : Nat} {l0 : Nat} {l1 : Int32} (hf : fJ2_grow_2 G l0 l1 S = some (r2, S2, C, N)) : gMet l yJ2_grow_2 cJ2_grow_2 4 (some (.array (.object "java/lang/Object"))) 3 104 G Rp [.ref l0, .int l1] S (some (va_rf r2)) S2 C N := by
  refine g_start (by decide) (Nat.le_of_ble_eq_true rfl) (fun p e s m args below meth c ls hc hl hH => ?_)
  have hl : lv_has ls 4 [(0, .ref l0), (1, .int l1)] := hl
  exact wJ2_grow_2_b0 hk hc l0 l1 S _ _ ls 0 0 C N (by omega) (by omega) hH va_S.rf (lv_sub hl [0, 1] rfl) hf
end
section
variable {r : Option Nat} {Sf : gS}
def fJ2_grow (G : gG) (l0 : Nat) (S : gS) : gO (Option Nat) :=
  bd (rdI S l0 15 2) fun v1 =>
  bd (chk S l0 15) fun _ =>
  gb (fJ2_grow_2 G l0 (v1 + (nI 1)) S) fun v2 S2 =>
  some (v2, S2, 0, 0)
theorem wJ2_grow_b0 (hk : rOK Rp) (hc : gC p s m args meth c G RJ2 "grow" cJ2_grow 1 (some (.array (.object "java/lang/Object")))) (l0 : Nat) (S : gS) (H : Heap) (locs : List Loc) (ls : Array Slot) (kc ks C N : Nat) (hkc : kc + C ≤ mc) (hks : ks + N ≤ ms) (hH : hp G Rp S H) (hS : va_S G.2.2.2 s.heap H locs) (hl : lv_has ls 1 [(0, .ref l0)]) (hf : fJ2_grow G l0 S = some (r, Sf, C, N)) : W p l e (gR 4 127 mc ms) s m args below meth c H locs kc ks (gQ below G Rp (some (va_rf r)) Sf args s mc ms) (F0 m 0 ls []) := by
  obtain ⟨hx, hb, hr, hlk, hml, hown, hts, hE, hA, hnm⟩ := hc
  have hc : gC p s m args meth c G RJ2 "grow" cJ2_grow 1 (some (.array (.object "java/lang/Object"))) := ⟨hx, hb, hr, hlk, hml, hown, hts, hE, hA, hnm⟩
  unfold fJ2_grow at hf
  refine lv_aload_n (pc := 0) hx hb dJ2_grow_0 rfl (lv_at hl 0 rfl) ?_
  refine lv_aload_n (pc := 1) hx hb dJ2_grow_1 rfl (lv_at hl 0 rfl) ?_
  obtain ⟨v1, e1, hf⟩ := bdo hf
  refine g_get (pc := 2) (o := (some l0)) (a := l0) (ci := 15) (k := 2) (v := .int v1) (C := RJ2) (T := TJ2) (N := 3) hx hb hts hown hE hk hH in_J2 rfl (by decide) (hts _ q194) (fun _ h9 => h9) rfl (rdI_o e1) dJ2_grow_2 ?_
  refine lv_iconst (pc := 5) (v := nI 1) hx hb dJ2_grow_5 rfl ?_
  refine lv_iadd (pc := 6) hx hb dJ2_grow_6 ?_
  obtain ⟨_, ek2, hf⟩ := bdo hf
  obtain ⟨v2, S2, c2, n2, c2_2, n2_2, e2, hf, hC2, hN2⟩ := gbo hf
  refine g_callV (pc := 7) (o := (some l0)) (b := l0) (As := [.int (v1 + (nI 1))]) (rest := []) (st1 := [va_rf v2]) hc (mJ2_grow_2 hk (l0 := l0) (l1 := (v1 + (nI 1))) e2) (cwV 1 hts (lw_V q1051 q1053 qs15 q101 q1054) rfl rfl rfl jhdJ2_grow_2 ⟨Nat.le_of_ble_eq_true rfl, Nat.le_of_ble_eq_true rfl⟩) (g_recv hE hk hH (ci := 15) (q := (RJ2, TJ2, 3)) rfl (chk_o ek2).choose_spec) rfl rfl hl.1 rfl rfl (lv_room (Nat.le_of_ble_eq_true rfl)) dJ2_grow_7 hH hS (by omega) (by omega) (fun H locs hH hS => ?_)
  have hkc : kc + c2 + c2_2 ≤ mc := by omega
  have hks : ks + n2 + n2_2 ≤ ms := by omega
  exact g_aret (pc := 10) (v := v2) hx hb hr (Or.inr ⟨_, rfl⟩) hlk hH hS hkc hks hf dJ2_grow_10
theorem mJ2_grow {l : Launch} {G : gG} {Rp : gM → gM → Nat → Prop} (hk : rOK Rp) {S S2 : gS} {r2 : Option Nat} {C N : Nat} {l0 : Nat} (hf : fJ2_grow G l0 S = some (r2, S2, C, N)) : gMet l yJ2_grow cJ2_grow 1 (some (.array (.object "java/lang/Object"))) 4 127 G Rp [.ref l0] S (some (va_rf r2)) S2 C N := by
  refine g_start (by decide) (Nat.le_of_ble_eq_true rfl) (fun p e s m args below meth c ls hc hl hH => ?_)
  have hl : lv_has ls 1 [(0, .ref l0)] := hl
  exact wJ2_grow_b0 hk hc l0 S _ _ ls 0 0 C N (by omega) (by omega) hH va_S.rf (lv_sub hl [0] rfl) hf
end
section
variable {r : Unit} {Sf : gS}
def fJ2_add_2_b11 (G : gG) (l0 : Nat) (l1 : Option Nat) (l2 : Option Nat) (l3 : Int32) (S : gS) : gO Unit :=
  bd l2 fun a1 =>
  bd l1 fun a3 =>
  bd (chkA G S a3) fun _ =>
  bd (wrAq S a1 5 l3 (some a3)) fun S2 =>
  bd (wr S2 l0 15 2 (.int (l3 + (nI 1)))) fun S5 =>
  some ((), S5, 0, 0)
theorem wJ2_add_2_b11 (hk : rOK Rp) (hc : gC p s m args meth c G RJ2 "add" cJ2_add_2 4 (none)) (l0 : Nat) (l1 : Option Nat) (l2 : Option Nat) (l3 : Int32) (S : gS) (H : Heap) (locs : List Loc) (ls : Array Slot) (kc ks C N : Nat) (hkc : kc + C ≤ mc) (hks : ks + N ≤ ms) (hH : hp G Rp S H) (hS : va_S G.2.2.2 s.heap H locs) (hl : lv_has ls 4 [(0, .ref l0), (1, va_rf l1), (2, va_rf l2), (3, .int l3)]) (hf : fJ2_add_2_b11 G l0 l1 l2 l3 S = some (r, Sf, C, N)) : W p l e (gR 5 147 mc ms) s m args below meth c H locs kc ks (gQ below G Rp none Sf args s mc ms) (F0 m 11 ls []) := by
  obtain ⟨hx, hb, hr, hlk, hml, hown, hts, hE, hA, hnm⟩ := hc
  have hc : gC p s m args meth c G RJ2 "add" cJ2_add_2 4 (none) := ⟨hx, hb, hr, hlk, hml, hown, hts, hE, hA, hnm⟩
  unfold fJ2_add_2_b11 at hf
  refine g_aload_n (pc := 11) (o := l2) hx hb dJ2_add_2_11 rfl (lv_at hl 2 rfl) ?_
  refine lv_iload_n (pc := 12) hx hb dJ2_add_2_12 rfl (lv_at hl 3 rfl) ?_
  refine g_aload_n (pc := 13) (o := l1) hx hb dJ2_add_2_13 rfl (lv_at hl 1 rfl) ?_
  obtain ⟨a1, ea1, hf⟩ := bdo hf
  obtain ⟨a3, ea3, hf⟩ := bdo hf
  obtain ⟨_, e4, hf⟩ := bdo hf
  obtain ⟨S2, e2, hf⟩ := bdo hf
  refine g_aastM (pc := 14) (o := l2) (a := a1) (vo := l1) (v := a3) hx hb hE hk hH hS ea1 ea3 (chkA_o e4) e2 dJ2_add_2_14 (fun H locs hH hS => ?_)
  refine lv_aload_n (pc := 15) hx hb dJ2_add_2_15 rfl (lv_at hl 0 rfl) ?_
  refine lv_iload_n (pc := 16) hx hb dJ2_add_2_16 rfl (lv_at hl 3 rfl) ?_
  refine lv_iconst (pc := 17) (v := nI 1) hx hb dJ2_add_2_17 rfl ?_
  refine lv_iadd (pc := 18) hx hb dJ2_add_2_18 ?_
  obtain ⟨S5, e5, hf⟩ := bdo hf
  refine g_put (pc := 19) (o := (some l0)) (a := l0) (ci := 15) (k := 2) (v := .int (l3 + (nI 1))) (C := RJ2) (T := TJ2) (N := 3) (ty := .int) hx hb hts hown hE hk hH hS rfl in_J2 tyJ2_ok nmJ2 rfl (by decide) (hts _ q194) (fun _ h9 => h9) rfl rfl rfl rfl rfl e5 dJ2_add_2_19 (fun H locs hH hS => ?_)
  exact g_vret (pc := 22) hx hb hr hlk hH hS hkc hks hf dJ2_add_2_22
def fJ2_add_2 (G : gG) (l0 : Nat) (l1 : Option Nat) (l2 : Option Nat) (l3 : Int32) (S : gS) : gO Unit :=
  bd l2 fun a1 =>
  bd (lenQ G S a1) fun v2 =>
  if l3 = v2 then
    bd (chk S l0 15) fun _ =>
    gb (fJ2_grow G l0 S) fun v4 S4 =>
    fJ2_add_2_b11 G l0 l1 v4 l3 S4
  else
    fJ2_add_2_b11 G l0 l1 l2 l3 S
theorem wJ2_add_2_b0 (hk : rOK Rp) (hc : gC p s m args meth c G RJ2 "add" cJ2_add_2 4 (none)) (l0 : Nat) (l1 : Option Nat) (l2 : Option Nat) (l3 : Int32) (S : gS) (H : Heap) (locs : List Loc) (ls : Array Slot) (kc ks C N : Nat) (hkc : kc + C ≤ mc) (hks : ks + N ≤ ms) (hH : hp G Rp S H) (hS : va_S G.2.2.2 s.heap H locs) (hl : lv_has ls 4 [(0, .ref l0), (1, va_rf l1), (2, va_rf l2), (3, .int l3)]) (hf : fJ2_add_2 G l0 l1 l2 l3 S = some (r, Sf, C, N)) : W p l e (gR 5 147 mc ms) s m args below meth c H locs kc ks (gQ below G Rp none Sf args s mc ms) (F0 m 0 ls []) := by
  obtain ⟨hx, hb, hr, hlk, hml, hown, hts, hE, hA, hnm⟩ := hc
  have hc : gC p s m args meth c G RJ2 "add" cJ2_add_2 4 (none) := ⟨hx, hb, hr, hlk, hml, hown, hts, hE, hA, hnm⟩
  unfold fJ2_add_2 at hf
  refine lv_iload_n (pc := 0) hx hb dJ2_add_2_0 rfl (lv_at hl 3 rfl) ?_
  refine g_aload_n (pc := 1) (o := l2) hx hb dJ2_add_2_1 rfl (lv_at hl 2 rfl) ?_
  obtain ⟨a1, ea1, hf⟩ := bdo hf
  obtain ⟨v2, e2, hf⟩ := bdo hf
  refine g_lenQ (pc := 2) (o := l2) (a := a1) hx hb hE hk hH hS ea1 e2 dJ2_add_2_2 ?_
  refine lv_icmp_ne (pc := 3) (tgt := 11) hx hb dJ2_add_2_3 (by decide) (fun c3 => ?_) (fun c3 => ?_)
  · rw [if_neg c3] at hf
    exact wJ2_add_2_b11 hk hc l0 l1 l2 l3 S _ _ ls _ _ _ _ hkc hks hH hS (lv_sub hl [0, 1, 2, 3] rfl) hf
  · rw [if_pos c3] at hf
    refine lv_aload_n (pc := 6) hx hb dJ2_add_2_6 rfl (lv_at hl 0 rfl) ?_
    obtain ⟨_, ek4, hf⟩ := bdo hf
    obtain ⟨v4, S4, c4, n4, c2_4, n2_4, e4, hf, hC4, hN4⟩ := gbo hf
    refine g_callV (pc := 7) (o := (some l0)) (b := l0) (As := []) (rest := []) (st1 := [va_rf v4]) hc (mJ2_grow hk (l0 := l0) e4) (cwV 0 hts (lw_V q1047 q1049 qs14 q101 q1050) rfl rfl rfl jhdJ2_grow ⟨Nat.le_of_ble_eq_true rfl, Nat.le_of_ble_eq_true rfl⟩) (g_recv hE hk hH (ci := 15) (q := (RJ2, TJ2, 3)) rfl (chk_o ek4).choose_spec) rfl rfl hl.1 rfl rfl (lv_room (Nat.le_of_ble_eq_true rfl)) dJ2_add_2_7 hH hS (by omega) (by omega) (fun H locs hH hS => ?_)
    have hkc : kc + c4 + c2_4 ≤ mc := by omega
    have hks : ks + n4 + n2_4 ≤ ms := by omega
    refine g_astore_n (pc := 10) (i := 2) (o := v4) (lv' := [(2, va_rf v4), (0, .ref l0), (1, va_rf l1), (3, .int l3)]) hx hb dJ2_add_2_10 rfl hl (by decide) (by simp [va_rf_cat, cat_i, cat_j, cat_r] <;> rfl) (fun ls hl => ?_)
    exact wJ2_add_2_b11 hk hc l0 l1 v4 l3 S4 _ _ ls _ _ _ _ hkc hks hH hS (lv_sub hl [1, 2, 0, 3] rfl) hf
theorem mJ2_add_2 {l : Launch} {G : gG} {Rp : gM → gM → Nat → Prop} (hk : rOK Rp) {S S2 : gS} {r2 : Unit} {C N : Nat} {l0 : Nat} {l1 : Option Nat} {l2 : Option Nat} {l3 : Int32} (hf : fJ2_add_2 G l0 l1 l2 l3 S = some (r2, S2, C, N)) : gMet l yJ2_add_2 cJ2_add_2 4 (none) 5 147 G Rp [.ref l0, va_rf l1, va_rf l2, .int l3] S none S2 C N := by
  refine g_start (by decide) (by simp [lg_sl, va_rf_cat, cat_i, cat_j, cat_r]) (fun p e s m args below meth c ls hc hl hH => ?_)
  have hl : lv_has ls 4 [(0, .ref l0), (1, va_rf l1), (2, va_rf l2), (3, .int l3)] := by simpa [lv_args, va_rf_cat, cat_i, cat_j, cat_r] using hl
  exact wJ2_add_2_b0 hk hc l0 l1 l2 l3 S _ _ ls 0 0 C N (by omega) (by omega) hH va_S.rf (lv_sub hl [0, 1, 2, 3] rfl) hf
end
section
variable {r : Int32} {Sf : gS}
def fJ2_add (G : gG) (l0 : Nat) (l1 : Option Nat) (S : gS) : gO Int32 :=
  bd (rdI S l0 15 0) fun v1 =>
  bd (wr S l0 15 0 (.int (v1 + (nI 1)))) fun S2 =>
  bd (rdR S2 l0 15 1) fun v3 =>
  bd (rdI S2 l0 15 2) fun v4 =>
  bd (chk S2 l0 15) fun _ =>
  gb (fJ2_add_2 G l0 l1 v3 v4 S2) fun _ S5 =>
  zg (nI 1) S5
theorem wJ2_add_b0 (hk : rOK Rp) (hc : gC p s m args meth c G RJ2 "add" cJ2_add 2 (some .boolean)) (l0 : Nat) (l1 : Option Nat) (S : gS) (H : Heap) (locs : List Loc) (ls : Array Slot) (kc ks C N : Nat) (hkc : kc + C ≤ mc) (hks : ks + N ≤ ms) (hH : hp G Rp S H) (hS : va_S G.2.2.2 s.heap H locs) (hl : lv_has ls 2 [(0, .ref l0), (1, va_rf l1)]) (hf : fJ2_add G l0 l1 S = some (r, Sf, C, N)) : W p l e (gR 6 170 mc ms) s m args below meth c H locs kc ks (gQ below G Rp (some (.int r)) Sf args s mc ms) (F0 m 0 ls []) := by
  obtain ⟨hx, hb, hr, hlk, hml, hown, hts, hE, hA, hnm⟩ := hc
  have hc : gC p s m args meth c G RJ2 "add" cJ2_add 2 (some .boolean) := ⟨hx, hb, hr, hlk, hml, hown, hts, hE, hA, hnm⟩
  unfold fJ2_add at hf
  refine lv_aload_n (pc := 0) hx hb dJ2_add_0 rfl (lv_at hl 0 rfl) ?_
  refine lv_dup (pc := 1) hx hb dJ2_add_1 rfl ?_
  obtain ⟨v1, e1, hf⟩ := bdo hf
  refine g_get (pc := 2) (o := (some l0)) (a := l0) (ci := 15) (k := 0) (v := .int v1) (C := RJ2) (T := TJ2) (N := 3) hx hb hts hown hE hk hH in_J2 rfl (by decide) (hts _ q202) (fun x h9 => u_same (hts _ q199) x h9) rfl (rdI_o e1) dJ2_add_2 ?_
  refine lv_iconst (pc := 5) (v := nI 1) hx hb dJ2_add_5 rfl ?_
  refine lv_iadd (pc := 6) hx hb dJ2_add_6 ?_
  obtain ⟨S2, e2, hf⟩ := bdo hf
  refine g_put (pc := 7) (o := (some l0)) (a := l0) (ci := 15) (k := 0) (v := .int (v1 + (nI 1))) (C := RJ2) (T := TJ2) (N := 3) (ty := .int) hx hb hts hown hE hk hH hS rfl in_J2 tyJ2_ok nmJ2 rfl (by decide) (hts _ q202) (fun x h9 => u_same (hts _ q199) x h9) rfl rfl rfl rfl rfl e2 dJ2_add_7 (fun H locs hH hS => ?_)
  refine lv_aload_n (pc := 10) hx hb dJ2_add_10 rfl (lv_at hl 0 rfl) ?_
  refine g_aload_n (pc := 11) (o := l1) hx hb dJ2_add_11 rfl (lv_at hl 1 rfl) ?_
  refine lv_aload_n (pc := 12) hx hb dJ2_add_12 rfl (lv_at hl 0 rfl) ?_
  obtain ⟨v3, e3, hf⟩ := bdo hf
  refine g_get (pc := 13) (o := (some l0)) (a := l0) (ci := 15) (k := 1) (v := va_rf v3) (C := RJ2) (T := TJ2) (N := 3) hx hb hts hown hE hk hH in_J2 rfl (by decide) (hts _ q191) (fun _ h9 => h9) rfl (rdR_o e3) dJ2_add_13 ?_
  refine lv_aload_n (pc := 16) hx hb dJ2_add_16 rfl (lv_at hl 0 rfl) ?_
  obtain ⟨v4, e4, hf⟩ := bdo hf
  refine g_get (pc := 17) (o := (some l0)) (a := l0) (ci := 15) (k := 2) (v := .int v4) (C := RJ2) (T := TJ2) (N := 3) hx hb hts hown hE hk hH in_J2 rfl (by decide) (hts _ q194) (fun _ h9 => h9) rfl (rdI_o e4) dJ2_add_17 ?_
  obtain ⟨_, ek5, hf⟩ := bdo hf
  obtain ⟨_, S5, c5, n5, c2_5, n2_5, e5, hf, hC5, hN5⟩ := gbo hf
  refine g_callV (pc := 20) (o := (some l0)) (b := l0) (As := [va_rf l1, va_rf v3, .int v4]) (rest := []) (st1 := []) hc (mJ2_add_2 hk (l0 := l0) (l1 := l1) (l2 := v3) (l3 := v4) e5) (cwV 3 hts (lw_V q1043 q1045 qs13 q101 q1046) rfl rfl rfl jhdJ2_add_2 ⟨Nat.le_of_ble_eq_true rfl, Nat.le_of_ble_eq_true rfl⟩) (g_recv hE hk hH (ci := 15) (q := (RJ2, TJ2, 3)) rfl (chk_o ek5).choose_spec) rfl rfl hl.1 rfl rfl (lv_room (Nat.le_of_ble_eq_true rfl)) dJ2_add_20 hH hS (by omega) (by omega) (fun H locs hH hS => ?_)
  have hkc : kc + c5 + c2_5 ≤ mc := by omega
  have hks : ks + n5 + n2_5 ≤ ms := by omega
  refine lv_iconst (pc := 23) (v := nI 1) hx hb dJ2_add_23 rfl ?_
  exact g_zret (pc := 24) hx hb hr hlk hH hS hkc hks hf dJ2_add_24
theorem mJ2_add {l : Launch} {G : gG} {Rp : gM → gM → Nat → Prop} (hk : rOK Rp) {S S2 : gS} {r2 : Int32} {C N : Nat} {l0 : Nat} {l1 : Option Nat} (hf : fJ2_add G l0 l1 S = some (r2, S2, C, N)) : gMet l yJ2_add cJ2_add 2 (some .boolean) 6 170 G Rp [.ref l0, va_rf l1] S (some (.int r2)) S2 C N := by
  refine g_start (by decide) (by simp [lg_sl, va_rf_cat, cat_i, cat_j, cat_r]) (fun p e s m args below meth c ls hc hl hH => ?_)
  have hl : lv_has ls 2 [(0, .ref l0), (1, va_rf l1)] := by simpa [lv_args, va_rf_cat, cat_i, cat_j, cat_r] using hl
  exact wJ2_add_b0 hk hc l0 l1 S _ _ ls 0 0 C N (by omega) (by omega) hH va_S.rf (lv_sub hl [0, 1] rfl) hf
end
section
variable {r : Unit} {Sf : gS}
def fJ2_rangeCheckForAdd (G : gG) (l0 : Nat) (l1 : Int32) (S : gS) : gO Unit :=
  bd (rdI S l0 15 2) fun v1 =>
  if v1 < l1 then
    none
  else
    if 0 ≤ l1 then
      some ((), S, 0, 0)
    else
      none
theorem wJ2_rangeCheckForAdd_b0 (hk : rOK Rp) (hc : gC p s m args meth c G RJ2 "rangeCheckForAdd" cJ2_rangeCheckForAdd 2 (none)) (l0 : Nat) (l1 : Int32) (S : gS) (H : Heap) (locs : List Loc) (ls : Array Slot) (kc ks C N : Nat) (hkc : kc + C ≤ mc) (hks : ks + N ≤ ms) (hH : hp G Rp S H) (hS : va_S G.2.2.2 s.heap H locs) (hl : lv_has ls 2 [(0, .ref l0), (1, .int l1)]) (hf : fJ2_rangeCheckForAdd G l0 l1 S = some (r, Sf, C, N)) : W p l e (gR 1 60 mc ms) s m args below meth c H locs kc ks (gQ below G Rp none Sf args s mc ms) (F0 m 0 ls []) := by
  obtain ⟨hx, hb, hr, hlk, hml, hown, hts, hE, hA, hnm⟩ := hc
  have hc : gC p s m args meth c G RJ2 "rangeCheckForAdd" cJ2_rangeCheckForAdd 2 (none) := ⟨hx, hb, hr, hlk, hml, hown, hts, hE, hA, hnm⟩
  unfold fJ2_rangeCheckForAdd at hf
  refine lv_iload_n (pc := 0) hx hb dJ2_rangeCheckForAdd_0 rfl (lv_at hl 1 rfl) ?_
  refine lv_aload_n (pc := 1) hx hb dJ2_rangeCheckForAdd_1 rfl (lv_at hl 0 rfl) ?_
  obtain ⟨v1, e1, hf⟩ := bdo hf
  refine g_get (pc := 2) (o := (some l0)) (a := l0) (ci := 15) (k := 2) (v := .int v1) (C := RJ2) (T := TJ2) (N := 3) hx hb hts hown hE hk hH in_J2 rfl (by decide) (hts _ q194) (fun _ h9 => h9) rfl (rdI_o e1) dJ2_rangeCheckForAdd_2 ?_
  refine lv_icmp_gt (pc := 5) (tgt := 12) hx hb dJ2_rangeCheckForAdd_5 (by decide) (fun c2 => ?_) (fun c2 => ?_)
  · rw [if_pos c2] at hf
    exact absurd hf (fun h => by cases h)
  · rw [if_neg c2] at hf
    refine lv_iload_n (pc := 8) hx hb dJ2_rangeCheckForAdd_8 rfl (lv_at hl 1 rfl) ?_
    refine lv_if_ge (pc := 9) (tgt := 25) hx hb dJ2_rangeCheckForAdd_9 (by decide) (fun c3 => ?_) (fun c3 => ?_)
    · rw [if_pos c3] at hf
      exact g_vret (pc := 25) hx hb hr hlk hH hS hkc hks hf dJ2_rangeCheckForAdd_25
    · rw [if_neg c3] at hf
      exact absurd hf (fun h => by cases h)
theorem mJ2_rangeCheckForAdd {l : Launch} {G : gG} {Rp : gM → gM → Nat → Prop} (hk : rOK Rp) {S S2 : gS} {r2 : Unit} {C N : Nat} {l0 : Nat} {l1 : Int32} (hf : fJ2_rangeCheckForAdd G l0 l1 S = some (r2, S2, C, N)) : gMet l yJ2_rangeCheckForAdd cJ2_rangeCheckForAdd 2 (none) 1 60 G Rp [.ref l0, .int l1] S none S2 C N := by
  refine g_start (by decide) (Nat.le_of_ble_eq_true rfl) (fun p e s m args below meth c ls hc hl hH => ?_)
  have hl : lv_has ls 2 [(0, .ref l0), (1, .int l1)] := hl
  exact wJ2_rangeCheckForAdd_b0 hk hc l0 l1 S _ _ ls 0 0 C N (by omega) (by omega) hH va_S.rf (lv_sub hl [0, 1] rfl) hf
end
section
variable {r : Unit} {Sf : gS}
def fJ2_add_3_b38 (G : gG) (l0 : Nat) (l1 : Int32) (l2 : Option Nat) (l3 : Int32) (l4 : Option Nat) (S : gS) : gO Unit :=
  bd l4 fun a1 =>
  bd (cpyQ G S a1 l1 a1 (l1 + (nI 1)) (l3 - l1)) fun S2 =>
  bd l2 fun a4 =>
  bd (chkA G S2 a4) fun _ =>
  bd (wrAq S2 a1 5 l1 (some a4)) fun S3 =>
  bd (wr S3 l0 15 2 (.int (l3 + (nI 1)))) fun S6 =>
  some ((), S6, 0, 0)
theorem wJ2_add_3_b38 (hk : rOK Rp) (hc : gC p s m args meth c G RJ2 "add" cJ2_add_3 5 (none)) (l0 : Nat) (l1 : Int32) (l2 : Option Nat) (l3 : Int32) (l4 : Option Nat) (S : gS) (H : Heap) (locs : List Loc) (ls : Array Slot) (kc ks C N : Nat) (hkc : kc + C ≤ mc) (hks : ks + N ≤ ms) (hH : hp G Rp S H) (hS : va_S G.2.2.2 s.heap H locs) (hl : lv_has ls 5 [(0, .ref l0), (1, .int l1), (2, va_rf l2), (3, .int l3), (4, va_rf l4)]) (hf : fJ2_add_3_b38 G l0 l1 l2 l3 l4 S = some (r, Sf, C, N)) : W p l e (gR 5 147 mc ms) s m args below meth c H locs kc ks (gQ below G Rp none Sf args s mc ms) (F0 m 38 ls []) := by
  obtain ⟨hx, hb, hr, hlk, hml, hown, hts, hE, hA, hnm⟩ := hc
  have hc : gC p s m args meth c G RJ2 "add" cJ2_add_3 5 (none) := ⟨hx, hb, hr, hlk, hml, hown, hts, hE, hA, hnm⟩
  unfold fJ2_add_3_b38 at hf
  refine g_aload (pc := 38) (o := l4) hx hb dJ2_add_3_38 (lv_at hl 4 rfl) ?_
  refine lv_iload_n (pc := 40) hx hb dJ2_add_3_40 rfl (lv_at hl 1 rfl) ?_
  refine g_aload (pc := 41) (o := l4) hx hb dJ2_add_3_41 (lv_at hl 4 rfl) ?_
  refine lv_iload_n (pc := 43) hx hb dJ2_add_3_43 rfl (lv_at hl 1 rfl) ?_
  refine lv_iconst (pc := 44) (v := nI 1) hx hb dJ2_add_3_44 rfl ?_
  refine lv_iadd (pc := 45) hx hb dJ2_add_3_45 ?_
  refine lv_iload_n (pc := 46) hx hb dJ2_add_3_46 rfl (lv_at hl 3 rfl) ?_
  refine lv_iload_n (pc := 47) hx hb dJ2_add_3_47 rfl (lv_at hl 1 rfl) ?_
  refine lv_isub (pc := 48) hx hb dJ2_add_3_48 ?_
  obtain ⟨a1, ea1, hf⟩ := bdo hf
  obtain ⟨S2, e2, hf⟩ := bdo hf
  refine g_cpyQ (pc := 49) (o0 := l4) (a0 := a1) (o := l4) (a := a1) hx hb (hml.trans hl.1.symm) hts hown hE hk hH hS q1847 q520 q519 q116 ea1 ea1 e2 (Nat.le_of_ble_eq_true rfl) (by simp [gR, va_rf_cat, cat_i, cat_j, cat_r]) dJ2_add_3_49 (fun H locs hH hS => ?_)
  refine g_aload (pc := 52) (o := l4) hx hb dJ2_add_3_52 (lv_at hl 4 rfl) ?_
  refine lv_iload_n (pc := 54) hx hb dJ2_add_3_54 rfl (lv_at hl 1 rfl) ?_
  refine g_aload_n (pc := 55) (o := l2) hx hb dJ2_add_3_55 rfl (lv_at hl 2 rfl) ?_
  obtain ⟨a4, ea4, hf⟩ := bdo hf
  obtain ⟨_, e5, hf⟩ := bdo hf
  obtain ⟨S3, e3, hf⟩ := bdo hf
  refine g_aastM (pc := 56) (o := l4) (a := a1) (vo := l2) (v := a4) hx hb hE hk hH hS ea1 ea4 (chkA_o e5) e3 dJ2_add_3_56 (fun H locs hH hS => ?_)
  refine lv_aload_n (pc := 57) hx hb dJ2_add_3_57 rfl (lv_at hl 0 rfl) ?_
  refine lv_iload_n (pc := 58) hx hb dJ2_add_3_58 rfl (lv_at hl 3 rfl) ?_
  refine lv_iconst (pc := 59) (v := nI 1) hx hb dJ2_add_3_59 rfl ?_
  refine lv_iadd (pc := 60) hx hb dJ2_add_3_60 ?_
  obtain ⟨S6, e6, hf⟩ := bdo hf
  refine g_put (pc := 61) (o := (some l0)) (a := l0) (ci := 15) (k := 2) (v := .int (l3 + (nI 1))) (C := RJ2) (T := TJ2) (N := 3) (ty := .int) hx hb hts hown hE hk hH hS rfl in_J2 tyJ2_ok nmJ2 rfl (by decide) (hts _ q194) (fun _ h9 => h9) rfl rfl rfl rfl rfl e6 dJ2_add_3_61 (fun H locs hH hS => ?_)
  exact g_vret (pc := 64) hx hb hr hlk hH hS hkc hks hf dJ2_add_3_64
def fJ2_add_3 (G : gG) (l0 : Nat) (l1 : Int32) (l2 : Option Nat) (S : gS) : gO Unit :=
  bd (chk S l0 15) fun _ =>
  gb (fJ2_rangeCheckForAdd G l0 l1 S) fun _ S1 =>
  bd (rdI S1 l0 15 0) fun v2 =>
  bd (wr S1 l0 15 0 (.int (v2 + (nI 1)))) fun S3 =>
  bd (rdI S3 l0 15 2) fun v4 =>
  bd (rdR S3 l0 15 1) fun v5 =>
  bd v5 fun a6 =>
  bd (lenQ G S3 a6) fun v7 =>
  if v4 = v7 then
    bd (chk S3 l0 15) fun _ =>
    gb (fJ2_grow G l0 S3) fun v9 S9 =>
    fJ2_add_3_b38 G l0 l1 l2 v4 v9 S9
  else
    fJ2_add_3_b38 G l0 l1 l2 v4 v5 S3
theorem wJ2_add_3_b0 (hk : rOK Rp) (hc : gC p s m args meth c G RJ2 "add" cJ2_add_3 5 (none)) (l0 : Nat) (l1 : Int32) (l2 : Option Nat) (S : gS) (H : Heap) (locs : List Loc) (ls : Array Slot) (kc ks C N : Nat) (hkc : kc + C ≤ mc) (hks : ks + N ≤ ms) (hH : hp G Rp S H) (hS : va_S G.2.2.2 s.heap H locs) (hl : lv_has ls 5 [(0, .ref l0), (1, .int l1), (2, va_rf l2)]) (hf : fJ2_add_3 G l0 l1 l2 S = some (r, Sf, C, N)) : W p l e (gR 5 147 mc ms) s m args below meth c H locs kc ks (gQ below G Rp none Sf args s mc ms) (F0 m 0 ls []) := by
  obtain ⟨hx, hb, hr, hlk, hml, hown, hts, hE, hA, hnm⟩ := hc
  have hc : gC p s m args meth c G RJ2 "add" cJ2_add_3 5 (none) := ⟨hx, hb, hr, hlk, hml, hown, hts, hE, hA, hnm⟩
  unfold fJ2_add_3 at hf
  refine lv_aload_n (pc := 0) hx hb dJ2_add_3_0 rfl (lv_at hl 0 rfl) ?_
  refine lv_iload_n (pc := 1) hx hb dJ2_add_3_1 rfl (lv_at hl 1 rfl) ?_
  obtain ⟨_, ek1, hf⟩ := bdo hf
  obtain ⟨_, S1, c1, n1, c2_1, n2_1, e1, hf, hC1, hN1⟩ := gbo hf
  refine g_callV (pc := 2) (o := (some l0)) (b := l0) (As := [.int l1]) (rest := []) (st1 := []) hc (mJ2_rangeCheckForAdd hk (l0 := l0) (l1 := l1) e1) (cwV 1 hts (lw_V q1971 q1973 qs33 q101 q1974) rfl rfl rfl jhdJ2_rangeCheckForAdd ⟨Nat.le_of_ble_eq_true rfl, Nat.le_of_ble_eq_true rfl⟩) (g_recv hE hk hH (ci := 15) (q := (RJ2, TJ2, 3)) rfl (chk_o ek1).choose_spec) rfl rfl hl.1 rfl rfl (lv_room (Nat.le_of_ble_eq_true rfl)) dJ2_add_3_2 hH hS (by omega) (by omega) (fun H locs hH hS => ?_)
  have hkc : kc + c1 + c2_1 ≤ mc := by omega
  have hks : ks + n1 + n2_1 ≤ ms := by omega
  refine lv_aload_n (pc := 5) hx hb dJ2_add_3_5 rfl (lv_at hl 0 rfl) ?_
  refine lv_dup (pc := 6) hx hb dJ2_add_3_6 rfl ?_
  obtain ⟨v2, e2, hf⟩ := bdo hf
  refine g_get (pc := 7) (o := (some l0)) (a := l0) (ci := 15) (k := 0) (v := .int v2) (C := RJ2) (T := TJ2) (N := 3) hx hb hts hown hE hk hH in_J2 rfl (by decide) (hts _ q202) (fun x h9 => u_same (hts _ q199) x h9) rfl (rdI_o e2) dJ2_add_3_7 ?_
  refine lv_iconst (pc := 10) (v := nI 1) hx hb dJ2_add_3_10 rfl ?_
  refine lv_iadd (pc := 11) hx hb dJ2_add_3_11 ?_
  obtain ⟨S3, e3, hf⟩ := bdo hf
  refine g_put (pc := 12) (o := (some l0)) (a := l0) (ci := 15) (k := 0) (v := .int (v2 + (nI 1))) (C := RJ2) (T := TJ2) (N := 3) (ty := .int) hx hb hts hown hE hk hH hS rfl in_J2 tyJ2_ok nmJ2 rfl (by decide) (hts _ q202) (fun x h9 => u_same (hts _ q199) x h9) rfl rfl rfl rfl rfl e3 dJ2_add_3_12 (fun H locs hH hS => ?_)
  refine lv_aload_n (pc := 15) hx hb dJ2_add_3_15 rfl (lv_at hl 0 rfl) ?_
  obtain ⟨v4, e4, hf⟩ := bdo hf
  refine g_get (pc := 16) (o := (some l0)) (a := l0) (ci := 15) (k := 2) (v := .int v4) (C := RJ2) (T := TJ2) (N := 3) hx hb hts hown hE hk hH in_J2 rfl (by decide) (hts _ q194) (fun _ h9 => h9) rfl (rdI_o e4) dJ2_add_3_16 ?_
  refine lv_dup (pc := 19) hx hb dJ2_add_3_19 rfl ?_
  refine lv_istore_n (pc := 20) (i := 3) (lv' := [(3, .int v4), (0, .ref l0), (1, .int l1), (2, va_rf l2)]) hx hb dJ2_add_3_20 rfl hl (by decide) (by simp [va_rf_cat, cat_i, cat_j, cat_r] <;> rfl) (fun ls hl => ?_)
  refine lv_aload_n (pc := 21) hx hb dJ2_add_3_21 rfl (lv_at hl 1 rfl) ?_
  obtain ⟨v5, e5, hf⟩ := bdo hf
  refine g_get (pc := 22) (o := (some l0)) (a := l0) (ci := 15) (k := 1) (v := va_rf v5) (C := RJ2) (T := TJ2) (N := 3) hx hb hts hown hE hk hH in_J2 rfl (by decide) (hts _ q191) (fun _ h9 => h9) rfl (rdR_o e5) dJ2_add_3_22 ?_
  refine lv_dup (pc := 25) hx hb dJ2_add_3_25 (va_rf_cat _) ?_
  refine g_astore (pc := 26) (i := 4) (o := v5) (lv' := [(4, va_rf v5), (3, .int v4), (0, .ref l0), (1, .int l1), (2, va_rf l2)]) hx hb dJ2_add_3_26 hl (by decide) rfl (fun ls hl => ?_)
  obtain ⟨a6, ea6, hf⟩ := bdo hf
  obtain ⟨v7, e7, hf⟩ := bdo hf
  refine g_lenQ (pc := 28) (o := v5) (a := a6) hx hb hE hk hH hS ea6 e7 dJ2_add_3_28 ?_
  refine lv_icmp_ne (pc := 29) (tgt := 38) hx hb dJ2_add_3_29 (by decide) (fun c8 => ?_) (fun c8 => ?_)
  · rw [if_neg c8] at hf
    exact wJ2_add_3_b38 hk hc l0 l1 l2 v4 v5 S3 _ _ ls _ _ _ _ hkc hks hH hS (lv_sub hl [2, 3, 4, 1, 0] rfl) hf
  · rw [if_pos c8] at hf
    refine lv_aload_n (pc := 32) hx hb dJ2_add_3_32 rfl (lv_at hl 2 rfl) ?_
    obtain ⟨_, ek9, hf⟩ := bdo hf
    obtain ⟨v9, S9, c9, n9, c2_9, n2_9, e9, hf, hC9, hN9⟩ := gbo hf
    refine g_callV (pc := 33) (o := (some l0)) (b := l0) (As := []) (rest := []) (st1 := [va_rf v9]) hc (mJ2_grow hk (l0 := l0) e9) (cwV 0 hts (lw_V q1047 q1049 qs14 q101 q1050) rfl rfl rfl jhdJ2_grow ⟨Nat.le_of_ble_eq_true rfl, Nat.le_of_ble_eq_true rfl⟩) (g_recv hE hk hH (ci := 15) (q := (RJ2, TJ2, 3)) rfl (chk_o ek9).choose_spec) rfl rfl hl.1 rfl rfl (lv_room (Nat.le_of_ble_eq_true rfl)) dJ2_add_3_33 hH hS (by omega) (by omega) (fun H locs hH hS => ?_)
    have hkc : kc + c1 + c9 + c2_9 ≤ mc := by omega
    have hks : ks + n1 + n9 + n2_9 ≤ ms := by omega
    refine g_astore (pc := 36) (i := 4) (o := v9) (lv' := [(4, va_rf v9), (3, .int v4), (0, .ref l0), (1, .int l1), (2, va_rf l2)]) hx hb dJ2_add_3_36 hl (by decide) rfl (fun ls hl => ?_)
    exact wJ2_add_3_b38 hk hc l0 l1 l2 v4 v9 S9 _ _ ls _ _ _ _ hkc hks hH hS (lv_sub hl [2, 3, 4, 1, 0] rfl) hf
theorem mJ2_add_3 {l : Launch} {G : gG} {Rp : gM → gM → Nat → Prop} (hk : rOK Rp) {S S2 : gS} {r2 : Unit} {C N : Nat} {l0 : Nat} {l1 : Int32} {l2 : Option Nat} (hf : fJ2_add_3 G l0 l1 l2 S = some (r2, S2, C, N)) : gMet l yJ2_add_3 cJ2_add_3 5 (none) 5 147 G Rp [.ref l0, .int l1, va_rf l2] S none S2 C N := by
  refine g_start (by decide) (by simp [lg_sl, va_rf_cat, cat_i, cat_j, cat_r]) (fun p e s m args below meth c ls hc hl hH => ?_)
  have hl : lv_has ls 5 [(0, .ref l0), (1, .int l1), (2, va_rf l2)] := by simpa [lv_args, va_rf_cat, cat_i, cat_j, cat_r] using hl
  exact wJ2_add_3_b0 hk hc l0 l1 l2 S _ _ ls 0 0 C N (by omega) (by omega) hH va_S.rf (lv_sub hl [0, 1, 2] rfl) hf
end
section
variable {r : Option Nat} {Sf : gS}
def fJ2_toArray (G : gG) (l0 : Nat) (S : gS) : gO (Option Nat) :=
  bd (rdR S l0 15 1) fun v1 =>
  bd (rdI S l0 15 2) fun v2 =>
  gb (fJ19_copyOf_2 G v1 v2 S) fun v3 S3 =>
  some (v3, S3, 0, 0)
theorem wJ2_toArray_b0 (hk : rOK Rp) (hc : gC p s m args meth c G RJ2 "toArray" cJ2_toArray 1 (some (.array (.object "java/lang/Object")))) (l0 : Nat) (S : gS) (H : Heap) (locs : List Loc) (ls : Array Slot) (kc ks C N : Nat) (hkc : kc + C ≤ mc) (hks : ks + N ≤ ms) (hH : hp G Rp S H) (hS : va_S G.2.2.2 s.heap H locs) (hl : lv_has ls 1 [(0, .ref l0)]) (hf : fJ2_toArray G l0 S = some (r, Sf, C, N)) : W p l e (gR 3 104 mc ms) s m args below meth c H locs kc ks (gQ below G Rp (some (va_rf r)) Sf args s mc ms) (F0 m 0 ls []) := by
  obtain ⟨hx, hb, hr, hlk, hml, hown, hts, hE, hA, hnm⟩ := hc
  have hc : gC p s m args meth c G RJ2 "toArray" cJ2_toArray 1 (some (.array (.object "java/lang/Object"))) := ⟨hx, hb, hr, hlk, hml, hown, hts, hE, hA, hnm⟩
  unfold fJ2_toArray at hf
  refine lv_aload_n (pc := 0) hx hb dJ2_toArray_0 rfl (lv_at hl 0 rfl) ?_
  obtain ⟨v1, e1, hf⟩ := bdo hf
  refine g_get (pc := 1) (o := (some l0)) (a := l0) (ci := 15) (k := 1) (v := va_rf v1) (C := RJ2) (T := TJ2) (N := 3) hx hb hts hown hE hk hH in_J2 rfl (by decide) (hts _ q191) (fun _ h9 => h9) rfl (rdR_o e1) dJ2_toArray_1 ?_
  refine lv_aload_n (pc := 4) hx hb dJ2_toArray_4 rfl (lv_at hl 0 rfl) ?_
  obtain ⟨v2, e2, hf⟩ := bdo hf
  refine g_get (pc := 5) (o := (some l0)) (a := l0) (ci := 15) (k := 2) (v := .int v2) (C := RJ2) (T := TJ2) (N := 3) hx hb hts hown hE hk hH in_J2 rfl (by decide) (hts _ q194) (fun _ h9 => h9) rfl (rdI_o e2) dJ2_toArray_5 ?_
  obtain ⟨v3, S3, c3, n3, c2_3, n2_3, e3, hf, hC3, hN3⟩ := gbo hf
  refine g_callS (pc := 8) (As := [va_rf v1, .int v2]) (rest := []) (st1 := [va_rf v3]) hc (mJ19_copyOf_2 hk (l0 := v1) (l1 := v2) e3) (va_cwS 2 hts (lw_S q1056 q1057 q122 q1058) rfl rfl rfl jhdJ19_copyOf_2 ⟨Nat.le_of_ble_eq_true rfl, Nat.le_of_ble_eq_true rfl⟩) rfl hl.1 rfl rfl (lv_room (Nat.le_of_ble_eq_true rfl)) dJ2_toArray_8 hH hS (by omega) (by omega) (fun H locs hH hS => ?_)
  have hkc : kc + c3 + c2_3 ≤ mc := by omega
  have hks : ks + n3 + n2_3 ≤ ms := by omega
  exact g_aret (pc := 11) (v := v3) hx hb hr (Or.inr ⟨_, rfl⟩) hlk hH hS hkc hks hf dJ2_toArray_11
theorem mJ2_toArray {l : Launch} {G : gG} {Rp : gM → gM → Nat → Prop} (hk : rOK Rp) {S S2 : gS} {r2 : Option Nat} {C N : Nat} {l0 : Nat} (hf : fJ2_toArray G l0 S = some (r2, S2, C, N)) : gMet l yJ2_toArray cJ2_toArray 1 (some (.array (.object "java/lang/Object"))) 3 104 G Rp [.ref l0] S (some (va_rf r2)) S2 C N := by
  refine g_start (by decide) (Nat.le_of_ble_eq_true rfl) (fun p e s m args below meth c ls hc hl hH => ?_)
  have hl : lv_has ls 1 [(0, .ref l0)] := hl
  exact wJ2_toArray_b0 hk hc l0 S _ _ ls 0 0 C N (by omega) (by omega) hH va_S.rf (lv_sub hl [0] rfl) hf
end
section
variable {r : Int32} {Sf : gS}
def fJ2_addAll_b56 (G : gG) (l0 : Nat) (l2 : Option Nat) (l3 : Int32) (l4 : Option Nat) (l5 : Int32) (S : gS) : gO Int32 :=
  bd l2 fun a1 =>
  bd l4 fun a2 =>
  bd (cpyQ G S a1 (nI 0) a2 l5 l3) fun S3 =>
  bd (wr S3 l0 15 2 (.int (l5 + l3))) fun S4 =>
  zg (nI 1) S4
theorem wJ2_addAll_b56 (hk : rOK Rp) (hc : gC p s m args meth c G RJ2 "addAll" cJ2_addAll 6 (some .boolean)) (l0 : Nat) (l2 : Option Nat) (l3 : Int32) (l4 : Option Nat) (l5 : Int32) (S : gS) (H : Heap) (locs : List Loc) (ls : Array Slot) (kc ks C N : Nat) (hkc : kc + C ≤ mc) (hks : ks + N ≤ ms) (hH : hp G Rp S H) (hS : va_S G.2.2.2 s.heap H locs) (hl : lv_has ls 6 [(0, .ref l0), (2, va_rf l2), (3, .int l3), (4, va_rf l4), (5, .int l5)]) (hf : fJ2_addAll_b56 G l0 l2 l3 l4 l5 S = some (r, Sf, C, N)) : W p l e (gR 4 127 mc ms) s m args below meth c H locs kc ks (gQ below G Rp (some (.int r)) Sf args s mc ms) (F0 m 56 ls []) := by
  obtain ⟨hx, hb, hr, hlk, hml, hown, hts, hE, hA, hnm⟩ := hc
  have hc : gC p s m args meth c G RJ2 "addAll" cJ2_addAll 6 (some .boolean) := ⟨hx, hb, hr, hlk, hml, hown, hts, hE, hA, hnm⟩
  unfold fJ2_addAll_b56 at hf
  refine g_aload_n (pc := 56) (o := l2) hx hb dJ2_addAll_56 rfl (lv_at hl 1 rfl) ?_
  refine lv_iconst (pc := 57) (v := nI 0) hx hb dJ2_addAll_57 rfl ?_
  refine g_aload (pc := 58) (o := l4) hx hb dJ2_addAll_58 (lv_at hl 3 rfl) ?_
  refine lv_iload (pc := 60) hx hb dJ2_addAll_60 (lv_at hl 4 rfl) ?_
  refine lv_iload_n (pc := 62) hx hb dJ2_addAll_62 rfl (lv_at hl 2 rfl) ?_
  obtain ⟨a1, ea1, hf⟩ := bdo hf
  obtain ⟨a2, ea2, hf⟩ := bdo hf
  obtain ⟨S3, e3, hf⟩ := bdo hf
  refine g_cpyQ (pc := 63) (o0 := l2) (a0 := a1) (o := l4) (a := a2) hx hb (hml.trans hl.1.symm) hts hown hE hk hH hS q1847 q520 q519 q116 ea1 ea2 e3 (Nat.le_of_ble_eq_true rfl) (by simp [gR, va_rf_cat, cat_i, cat_j, cat_r]) dJ2_addAll_63 (fun H locs hH hS => ?_)
  refine lv_aload_n (pc := 66) hx hb dJ2_addAll_66 rfl (lv_at hl 0 rfl) ?_
  refine lv_iload (pc := 67) hx hb dJ2_addAll_67 (lv_at hl 4 rfl) ?_
  refine lv_iload_n (pc := 69) hx hb dJ2_addAll_69 rfl (lv_at hl 2 rfl) ?_
  refine lv_iadd (pc := 70) hx hb dJ2_addAll_70 ?_
  obtain ⟨S4, e4, hf⟩ := bdo hf
  refine g_put (pc := 71) (o := (some l0)) (a := l0) (ci := 15) (k := 2) (v := .int (l5 + l3)) (C := RJ2) (T := TJ2) (N := 3) (ty := .int) hx hb hts hown hE hk hH hS rfl in_J2 tyJ2_ok nmJ2 rfl (by decide) (hts _ q194) (fun _ h9 => h9) rfl rfl rfl rfl rfl e4 dJ2_addAll_71 (fun H locs hH hS => ?_)
  refine lv_iconst (pc := 74) (v := nI 1) hx hb dJ2_addAll_74 rfl ?_
  exact g_zret (pc := 75) hx hb hr hlk hH hS hkc hks hf dJ2_addAll_75
def fJ2_addAll (G : gG) (l0 : Nat) (l1 : Option Nat) (S : gS) : gO Int32 :=
  bd l1 fun a2 =>
  bd (chk S a2 15) fun _ =>
  gb (fJ2_toArray G a2 S) fun v1 S1 =>
  bd (rdI S1 l0 15 0) fun v3 =>
  bd (wr S1 l0 15 0 (.int (v3 + (nI 1)))) fun S4 =>
  bd v1 fun a5 =>
  bd (lenQ G S4 a5) fun v6 =>
  if v6 = 0 then
    zg (nI 0) S4
  else
    bd (rdR S4 l0 15 1) fun v8 =>
    bd v8 fun a9 =>
    bd (lenQ G S4 a9) fun v10 =>
    bd (rdI S4 l0 15 2) fun v11 =>
    if v6 ≤ (v10 - v11) then
      fJ2_addAll_b56 G l0 v1 v6 v8 v11 S4
    else
      bd (chk S4 l0 15) fun _ =>
      gb (fJ2_grow_2 G l0 (v11 + v6) S4) fun v13 S13 =>
      fJ2_addAll_b56 G l0 v1 v6 v13 v11 S13
theorem wJ2_addAll_b0 (hk : rOK Rp) (hc : gC p s m args meth c G RJ2 "addAll" cJ2_addAll 6 (some .boolean)) (l0 : Nat) (l1 : Option Nat) (S : gS) (H : Heap) (locs : List Loc) (ls : Array Slot) (kc ks C N : Nat) (hkc : kc + C ≤ mc) (hks : ks + N ≤ ms) (hH : hp G Rp S H) (hS : va_S G.2.2.2 s.heap H locs) (hl : lv_has ls 6 [(0, .ref l0), (1, va_rf l1)]) (hf : fJ2_addAll G l0 l1 S = some (r, Sf, C, N)) : W p l e (gR 4 127 mc ms) s m args below meth c H locs kc ks (gQ below G Rp (some (.int r)) Sf args s mc ms) (F0 m 0 ls []) := by
  obtain ⟨hx, hb, hr, hlk, hml, hown, hts, hE, hA, hnm⟩ := hc
  have hc : gC p s m args meth c G RJ2 "addAll" cJ2_addAll 6 (some .boolean) := ⟨hx, hb, hr, hlk, hml, hown, hts, hE, hA, hnm⟩
  unfold fJ2_addAll at hf
  refine g_aload_n (pc := 0) (o := l1) hx hb dJ2_addAll_0 rfl (lv_at hl 1 rfl) ?_
  obtain ⟨a2, ea2, hf⟩ := bdo hf
  obtain ⟨_, ek1, hf⟩ := bdo hf
  obtain ⟨v1, S1, c1, n1, c2_1, n2_1, e1, hf, hC1, hN1⟩ := gbo hf
  refine g_callF (pc := 1) (o := l1) (b := a2) (As := []) (rest := []) (st1 := [va_rf v1]) (ci := 15) (q := (RJ2, TJ2, 3)) hc (mJ2_toArray hk (l0 := a2) e1) (va_cwF 0 hts (lw_app (lw_of4 q2704 q2722 q2724 q101) (lw_meth q2726)) rfl rfl rfl (hE.2.1.2.2.2.2.2 _ _ _ jhdx_toArray.1 q2706 q2705 q2725 q2723 q2721) jhdx_toArray.2 ⟨Nat.le_of_ble_eq_true rfl, Nat.le_of_ble_eq_true rfl⟩) rfl rfl (g_recv hE hk hH (ci := 15) (q := (RJ2, TJ2, 3)) rfl (chk_o ek1).choose_spec) ea2 rfl hl.1 rfl rfl (lv_room (Nat.le_of_ble_eq_true rfl)) dJ2_addAll_1 hH hS (by omega) (by omega) (fun H locs hH hS => ?_)
  have hkc : kc + c1 + c2_1 ≤ mc := by omega
  have hks : ks + n1 + n2_1 ≤ ms := by omega
  refine g_astore_n (pc := 6) (i := 2) (o := v1) (lv' := [(2, va_rf v1), (0, .ref l0), (1, va_rf l1)]) hx hb dJ2_addAll_6 rfl hl (by decide) (by simp [va_rf_cat, cat_i, cat_j, cat_r] <;> rfl) (fun ls hl => ?_)
  refine lv_aload_n (pc := 7) hx hb dJ2_addAll_7 rfl (lv_at hl 1 rfl) ?_
  refine lv_dup (pc := 8) hx hb dJ2_addAll_8 rfl ?_
  obtain ⟨v3, e3, hf⟩ := bdo hf
  refine g_get (pc := 9) (o := (some l0)) (a := l0) (ci := 15) (k := 0) (v := .int v3) (C := RJ2) (T := TJ2) (N := 3) hx hb hts hown hE hk hH in_J2 rfl (by decide) (hts _ q202) (fun x h9 => u_same (hts _ q199) x h9) rfl (rdI_o e3) dJ2_addAll_9 ?_
  refine lv_iconst (pc := 12) (v := nI 1) hx hb dJ2_addAll_12 rfl ?_
  refine lv_iadd (pc := 13) hx hb dJ2_addAll_13 ?_
  obtain ⟨S4, e4, hf⟩ := bdo hf
  refine g_put (pc := 14) (o := (some l0)) (a := l0) (ci := 15) (k := 0) (v := .int (v3 + (nI 1))) (C := RJ2) (T := TJ2) (N := 3) (ty := .int) hx hb hts hown hE hk hH hS rfl in_J2 tyJ2_ok nmJ2 rfl (by decide) (hts _ q202) (fun x h9 => u_same (hts _ q199) x h9) rfl rfl rfl rfl rfl e4 dJ2_addAll_14 (fun H locs hH hS => ?_)
  refine g_aload_n (pc := 17) (o := v1) hx hb dJ2_addAll_17 rfl (lv_at hl 0 rfl) ?_
  obtain ⟨a5, ea5, hf⟩ := bdo hf
  obtain ⟨v6, e6, hf⟩ := bdo hf
  refine g_lenQ (pc := 18) (o := v1) (a := a5) hx hb hE hk hH hS ea5 e6 dJ2_addAll_18 ?_
  refine lv_istore_n (pc := 19) (i := 3) (lv' := [(3, .int v6), (2, va_rf v1), (0, .ref l0), (1, va_rf l1)]) hx hb dJ2_addAll_19 rfl hl (by decide) (by simp [va_rf_cat, cat_i, cat_j, cat_r] <;> rfl) (fun ls hl => ?_)
  refine lv_iload_n (pc := 20) hx hb dJ2_addAll_20 rfl (lv_at hl 0 rfl) ?_
  refine lv_if_ne (pc := 21) (tgt := 26) hx hb dJ2_addAll_21 (by decide) (fun c7 => ?_) (fun c7 => ?_)
  · rw [if_neg c7] at hf
    refine lv_iload_n (pc := 26) hx hb dJ2_addAll_26 rfl (lv_at hl 0 rfl) ?_
    refine lv_aload_n (pc := 27) hx hb dJ2_addAll_27 rfl (lv_at hl 2 rfl) ?_
    obtain ⟨v8, e8, hf⟩ := bdo hf
    refine g_get (pc := 28) (o := (some l0)) (a := l0) (ci := 15) (k := 1) (v := va_rf v8) (C := RJ2) (T := TJ2) (N := 3) hx hb hts hown hE hk hH in_J2 rfl (by decide) (hts _ q191) (fun _ h9 => h9) rfl (rdR_o e8) dJ2_addAll_28 ?_
    refine lv_dup (pc := 31) hx hb dJ2_addAll_31 (va_rf_cat _) ?_
    refine g_astore (pc := 32) (i := 4) (o := v8) (lv' := [(4, va_rf v8), (3, .int v6), (2, va_rf v1), (0, .ref l0), (1, va_rf l1)]) hx hb dJ2_addAll_32 hl (by decide) rfl (fun ls hl => ?_)
    obtain ⟨a9, ea9, hf⟩ := bdo hf
    obtain ⟨v10, e10, hf⟩ := bdo hf
    refine g_lenQ (pc := 34) (o := v8) (a := a9) hx hb hE hk hH hS ea9 e10 dJ2_addAll_34 ?_
    refine lv_aload_n (pc := 35) hx hb dJ2_addAll_35 rfl (lv_at hl 3 rfl) ?_
    obtain ⟨v11, e11, hf⟩ := bdo hf
    refine g_get (pc := 36) (o := (some l0)) (a := l0) (ci := 15) (k := 2) (v := .int v11) (C := RJ2) (T := TJ2) (N := 3) hx hb hts hown hE hk hH in_J2 rfl (by decide) (hts _ q194) (fun _ h9 => h9) rfl (rdI_o e11) dJ2_addAll_36 ?_
    refine lv_dup (pc := 39) hx hb dJ2_addAll_39 rfl ?_
    refine lv_istore (pc := 40) (i := 5) (lv' := [(5, .int v11), (4, va_rf v8), (3, .int v6), (2, va_rf v1), (0, .ref l0), (1, va_rf l1)]) hx hb dJ2_addAll_40 hl (by decide) (by simp [va_rf_cat, cat_i, cat_j, cat_r] <;> rfl) (fun ls hl => ?_)
    refine lv_isub (pc := 42) hx hb dJ2_addAll_42 ?_
    refine lv_icmp_le (pc := 43) (tgt := 56) hx hb dJ2_addAll_43 (by decide) (fun c12 => ?_) (fun c12 => ?_)
    · rw [if_pos c12] at hf
      exact wJ2_addAll_b56 hk hc l0 v1 v6 v8 v11 S4 _ _ ls _ _ _ _ hkc hks hH hS (lv_sub hl [4, 3, 2, 1, 0] rfl) hf
    · rw [if_neg c12] at hf
      refine lv_aload_n (pc := 46) hx hb dJ2_addAll_46 rfl (lv_at hl 4 rfl) ?_
      refine lv_iload (pc := 47) hx hb dJ2_addAll_47 (lv_at hl 0 rfl) ?_
      refine lv_iload_n (pc := 49) hx hb dJ2_addAll_49 rfl (lv_at hl 2 rfl) ?_
      refine lv_iadd (pc := 50) hx hb dJ2_addAll_50 ?_
      obtain ⟨_, ek13, hf⟩ := bdo hf
      obtain ⟨v13, S13, c13, n13, c2_13, n2_13, e13, hf, hC13, hN13⟩ := gbo hf
      refine g_callV (pc := 51) (o := (some l0)) (b := l0) (As := [.int (v11 + v6)]) (rest := []) (st1 := [va_rf v13]) hc (mJ2_grow_2 hk (l0 := l0) (l1 := (v11 + v6)) e13) (cwV 1 hts (lw_V q1051 q1053 qs15 q101 q1054) rfl rfl rfl jhdJ2_grow_2 ⟨Nat.le_of_ble_eq_true rfl, Nat.le_of_ble_eq_true rfl⟩) (g_recv hE hk hH (ci := 15) (q := (RJ2, TJ2, 3)) rfl (chk_o ek13).choose_spec) rfl rfl hl.1 rfl rfl (lv_room (Nat.le_of_ble_eq_true rfl)) dJ2_addAll_51 hH hS (by omega) (by omega) (fun H locs hH hS => ?_)
      have hkc : kc + c1 + c13 + c2_13 ≤ mc := by omega
      have hks : ks + n1 + n13 + n2_13 ≤ ms := by omega
      refine g_astore (pc := 54) (i := 4) (o := v13) (lv' := [(4, va_rf v13), (5, .int v11), (3, .int v6), (2, va_rf v1), (0, .ref l0), (1, va_rf l1)]) hx hb dJ2_addAll_54 hl (by decide) rfl (fun ls hl => ?_)
      exact wJ2_addAll_b56 hk hc l0 v1 v6 v13 v11 S13 _ _ ls _ _ _ _ hkc hks hH hS (lv_sub hl [4, 3, 2, 0, 1] rfl) hf
  · rw [if_pos c7] at hf
    refine lv_iconst (pc := 24) (v := nI 0) hx hb dJ2_addAll_24 rfl ?_
    exact g_zret (pc := 25) hx hb hr hlk hH hS hkc hks hf dJ2_addAll_25
theorem mJ2_addAll {l : Launch} {G : gG} {Rp : gM → gM → Nat → Prop} (hk : rOK Rp) {S S2 : gS} {r2 : Int32} {C N : Nat} {l0 : Nat} {l1 : Option Nat} (hf : fJ2_addAll G l0 l1 S = some (r2, S2, C, N)) : gMet l yJ2_addAll cJ2_addAll 6 (some .boolean) 4 127 G Rp [.ref l0, va_rf l1] S (some (.int r2)) S2 C N := by
  refine g_start (by decide) (by simp [lg_sl, va_rf_cat, cat_i, cat_j, cat_r]) (fun p e s m args below meth c ls hc hl hH => ?_)
  have hl : lv_has ls 6 [(0, .ref l0), (1, va_rf l1)] := by simpa [lv_args, va_rf_cat, cat_i, cat_j, cat_r] using hl
  exact wJ2_addAll_b0 hk hc l0 l1 S _ _ ls 0 0 C N (by omega) (by omega) hH va_S.rf (lv_sub hl [0, 1] rfl) hf
end
section
variable {r : Unit} {Sf : gS}
def fJ2_clear_b27 (G : gG) : Nat → (Option Nat) → Int32 → Int32 → gS → gO Unit
  | 0, _, _, _, _ => none
  | n + 1, l1, l2, l3, S =>
    if l2 ≤ l3 then
      some ((), S, 0, 0)
    else
      bd l1 fun a2 =>
      bd (wrAq S a2 5 l3 none) fun S3 =>
      fJ2_clear_b27 G n l1 l2 (l3 + (nI 1)) S3
theorem wJ2_clear_b27 (hk : rOK Rp) (hc : gC p s m args meth c G RJ2 "clear" cJ2_clear 4 (none)) : ∀ (n : Nat) (l1 : Option Nat) (l2 : Int32) (l3 : Int32) (S : gS) (H : Heap) (locs : List Loc) (ls : Array Slot) (kc ks C N : Nat), kc + C ≤ mc → ks + N ≤ ms → hp G Rp S H → va_S G.2.2.2 s.heap H locs → lv_has ls 4 [(1, va_rf l1), (2, .int l2), (3, .int l3)] → fJ2_clear_b27 G n l1 l2 l3 S = some (r, Sf, C, N) → W p l e (gR 1 60 mc ms) s m args below meth c H locs kc ks (gQ below G Rp none Sf args s mc ms) (F0 m 27 ls []) := by
  obtain ⟨hx, hb, hr, hlk, hml, hown, hts, hE, hA, hnm⟩ := hc
  have hc : gC p s m args meth c G RJ2 "clear" cJ2_clear 4 (none) := ⟨hx, hb, hr, hlk, hml, hown, hts, hE, hA, hnm⟩
  intro n
  induction n with
  | zero => intro l1 l2 l3 S H locs ls kc ks C N _ _ _ _ _ hf; exact absurd hf (fun h => by cases h)
  | succ n ih =>
    intro l1 l2 l3 S H locs ls kc ks C N hkc hks hH hS hl hf
    rw [fJ2_clear_b27] at hf
    refine lv_iload_n (pc := 27) hx hb dJ2_clear_27 rfl (lv_at hl 2 rfl) ?_
    refine lv_iload_n (pc := 28) hx hb dJ2_clear_28 rfl (lv_at hl 1 rfl) ?_
    refine lv_icmp_ge (pc := 29) (tgt := 42) hx hb dJ2_clear_29 (by decide) (fun c1 => ?_) (fun c1 => ?_)
    · rw [if_pos c1] at hf
      exact g_vret (pc := 42) hx hb hr hlk hH hS hkc hks hf dJ2_clear_42
    · rw [if_neg c1] at hf
      refine g_aload_n (pc := 32) (o := l1) hx hb dJ2_clear_32 rfl (lv_at hl 0 rfl) ?_
      refine lv_iload_n (pc := 33) hx hb dJ2_clear_33 rfl (lv_at hl 2 rfl) ?_
      refine lv_null (pc := 34) hx hb dJ2_clear_34 ?_
      obtain ⟨a2, ea2, hf⟩ := bdo hf
      obtain ⟨S3, e3, hf⟩ := bdo hf
      refine g_aastN (pc := 35) (o := l1) (a := a2) hx hb hE hk hH hS ea2 e3 dJ2_clear_35 (fun H locs hH hS => ?_)
      refine lv_iinc (pc := 36) (v := l3 + (nI 1)) (lv' := [(3, .int (l3 + (nI 1))), (1, va_rf l1), (2, .int l2)]) hx hb dJ2_clear_36 hl (k := 2) rfl rfl (by decide) rfl (fun ls hl => ?_)
      refine lv_goto (pc := 39) (tgt := 27) hx hb dJ2_clear_39 (by decide) ?_
      exact ih l1 l2 (l3 + (nI 1)) S3 _ _ ls _ _ _ _ hkc hks hH hS (lv_sub hl [1, 2, 0] rfl) hf
def fJ2_clear (G : gG) (l0 : Nat) (S : gS) : gO Unit :=
  bd (rdI S l0 15 0) fun v1 =>
  bd (wr S l0 15 0 (.int (v1 + (nI 1)))) fun S2 =>
  bd (rdR S2 l0 15 1) fun v3 =>
  bd (rdI S2 l0 15 2) fun v4 =>
  bd (wr S2 l0 15 2 (.int (nI 0))) fun S5 =>
  fJ2_clear_b27 G FU v3 v4 (nI 0) S5
theorem wJ2_clear_b0 (hk : rOK Rp) (hc : gC p s m args meth c G RJ2 "clear" cJ2_clear 4 (none)) (l0 : Nat) (S : gS) (H : Heap) (locs : List Loc) (ls : Array Slot) (kc ks C N : Nat) (hkc : kc + C ≤ mc) (hks : ks + N ≤ ms) (hH : hp G Rp S H) (hS : va_S G.2.2.2 s.heap H locs) (hl : lv_has ls 4 [(0, .ref l0)]) (hf : fJ2_clear G l0 S = some (r, Sf, C, N)) : W p l e (gR 1 60 mc ms) s m args below meth c H locs kc ks (gQ below G Rp none Sf args s mc ms) (F0 m 0 ls []) := by
  obtain ⟨hx, hb, hr, hlk, hml, hown, hts, hE, hA, hnm⟩ := hc
  have hc : gC p s m args meth c G RJ2 "clear" cJ2_clear 4 (none) := ⟨hx, hb, hr, hlk, hml, hown, hts, hE, hA, hnm⟩
  unfold fJ2_clear at hf
  refine lv_aload_n (pc := 0) hx hb dJ2_clear_0 rfl (lv_at hl 0 rfl) ?_
  refine lv_dup (pc := 1) hx hb dJ2_clear_1 rfl ?_
  obtain ⟨v1, e1, hf⟩ := bdo hf
  refine g_get (pc := 2) (o := (some l0)) (a := l0) (ci := 15) (k := 0) (v := .int v1) (C := RJ2) (T := TJ2) (N := 3) hx hb hts hown hE hk hH in_J2 rfl (by decide) (hts _ q202) (fun x h9 => u_same (hts _ q199) x h9) rfl (rdI_o e1) dJ2_clear_2 ?_
  refine lv_iconst (pc := 5) (v := nI 1) hx hb dJ2_clear_5 rfl ?_
  refine lv_iadd (pc := 6) hx hb dJ2_clear_6 ?_
  obtain ⟨S2, e2, hf⟩ := bdo hf
  refine g_put (pc := 7) (o := (some l0)) (a := l0) (ci := 15) (k := 0) (v := .int (v1 + (nI 1))) (C := RJ2) (T := TJ2) (N := 3) (ty := .int) hx hb hts hown hE hk hH hS rfl in_J2 tyJ2_ok nmJ2 rfl (by decide) (hts _ q202) (fun x h9 => u_same (hts _ q199) x h9) rfl rfl rfl rfl rfl e2 dJ2_clear_7 (fun H locs hH hS => ?_)
  refine lv_aload_n (pc := 10) hx hb dJ2_clear_10 rfl (lv_at hl 0 rfl) ?_
  obtain ⟨v3, e3, hf⟩ := bdo hf
  refine g_get (pc := 11) (o := (some l0)) (a := l0) (ci := 15) (k := 1) (v := va_rf v3) (C := RJ2) (T := TJ2) (N := 3) hx hb hts hown hE hk hH in_J2 rfl (by decide) (hts _ q191) (fun _ h9 => h9) rfl (rdR_o e3) dJ2_clear_11 ?_
  refine g_astore_n (pc := 14) (i := 1) (o := v3) (lv' := [(1, va_rf v3), (0, .ref l0)]) hx hb dJ2_clear_14 rfl hl (by decide) rfl (fun ls hl => ?_)
  refine lv_aload_n (pc := 15) hx hb dJ2_clear_15 rfl (lv_at hl 1 rfl) ?_
  obtain ⟨v4, e4, hf⟩ := bdo hf
  refine g_get (pc := 16) (o := (some l0)) (a := l0) (ci := 15) (k := 2) (v := .int v4) (C := RJ2) (T := TJ2) (N := 3) hx hb hts hown hE hk hH in_J2 rfl (by decide) (hts _ q194) (fun _ h9 => h9) rfl (rdI_o e4) dJ2_clear_16 ?_
  refine lv_istore_n (pc := 19) (i := 2) (lv' := [(2, .int v4), (1, va_rf v3), (0, .ref l0)]) hx hb dJ2_clear_19 rfl hl (by decide) (by simp [va_rf_cat, cat_i, cat_j, cat_r] <;> rfl) (fun ls hl => ?_)
  refine lv_aload_n (pc := 20) hx hb dJ2_clear_20 rfl (lv_at hl 2 rfl) ?_
  refine lv_iconst (pc := 21) (v := nI 0) hx hb dJ2_clear_21 rfl ?_
  refine lv_dup_x1 (pc := 22) hx hb dJ2_clear_22 rfl rfl ?_
  obtain ⟨S5, e5, hf⟩ := bdo hf
  refine g_put (pc := 23) (o := (some l0)) (a := l0) (ci := 15) (k := 2) (v := .int (nI 0)) (C := RJ2) (T := TJ2) (N := 3) (ty := .int) hx hb hts hown hE hk hH hS rfl in_J2 tyJ2_ok nmJ2 rfl (by decide) (hts _ q194) (fun _ h9 => h9) rfl rfl rfl rfl rfl e5 dJ2_clear_23 (fun H locs hH hS => ?_)
  refine lv_istore_n (pc := 26) (i := 3) (lv' := [(3, .int (nI 0)), (2, .int v4), (1, va_rf v3), (0, .ref l0)]) hx hb dJ2_clear_26 rfl hl (by decide) rfl (fun ls hl => ?_)
  exact wJ2_clear_b27 hk hc FU v3 v4 (nI 0) S5 _ _ ls _ _ _ _ hkc hks hH hS (lv_sub hl [2, 1, 0] rfl) hf
theorem mJ2_clear {l : Launch} {G : gG} {Rp : gM → gM → Nat → Prop} (hk : rOK Rp) {S S2 : gS} {r2 : Unit} {C N : Nat} {l0 : Nat} (hf : fJ2_clear G l0 S = some (r2, S2, C, N)) : gMet l yJ2_clear cJ2_clear 4 (none) 1 60 G Rp [.ref l0] S none S2 C N := by
  refine g_start (by decide) (Nat.le_of_ble_eq_true rfl) (fun p e s m args below meth c ls hc hl hH => ?_)
  have hl : lv_has ls 4 [(0, .ref l0)] := hl
  exact wJ2_clear_b0 hk hc l0 S _ _ ls 0 0 C N (by omega) (by omega) hH va_S.rf (lv_sub hl [0] rfl) hf
end
section
variable {r : Unit} {Sf : gS}
def fJ2_fastRemove_b34 (G : gG) (l0 : Nat) (l1 : Option Nat) (l3 : Int32) (S : gS) : gO Unit :=
  bd (wr S l0 15 2 (.int l3)) fun S1 =>
  bd l1 fun a2 =>
  bd (wrAq S1 a2 5 l3 none) fun S3 =>
  some ((), S3, 0, 0)
theorem wJ2_fastRemove_b34 (hk : rOK Rp) (hc : gC p s m args meth c G RJ2 "fastRemove" cJ2_fastRemove 4 (none)) (l0 : Nat) (l1 : Option Nat) (l3 : Int32) (S : gS) (H : Heap) (locs : List Loc) (ls : Array Slot) (kc ks C N : Nat) (hkc : kc + C ≤ mc) (hks : ks + N ≤ ms) (hH : hp G Rp S H) (hS : va_S G.2.2.2 s.heap H locs) (hl : lv_has ls 4 [(0, .ref l0), (1, va_rf l1), (3, .int l3)]) (hf : fJ2_fastRemove_b34 G l0 l1 l3 S = some (r, Sf, C, N)) : W p l e (gR 1 60 mc ms) s m args below meth c H locs kc ks (gQ below G Rp none Sf args s mc ms) (F0 m 34 ls []) := by
  obtain ⟨hx, hb, hr, hlk, hml, hown, hts, hE, hA, hnm⟩ := hc
  have hc : gC p s m args meth c G RJ2 "fastRemove" cJ2_fastRemove 4 (none) := ⟨hx, hb, hr, hlk, hml, hown, hts, hE, hA, hnm⟩
  unfold fJ2_fastRemove_b34 at hf
  refine g_aload_n (pc := 34) (o := l1) hx hb dJ2_fastRemove_34 rfl (lv_at hl 1 rfl) ?_
  refine lv_aload_n (pc := 35) hx hb dJ2_fastRemove_35 rfl (lv_at hl 0 rfl) ?_
  refine lv_iload_n (pc := 36) hx hb dJ2_fastRemove_36 rfl (lv_at hl 2 rfl) ?_
  refine lv_dup_x1 (pc := 37) hx hb dJ2_fastRemove_37 rfl rfl ?_
  obtain ⟨S1, e1, hf⟩ := bdo hf
  refine g_put (pc := 38) (o := (some l0)) (a := l0) (ci := 15) (k := 2) (v := .int l3) (C := RJ2) (T := TJ2) (N := 3) (ty := .int) hx hb hts hown hE hk hH hS rfl in_J2 tyJ2_ok nmJ2 rfl (by decide) (hts _ q194) (fun _ h9 => h9) rfl rfl rfl rfl rfl e1 dJ2_fastRemove_38 (fun H locs hH hS => ?_)
  refine lv_null (pc := 41) hx hb dJ2_fastRemove_41 ?_
  obtain ⟨a2, ea2, hf⟩ := bdo hf
  obtain ⟨S3, e3, hf⟩ := bdo hf
  refine g_aastN (pc := 42) (o := l1) (a := a2) hx hb hE hk hH hS ea2 e3 dJ2_fastRemove_42 (fun H locs hH hS => ?_)
  exact g_vret (pc := 43) hx hb hr hlk hH hS hkc hks hf dJ2_fastRemove_43
def fJ2_fastRemove (G : gG) (l0 : Nat) (l1 : Option Nat) (l2 : Int32) (S : gS) : gO Unit :=
  bd (rdI S l0 15 0) fun v1 =>
  bd (wr S l0 15 0 (.int (v1 + (nI 1)))) fun S2 =>
  bd (rdI S2 l0 15 2) fun v3 =>
  if (v3 - (nI 1)) ≤ l2 then
    fJ2_fastRemove_b34 G l0 l1 (v3 - (nI 1)) S2
  else
    bd l1 fun a5 =>
    bd (cpyQ G S2 a5 (l2 + (nI 1)) a5 l2 ((v3 - (nI 1)) - l2)) fun S6 =>
    fJ2_fastRemove_b34 G l0 l1 (v3 - (nI 1)) S6
theorem wJ2_fastRemove_b0 (hk : rOK Rp) (hc : gC p s m args meth c G RJ2 "fastRemove" cJ2_fastRemove 4 (none)) (l0 : Nat) (l1 : Option Nat) (l2 : Int32) (S : gS) (H : Heap) (locs : List Loc) (ls : Array Slot) (kc ks C N : Nat) (hkc : kc + C ≤ mc) (hks : ks + N ≤ ms) (hH : hp G Rp S H) (hS : va_S G.2.2.2 s.heap H locs) (hl : lv_has ls 4 [(0, .ref l0), (1, va_rf l1), (2, .int l2)]) (hf : fJ2_fastRemove G l0 l1 l2 S = some (r, Sf, C, N)) : W p l e (gR 1 60 mc ms) s m args below meth c H locs kc ks (gQ below G Rp none Sf args s mc ms) (F0 m 0 ls []) := by
  obtain ⟨hx, hb, hr, hlk, hml, hown, hts, hE, hA, hnm⟩ := hc
  have hc : gC p s m args meth c G RJ2 "fastRemove" cJ2_fastRemove 4 (none) := ⟨hx, hb, hr, hlk, hml, hown, hts, hE, hA, hnm⟩
  unfold fJ2_fastRemove at hf
  refine lv_aload_n (pc := 0) hx hb dJ2_fastRemove_0 rfl (lv_at hl 0 rfl) ?_
  refine lv_dup (pc := 1) hx hb dJ2_fastRemove_1 rfl ?_
  obtain ⟨v1, e1, hf⟩ := bdo hf
  refine g_get (pc := 2) (o := (some l0)) (a := l0) (ci := 15) (k := 0) (v := .int v1) (C := RJ2) (T := TJ2) (N := 3) hx hb hts hown hE hk hH in_J2 rfl (by decide) (hts _ q202) (fun x h9 => u_same (hts _ q199) x h9) rfl (rdI_o e1) dJ2_fastRemove_2 ?_
  refine lv_iconst (pc := 5) (v := nI 1) hx hb dJ2_fastRemove_5 rfl ?_
  refine lv_iadd (pc := 6) hx hb dJ2_fastRemove_6 ?_
  obtain ⟨S2, e2, hf⟩ := bdo hf
  refine g_put (pc := 7) (o := (some l0)) (a := l0) (ci := 15) (k := 0) (v := .int (v1 + (nI 1))) (C := RJ2) (T := TJ2) (N := 3) (ty := .int) hx hb hts hown hE hk hH hS rfl in_J2 tyJ2_ok nmJ2 rfl (by decide) (hts _ q202) (fun x h9 => u_same (hts _ q199) x h9) rfl rfl rfl rfl rfl e2 dJ2_fastRemove_7 (fun H locs hH hS => ?_)
  refine lv_aload_n (pc := 10) hx hb dJ2_fastRemove_10 rfl (lv_at hl 0 rfl) ?_
  obtain ⟨v3, e3, hf⟩ := bdo hf
  refine g_get (pc := 11) (o := (some l0)) (a := l0) (ci := 15) (k := 2) (v := .int v3) (C := RJ2) (T := TJ2) (N := 3) hx hb hts hown hE hk hH in_J2 rfl (by decide) (hts _ q194) (fun _ h9 => h9) rfl (rdI_o e3) dJ2_fastRemove_11 ?_
  refine lv_iconst (pc := 14) (v := nI 1) hx hb dJ2_fastRemove_14 rfl ?_
  refine lv_isub (pc := 15) hx hb dJ2_fastRemove_15 ?_
  refine lv_dup (pc := 16) hx hb dJ2_fastRemove_16 rfl ?_
  refine lv_istore_n (pc := 17) (i := 3) (lv' := [(3, .int (v3 - (nI 1))), (0, .ref l0), (1, va_rf l1), (2, .int l2)]) hx hb dJ2_fastRemove_17 rfl hl (by decide) rfl (fun ls hl => ?_)
  refine lv_iload_n (pc := 18) hx hb dJ2_fastRemove_18 rfl (lv_at hl 3 rfl) ?_
  refine lv_icmp_le (pc := 19) (tgt := 34) hx hb dJ2_fastRemove_19 (by decide) (fun c4 => ?_) (fun c4 => ?_)
  · rw [if_pos c4] at hf
    exact wJ2_fastRemove_b34 hk hc l0 l1 (v3 - (nI 1)) S2 _ _ ls _ _ _ _ hkc hks hH hS (lv_sub hl [1, 2, 0] rfl) hf
  · rw [if_neg c4] at hf
    refine g_aload_n (pc := 22) (o := l1) hx hb dJ2_fastRemove_22 rfl (lv_at hl 2 rfl) ?_
    refine lv_iload_n (pc := 23) hx hb dJ2_fastRemove_23 rfl (lv_at hl 3 rfl) ?_
    refine lv_iconst (pc := 24) (v := nI 1) hx hb dJ2_fastRemove_24 rfl ?_
    refine lv_iadd (pc := 25) hx hb dJ2_fastRemove_25 ?_
    refine g_aload_n (pc := 26) (o := l1) hx hb dJ2_fastRemove_26 rfl (lv_at hl 2 rfl) ?_
    refine lv_iload_n (pc := 27) hx hb dJ2_fastRemove_27 rfl (lv_at hl 3 rfl) ?_
    refine lv_iload_n (pc := 28) hx hb dJ2_fastRemove_28 rfl (lv_at hl 0 rfl) ?_
    refine lv_iload_n (pc := 29) hx hb dJ2_fastRemove_29 rfl (lv_at hl 3 rfl) ?_
    refine lv_isub (pc := 30) hx hb dJ2_fastRemove_30 ?_
    obtain ⟨a5, ea5, hf⟩ := bdo hf
    obtain ⟨S6, e6, hf⟩ := bdo hf
    refine g_cpyQ (pc := 31) (o0 := l1) (a0 := a5) (o := l1) (a := a5) hx hb (hml.trans hl.1.symm) hts hown hE hk hH hS q1847 q520 q519 q116 ea5 ea5 e6 (Nat.le_of_ble_eq_true rfl) (by simp [gR, va_rf_cat, cat_i, cat_j, cat_r]) dJ2_fastRemove_31 (fun H locs hH hS => ?_)
    exact wJ2_fastRemove_b34 hk hc l0 l1 (v3 - (nI 1)) S6 _ _ ls _ _ _ _ hkc hks hH hS (lv_sub hl [1, 2, 0] rfl) hf
theorem mJ2_fastRemove {l : Launch} {G : gG} {Rp : gM → gM → Nat → Prop} (hk : rOK Rp) {S S2 : gS} {r2 : Unit} {C N : Nat} {l0 : Nat} {l1 : Option Nat} {l2 : Int32} (hf : fJ2_fastRemove G l0 l1 l2 S = some (r2, S2, C, N)) : gMet l yJ2_fastRemove cJ2_fastRemove 4 (none) 1 60 G Rp [.ref l0, va_rf l1, .int l2] S none S2 C N := by
  refine g_start (by decide) (by simp [lg_sl, va_rf_cat, cat_i, cat_j, cat_r]) (fun p e s m args below meth c ls hc hl hH => ?_)
  have hl : lv_has ls 4 [(0, .ref l0), (1, va_rf l1), (2, .int l2)] := by simpa [lv_args, va_rf_cat, cat_i, cat_j, cat_r] using hl
  exact wJ2_fastRemove_b0 hk hc l0 l1 l2 S _ _ ls 0 0 C N (by omega) (by omega) hH va_S.rf (lv_sub hl [0, 1, 2] rfl) hf
end
section
variable {r : Option Nat} {Sf : gS}
def fJ2_remove_2 (G : gG) (l0 : Nat) (l1 : Int32) (S : gS) : gO (Option Nat) :=
  bd (rdI S l0 15 2) fun v1 =>
  gb (fJ25_checkIndex G l1 v1 S) fun v2 S2 =>
  bd (rdR S2 l0 15 1) fun v3 =>
  bd v3 fun a4 =>
  bd (rdAq S2 a4 5 l1) fun v5 =>
  bd (chk S2 l0 15) fun _ =>
  gb (fJ2_fastRemove G l0 v3 l1 S2) fun _ S6 =>
  some (v5, S6, 0, 0)
theorem wJ2_remove_2_b0 (hk : rOK Rp) (hc : gC p s m args meth c G RJ2 "remove" cJ2_remove_2 4 (some (.object "java/lang/Object"))) (l0 : Nat) (l1 : Int32) (S : gS) (H : Heap) (locs : List Loc) (ls : Array Slot) (kc ks C N : Nat) (hkc : kc + C ≤ mc) (hks : ks + N ≤ ms) (hH : hp G Rp S H) (hS : va_S G.2.2.2 s.heap H locs) (hl : lv_has ls 4 [(0, .ref l0), (1, .int l1)]) (hf : fJ2_remove_2 G l0 l1 S = some (r, Sf, C, N)) : W p l e (gR 3 103 mc ms) s m args below meth c H locs kc ks (gQ below G Rp (some (va_rf r)) Sf args s mc ms) (F0 m 0 ls []) := by
  obtain ⟨hx, hb, hr, hlk, hml, hown, hts, hE, hA, hnm⟩ := hc
  have hc : gC p s m args meth c G RJ2 "remove" cJ2_remove_2 4 (some (.object "java/lang/Object")) := ⟨hx, hb, hr, hlk, hml, hown, hts, hE, hA, hnm⟩
  unfold fJ2_remove_2 at hf
  refine lv_iload_n (pc := 0) hx hb dJ2_remove_2_0 rfl (lv_at hl 1 rfl) ?_
  refine lv_aload_n (pc := 1) hx hb dJ2_remove_2_1 rfl (lv_at hl 0 rfl) ?_
  obtain ⟨v1, e1, hf⟩ := bdo hf
  refine g_get (pc := 2) (o := (some l0)) (a := l0) (ci := 15) (k := 2) (v := .int v1) (C := RJ2) (T := TJ2) (N := 3) hx hb hts hown hE hk hH in_J2 rfl (by decide) (hts _ q194) (fun _ h9 => h9) rfl (rdI_o e1) dJ2_remove_2_2 ?_
  obtain ⟨v2, S2, c2, n2, c2_2, n2_2, e2, hf, hC2, hN2⟩ := gbo hf
  refine g_callS (pc := 5) (As := [.int l1, .int v1]) (rest := []) (st1 := [.int v2]) hc (mJ25_checkIndex hk (l0 := l1) (l1 := v1) e2) (va_cwS 2 hts (lw_S q1226 q1227 q133 q1228) rfl rfl rfl jhdJ25_checkIndex ⟨Nat.le_of_ble_eq_true rfl, Nat.le_of_ble_eq_true rfl⟩) rfl hl.1 rfl rfl (lv_room (Nat.le_of_ble_eq_true rfl)) dJ2_remove_2_5 hH hS (by omega) (by omega) (fun H locs hH hS => ?_)
  have hkc : kc + c2 + c2_2 ≤ mc := by omega
  have hks : ks + n2 + n2_2 ≤ ms := by omega
  refine lv_pop (pc := 8) hx hb dJ2_remove_2_8 rfl ?_
  refine lv_aload_n (pc := 9) hx hb dJ2_remove_2_9 rfl (lv_at hl 0 rfl) ?_
  obtain ⟨v3, e3, hf⟩ := bdo hf
  refine g_get (pc := 10) (o := (some l0)) (a := l0) (ci := 15) (k := 1) (v := va_rf v3) (C := RJ2) (T := TJ2) (N := 3) hx hb hts hown hE hk hH in_J2 rfl (by decide) (hts _ q191) (fun _ h9 => h9) rfl (rdR_o e3) dJ2_remove_2_10 ?_
  refine g_astore_n (pc := 13) (i := 2) (o := v3) (lv' := [(2, va_rf v3), (0, .ref l0), (1, .int l1)]) hx hb dJ2_remove_2_13 rfl hl (by decide) rfl (fun ls hl => ?_)
  refine g_aload_n (pc := 14) (o := v3) hx hb dJ2_remove_2_14 rfl (lv_at hl 0 rfl) ?_
  refine lv_iload_n (pc := 15) hx hb dJ2_remove_2_15 rfl (lv_at hl 2 rfl) ?_
  obtain ⟨a4, ea4, hf⟩ := bdo hf
  obtain ⟨v5, e5, hf⟩ := bdo hf
  refine g_aald (pc := 16) (o := v3) (a := a4) (t := 5) (t0 := 5) hx hb hE hk hH rfl ea4 e5 dJ2_remove_2_16 ?_
  refine g_astore_n (pc := 17) (i := 3) (o := v5) (lv' := [(3, va_rf v5), (2, va_rf v3), (0, .ref l0), (1, .int l1)]) hx hb dJ2_remove_2_17 rfl hl (by decide) (by simp [va_rf_cat, cat_i, cat_j, cat_r] <;> rfl) (fun ls hl => ?_)
  refine lv_aload_n (pc := 18) hx hb dJ2_remove_2_18 rfl (lv_at hl 2 rfl) ?_
  refine g_aload_n (pc := 19) (o := v3) hx hb dJ2_remove_2_19 rfl (lv_at hl 1 rfl) ?_
  refine lv_iload_n (pc := 20) hx hb dJ2_remove_2_20 rfl (lv_at hl 3 rfl) ?_
  obtain ⟨_, ek6, hf⟩ := bdo hf
  obtain ⟨_, S6, c6, n6, c2_6, n2_6, e6, hf, hC6, hN6⟩ := gbo hf
  refine g_callV (pc := 21) (o := (some l0)) (b := l0) (As := [va_rf v3, .int l1]) (rest := []) (st1 := []) hc (mJ2_fastRemove hk (l0 := l0) (l1 := v3) (l2 := l1) e6) (cwV 2 hts (lw_V q1843 q1845 qs29 q101 q1846) rfl rfl rfl jhdJ2_fastRemove ⟨Nat.le_of_ble_eq_true rfl, Nat.le_of_ble_eq_true rfl⟩) (g_recv hE hk hH (ci := 15) (q := (RJ2, TJ2, 3)) rfl (chk_o ek6).choose_spec) rfl rfl hl.1 rfl rfl (lv_room (Nat.le_of_ble_eq_true rfl)) dJ2_remove_2_21 hH hS (by omega) (by omega) (fun H locs hH hS => ?_)
  have hkc : kc + c2 + c6 + c2_6 ≤ mc := by omega
  have hks : ks + n2 + n6 + n2_6 ≤ ms := by omega
  refine g_aload_n (pc := 24) (o := v5) hx hb dJ2_remove_2_24 rfl (lv_at hl 0 rfl) ?_
  exact g_aret (pc := 25) (v := v5) hx hb hr (Or.inl ⟨_, rfl⟩) hlk hH hS hkc hks hf dJ2_remove_2_25
theorem mJ2_remove_2 {l : Launch} {G : gG} {Rp : gM → gM → Nat → Prop} (hk : rOK Rp) {S S2 : gS} {r2 : Option Nat} {C N : Nat} {l0 : Nat} {l1 : Int32} (hf : fJ2_remove_2 G l0 l1 S = some (r2, S2, C, N)) : gMet l yJ2_remove_2 cJ2_remove_2 4 (some (.object "java/lang/Object")) 3 103 G Rp [.ref l0, .int l1] S (some (va_rf r2)) S2 C N := by
  refine g_start (by decide) (Nat.le_of_ble_eq_true rfl) (fun p e s m args below meth c ls hc hl hH => ?_)
  have hl : lv_has ls 4 [(0, .ref l0), (1, .int l1)] := hl
  exact wJ2_remove_2_b0 hk hc l0 l1 S _ _ ls 0 0 C N (by omega) (by omega) hH va_S.rf (lv_sub hl [0, 1] rfl) hf
end
section
variable {r : Int32} {Sf : gS}
def fJ41_equals_c4 (G : gG) (l0 : Nat) (l1 : Option Nat) (S : gS) : gO Int32 :=
  if (some l0) = l1 then
    zg (nI 1) S
  else
    zg (nI 0) S
theorem wJ41_equals_c4_b0 (hk : rOK Rp) (hc : gC p s m args meth c G RJ41 "equals" cJ41_equals 2 (some .boolean)) (l0 : Nat) (l1 : Option Nat) (S : gS) (H : Heap) (locs : List Loc) (ls : Array Slot) (kc ks C N : Nat) (hkc : kc + C ≤ mc) (hks : ks + N ≤ ms) (hH : hp G Rp S H) (hS : va_S G.2.2.2 s.heap H locs) (hl : lv_has ls 2 [(0, .ref l0), (1, va_rf l1)]) (hf : fJ41_equals_c4 G l0 l1 S = some (r, Sf, C, N)) : W p l e (gR 1 60 mc ms) s m args below meth c H locs kc ks (gQ below G Rp (some (.int r)) Sf args s mc ms) (F0 m 0 ls []) := by
  obtain ⟨hx, hb, hr, hlk, hml, hown, hts, hE, hA, hnm⟩ := hc
  have hc : gC p s m args meth c G RJ41 "equals" cJ41_equals 2 (some .boolean) := ⟨hx, hb, hr, hlk, hml, hown, hts, hE, hA, hnm⟩
  unfold fJ41_equals_c4 at hf
  refine lv_aload_n (pc := 0) hx hb dJ41_equals_0 rfl (lv_at hl 0 rfl) ?_
  refine g_aload_n (pc := 1) (o := l1) hx hb dJ41_equals_1 rfl (lv_at hl 1 rfl) ?_
  refine lv_acmp_ne (pc := 2) (rx := (some l0)) (ry := l1) (tgt := 9) hx hb dJ41_equals_2 (by decide) (fun c1 => ?_) (fun c1 => ?_)
  · rw [if_neg c1] at hf
    refine lv_iconst (pc := 9) (v := nI 0) hx hb dJ41_equals_9 rfl ?_
    exact g_zret (pc := 10) hx hb hr hlk hH hS hkc hks hf dJ41_equals_10
  · rw [if_pos c1] at hf
    refine lv_iconst (pc := 5) (v := nI 1) hx hb dJ41_equals_5 rfl ?_
    refine lv_goto (pc := 6) (tgt := 10) hx hb dJ41_equals_6 (by decide) ?_
    exact g_zret (pc := 10) hx hb hr hlk hH hS hkc hks hf dJ41_equals_10
theorem mJ41_equals_c4 {l : Launch} {G : gG} {Rp : gM → gM → Nat → Prop} (hk : rOK Rp) {S S2 : gS} {r2 : Int32} {C N : Nat} {l0 : Nat} {l1 : Option Nat} (hf : fJ41_equals_c4 G l0 l1 S = some (r2, S2, C, N)) : gMet l yJ41_equals cJ41_equals 2 (some .boolean) 1 60 G Rp [.ref l0, va_rf l1] S (some (.int r2)) S2 C N := by
  refine g_startF (by decide +kernel) (by simp [lg_sl, va_rf_cat, cat_i, cat_j, cat_r]) (fun p e s m args below meth c ls hc hl hH => ?_)
  have hl : lv_has ls 2 [(0, .ref l0), (1, va_rf l1)] := by simpa [lv_args, va_rf_cat, cat_i, cat_j, cat_r] using hl
  exact wJ41_equals_c4_b0 hk hc l0 l1 S _ _ ls 0 0 C N (by omega) (by omega) hH va_S.rf (lv_sub hl [0, 1] rfl) hf
end
section
variable {r : Int32} {Sf : gS}
def fJ2_remove_b67 (G : gG) (l0 : Nat) (l2 : Option Nat) (l4 : Int32) (S : gS) : gO Int32 :=
  bd (chk S l0 15) fun _ =>
  gb (fJ2_fastRemove G l0 l2 l4 S) fun _ S1 =>
  zg (nI 1) S1
theorem wJ2_remove_b67 (hk : rOK Rp) (hc : gC p s m args meth c G RJ2 "remove" cJ2_remove 5 (some .boolean)) (l0 : Nat) (l2 : Option Nat) (l4 : Int32) (S : gS) (H : Heap) (locs : List Loc) (ls : Array Slot) (kc ks C N : Nat) (hkc : kc + C ≤ mc) (hks : ks + N ≤ ms) (hH : hp G Rp S H) (hS : va_S G.2.2.2 s.heap H locs) (hl : lv_has ls 5 [(0, .ref l0), (2, va_rf l2), (4, .int l4)]) (hf : fJ2_remove_b67 G l0 l2 l4 S = some (r, Sf, C, N)) : W p l e (gR 2 83 mc ms) s m args below meth c H locs kc ks (gQ below G Rp (some (.int r)) Sf args s mc ms) (F0 m 67 ls []) := by
  obtain ⟨hx, hb, hr, hlk, hml, hown, hts, hE, hA, hnm⟩ := hc
  have hc : gC p s m args meth c G RJ2 "remove" cJ2_remove 5 (some .boolean) := ⟨hx, hb, hr, hlk, hml, hown, hts, hE, hA, hnm⟩
  unfold fJ2_remove_b67 at hf
  refine lv_aload_n (pc := 67) hx hb dJ2_remove_67 rfl (lv_at hl 0 rfl) ?_
  refine g_aload_n (pc := 68) (o := l2) hx hb dJ2_remove_68 rfl (lv_at hl 1 rfl) ?_
  refine lv_iload (pc := 69) hx hb dJ2_remove_69 (lv_at hl 2 rfl) ?_
  obtain ⟨_, ek1, hf⟩ := bdo hf
  obtain ⟨_, S1, c1, n1, c2_1, n2_1, e1, hf, hC1, hN1⟩ := gbo hf
  refine g_callV (pc := 71) (o := (some l0)) (b := l0) (As := [va_rf l2, .int l4]) (rest := []) (st1 := []) hc (mJ2_fastRemove hk (l0 := l0) (l1 := l2) (l2 := l4) e1) (cwV 2 hts (lw_V q1843 q1845 qs29 q101 q1846) rfl rfl rfl jhdJ2_fastRemove ⟨Nat.le_of_ble_eq_true rfl, Nat.le_of_ble_eq_true rfl⟩) (g_recv hE hk hH (ci := 15) (q := (RJ2, TJ2, 3)) rfl (chk_o ek1).choose_spec) rfl rfl hl.1 rfl rfl (lv_room (Nat.le_of_ble_eq_true rfl)) dJ2_remove_71 hH hS (by omega) (by omega) (fun H locs hH hS => ?_)
  have hkc : kc + c1 + c2_1 ≤ mc := by omega
  have hks : ks + n1 + n2_1 ≤ ms := by omega
  refine lv_iconst (pc := 74) (v := nI 1) hx hb dJ2_remove_74 rfl ?_
  exact g_zret (pc := 75) hx hb hr hlk hH hS hkc hks hf dJ2_remove_75
def fJ2_remove_b39 (G : gG) : Nat → Nat → (Option Nat) → (Option Nat) → Int32 → Int32 → gS → gO Int32
  | 0, _, _, _, _, _, _ => none
  | n + 1, l0, l1, l2, l3, l4, S =>
    if l3 ≤ l4 then
      zg (nI 0) S
    else
      bd l2 fun a2 =>
      bd (rdAq S a2 5 l4) fun v3 =>
      bd l1 fun a5 =>
      bd (chk S a5 4) fun _ =>
      gb (fJ41_equals_c4 G a5 v3 S) fun v4 S4 =>
      if v4 = 0 then
        fJ2_remove_b39 G n l0 l1 l2 l3 (l4 + (nI 1)) S4
      else
        fJ2_remove_b67 G l0 l2 l4 S4
theorem wJ2_remove_b39 (hk : rOK Rp) (hc : gC p s m args meth c G RJ2 "remove" cJ2_remove 5 (some .boolean)) : ∀ (n : Nat) (l0 : Nat) (l1 : Option Nat) (l2 : Option Nat) (l3 : Int32) (l4 : Int32) (S : gS) (H : Heap) (locs : List Loc) (ls : Array Slot) (kc ks C N : Nat), kc + C ≤ mc → ks + N ≤ ms → hp G Rp S H → va_S G.2.2.2 s.heap H locs → lv_has ls 5 [(0, .ref l0), (1, va_rf l1), (2, va_rf l2), (3, .int l3), (4, .int l4)] → fJ2_remove_b39 G n l0 l1 l2 l3 l4 S = some (r, Sf, C, N) → W p l e (gR 2 83 mc ms) s m args below meth c H locs kc ks (gQ below G Rp (some (.int r)) Sf args s mc ms) (F0 m 39 ls []) := by
  obtain ⟨hx, hb, hr, hlk, hml, hown, hts, hE, hA, hnm⟩ := hc
  have hc : gC p s m args meth c G RJ2 "remove" cJ2_remove 5 (some .boolean) := ⟨hx, hb, hr, hlk, hml, hown, hts, hE, hA, hnm⟩
  intro n
  induction n with
  | zero => intro l0 l1 l2 l3 l4 S H locs ls kc ks C N _ _ _ _ _ hf; exact absurd hf (fun h => by cases h)
  | succ n ih =>
    intro l0 l1 l2 l3 l4 S H locs ls kc ks C N hkc hks hH hS hl hf
    rw [fJ2_remove_b39] at hf
    refine lv_iload (pc := 39) hx hb dJ2_remove_39 (lv_at hl 4 rfl) ?_
    refine lv_iload_n (pc := 41) hx hb dJ2_remove_41 rfl (lv_at hl 3 rfl) ?_
    refine lv_icmp_ge (pc := 42) (tgt := 65) hx hb dJ2_remove_42 (by decide) (fun c1 => ?_) (fun c1 => ?_)
    · rw [if_pos c1] at hf
      refine lv_iconst (pc := 65) (v := nI 0) hx hb dJ2_remove_65 rfl ?_
      exact g_zret (pc := 66) hx hb hr hlk hH hS hkc hks hf dJ2_remove_66
    · rw [if_neg c1] at hf
      refine g_aload_n (pc := 45) (o := l1) hx hb dJ2_remove_45 rfl (lv_at hl 1 rfl) ?_
      refine g_aload_n (pc := 46) (o := l2) hx hb dJ2_remove_46 rfl (lv_at hl 2 rfl) ?_
      refine lv_iload (pc := 47) hx hb dJ2_remove_47 (lv_at hl 4 rfl) ?_
      obtain ⟨a2, ea2, hf⟩ := bdo hf
      obtain ⟨v3, e3, hf⟩ := bdo hf
      refine g_aald (pc := 49) (o := l2) (a := a2) (t := 5) (t0 := 5) hx hb hE hk hH rfl ea2 e3 dJ2_remove_49 ?_
      obtain ⟨a5, ea5, hf⟩ := bdo hf
      obtain ⟨_, ek4, hf⟩ := bdo hf
      obtain ⟨v4, S4, c4, n4, c2_4, n2_4, e4, hf, hC4, hN4⟩ := gbo hf
      refine g_callVC (pc := 50) (o := l1) (b := a5) (As := [va_rf v3]) (rest := []) (st1 := [.int v4]) (C := "CreditBroker$Letter") hc (mJ41_equals_c4 hk (l0 := a5) (l1 := v3) e4) (cwP 1 hts (lw_meth q1842) rfl rfl rfl (hts _ q1803) (hts _ q1804) (hts _ q3301) (hts _ q1812) jhdJ41_equals.2 ⟨Nat.le_of_ble_eq_true rfl, Nat.le_of_ble_eq_true rfl⟩) (g_recv hE hk hH (ci := 4) (q := (RX16, TX16, 6)) rfl (chk_o ek4).choose_spec) ea5 rfl hl.1 rfl rfl (lv_room (Nat.le_of_ble_eq_true rfl)) dJ2_remove_50 hH hS (by omega) (by omega) (fun H locs hH hS => ?_)
      have hkc : kc + c4 + c2_4 ≤ mc := by omega
      have hks : ks + n4 + n2_4 ≤ ms := by omega
      refine lv_if_eq (pc := 53) (tgt := 59) hx hb dJ2_remove_53 (by decide) (fun c6 => ?_) (fun c6 => ?_)
      · rw [if_pos c6] at hf
        refine lv_iinc (pc := 59) (v := l4 + (nI 1)) (lv' := [(4, .int (l4 + (nI 1))), (0, .ref l0), (1, va_rf l1), (2, va_rf l2), (3, .int l3)]) hx hb dJ2_remove_59 hl (k := 4) rfl rfl (by decide) rfl (fun ls hl => ?_)
        refine lv_goto (pc := 62) (tgt := 39) hx hb dJ2_remove_62 (by decide) ?_
        exact ih l0 l1 l2 l3 (l4 + (nI 1)) S4 _ _ ls _ _ _ _ hkc hks hH hS (lv_sub hl [1, 2, 3, 4, 0] rfl) hf
      · rw [if_neg c6] at hf
        refine lv_goto (pc := 56) (tgt := 67) hx hb dJ2_remove_56 (by decide) ?_
        exact wJ2_remove_b67 hk hc l0 l2 l4 S4 _ _ ls _ _ _ _ hkc hks hH hS (lv_sub hl [0, 2, 4] rfl) hf
def fJ2_remove_b17 (G : gG) : Nat → Nat → (Option Nat) → Int32 → Int32 → gS → gO Int32
  | 0, _, _, _, _, _ => none
  | n + 1, l0, l2, l3, l4, S =>
    if l3 ≤ l4 then
      zg (nI 0) S
    else
      bd l2 fun a2 =>
      bd (rdAq S a2 5 l4) fun v3 =>
      if v3 = none then
        fJ2_remove_b67 G l0 l2 l4 S
      else
        fJ2_remove_b17 G n l0 l2 l3 (l4 + (nI 1)) S
theorem wJ2_remove_b17 (hk : rOK Rp) (hc : gC p s m args meth c G RJ2 "remove" cJ2_remove 5 (some .boolean)) : ∀ (n : Nat) (l0 : Nat) (l2 : Option Nat) (l3 : Int32) (l4 : Int32) (S : gS) (H : Heap) (locs : List Loc) (ls : Array Slot) (kc ks C N : Nat), kc + C ≤ mc → ks + N ≤ ms → hp G Rp S H → va_S G.2.2.2 s.heap H locs → lv_has ls 5 [(0, .ref l0), (2, va_rf l2), (3, .int l3), (4, .int l4)] → fJ2_remove_b17 G n l0 l2 l3 l4 S = some (r, Sf, C, N) → W p l e (gR 2 83 mc ms) s m args below meth c H locs kc ks (gQ below G Rp (some (.int r)) Sf args s mc ms) (F0 m 17 ls []) := by
  obtain ⟨hx, hb, hr, hlk, hml, hown, hts, hE, hA, hnm⟩ := hc
  have hc : gC p s m args meth c G RJ2 "remove" cJ2_remove 5 (some .boolean) := ⟨hx, hb, hr, hlk, hml, hown, hts, hE, hA, hnm⟩
  intro n
  induction n with
  | zero => intro l0 l2 l3 l4 S H locs ls kc ks C N _ _ _ _ _ hf; exact absurd hf (fun h => by cases h)
  | succ n ih =>
    intro l0 l2 l3 l4 S H locs ls kc ks C N hkc hks hH hS hl hf
    rw [fJ2_remove_b17] at hf
    refine lv_iload (pc := 17) hx hb dJ2_remove_17 (lv_at hl 3 rfl) ?_
    refine lv_iload_n (pc := 19) hx hb dJ2_remove_19 rfl (lv_at hl 2 rfl) ?_
    refine lv_icmp_ge (pc := 20) (tgt := 65) hx hb dJ2_remove_20 (by decide) (fun c1 => ?_) (fun c1 => ?_)
    · rw [if_pos c1] at hf
      refine lv_iconst (pc := 65) (v := nI 0) hx hb dJ2_remove_65 rfl ?_
      exact g_zret (pc := 66) hx hb hr hlk hH hS hkc hks hf dJ2_remove_66
    · rw [if_neg c1] at hf
      refine g_aload_n (pc := 23) (o := l2) hx hb dJ2_remove_23 rfl (lv_at hl 1 rfl) ?_
      refine lv_iload (pc := 24) hx hb dJ2_remove_24 (lv_at hl 3 rfl) ?_
      obtain ⟨a2, ea2, hf⟩ := bdo hf
      obtain ⟨v3, e3, hf⟩ := bdo hf
      refine g_aald (pc := 26) (o := l2) (a := a2) (t := 5) (t0 := 5) hx hb hE hk hH rfl ea2 e3 dJ2_remove_26 ?_
      refine g_ifnonnull (pc := 27) (o := v3) (tgt := 33) hx hb dJ2_remove_27 (by decide) (fun c4 => ?_) (fun c4 => ?_)
      · rw [if_neg c4] at hf
        refine lv_iinc (pc := 33) (v := l4 + (nI 1)) (lv' := [(4, .int (l4 + (nI 1))), (0, .ref l0), (2, va_rf l2), (3, .int l3)]) hx hb dJ2_remove_33 hl (k := 3) rfl rfl (by decide) rfl (fun ls hl => ?_)
        refine lv_goto (pc := 36) (tgt := 17) hx hb dJ2_remove_36 (by decide) ?_
        exact ih l0 l2 l3 (l4 + (nI 1)) S _ _ ls _ _ _ _ hkc hks hH hS (lv_sub hl [1, 2, 3, 0] rfl) hf
      · rw [if_pos c4] at hf
        refine lv_goto (pc := 30) (tgt := 67) hx hb dJ2_remove_30 (by decide) ?_
        exact wJ2_remove_b67 hk hc l0 l2 l4 S _ _ ls _ _ _ _ hkc hks hH hS (lv_sub hl [0, 1, 3] rfl) hf
def fJ2_remove (G : gG) (l0 : Nat) (l1 : Option Nat) (S : gS) : gO Int32 :=
  bd (rdR S l0 15 1) fun v1 =>
  bd (rdI S l0 15 2) fun v2 =>
  if l1 = none then
    fJ2_remove_b17 G FU l0 v1 v2 (nI 0) S
  else
    fJ2_remove_b39 G FU l0 l1 v1 v2 (nI 0) S
theorem wJ2_remove_b0 (hk : rOK Rp) (hc : gC p s m args meth c G RJ2 "remove" cJ2_remove 5 (some .boolean)) (l0 : Nat) (l1 : Option Nat) (S : gS) (H : Heap) (locs : List Loc) (ls : Array Slot) (kc ks C N : Nat) (hkc : kc + C ≤ mc) (hks : ks + N ≤ ms) (hH : hp G Rp S H) (hS : va_S G.2.2.2 s.heap H locs) (hl : lv_has ls 5 [(0, .ref l0), (1, va_rf l1)]) (hf : fJ2_remove G l0 l1 S = some (r, Sf, C, N)) : W p l e (gR 2 83 mc ms) s m args below meth c H locs kc ks (gQ below G Rp (some (.int r)) Sf args s mc ms) (F0 m 0 ls []) := by
  obtain ⟨hx, hb, hr, hlk, hml, hown, hts, hE, hA, hnm⟩ := hc
  have hc : gC p s m args meth c G RJ2 "remove" cJ2_remove 5 (some .boolean) := ⟨hx, hb, hr, hlk, hml, hown, hts, hE, hA, hnm⟩
  unfold fJ2_remove at hf
  refine lv_aload_n (pc := 0) hx hb dJ2_remove_0 rfl (lv_at hl 0 rfl) ?_
  obtain ⟨v1, e1, hf⟩ := bdo hf
  refine g_get (pc := 1) (o := (some l0)) (a := l0) (ci := 15) (k := 1) (v := va_rf v1) (C := RJ2) (T := TJ2) (N := 3) hx hb hts hown hE hk hH in_J2 rfl (by decide) (hts _ q191) (fun _ h9 => h9) rfl (rdR_o e1) dJ2_remove_1 ?_
  refine g_astore_n (pc := 4) (i := 2) (o := v1) (lv' := [(2, va_rf v1), (0, .ref l0), (1, va_rf l1)]) hx hb dJ2_remove_4 rfl hl (by decide) (by simp [va_rf_cat, cat_i, cat_j, cat_r] <;> rfl) (fun ls hl => ?_)
  refine lv_aload_n (pc := 5) hx hb dJ2_remove_5 rfl (lv_at hl 1 rfl) ?_
  obtain ⟨v2, e2, hf⟩ := bdo hf
  refine g_get (pc := 6) (o := (some l0)) (a := l0) (ci := 15) (k := 2) (v := .int v2) (C := RJ2) (T := TJ2) (N := 3) hx hb hts hown hE hk hH in_J2 rfl (by decide) (hts _ q194) (fun _ h9 => h9) rfl (rdI_o e2) dJ2_remove_6 ?_
  refine lv_istore_n (pc := 9) (i := 3) (lv' := [(3, .int v2), (2, va_rf v1), (0, .ref l0), (1, va_rf l1)]) hx hb dJ2_remove_9 rfl hl (by decide) (by simp [va_rf_cat, cat_i, cat_j, cat_r] <;> rfl) (fun ls hl => ?_)
  refine lv_iconst (pc := 10) (v := nI 0) hx hb dJ2_remove_10 rfl ?_
  refine lv_istore (pc := 11) (i := 4) (lv' := [(4, .int (nI 0)), (3, .int v2), (2, va_rf v1), (0, .ref l0), (1, va_rf l1)]) hx hb dJ2_remove_11 hl (by decide) rfl (fun ls hl => ?_)
  refine g_aload_n (pc := 13) (o := l1) hx hb dJ2_remove_13 rfl (lv_at hl 4 rfl) ?_
  refine g_ifnonnull (pc := 14) (o := l1) (tgt := 39) hx hb dJ2_remove_14 (by decide) (fun c3 => ?_) (fun c3 => ?_)
  · rw [if_neg c3] at hf
    exact wJ2_remove_b39 hk hc FU l0 l1 v1 v2 (nI 0) S _ _ ls _ _ _ _ hkc hks hH hS (lv_sub hl [3, 4, 2, 1, 0] rfl) hf
  · rw [if_pos c3] at hf
    exact wJ2_remove_b17 hk hc FU l0 v1 v2 (nI 0) S _ _ ls _ _ _ _ hkc hks hH hS (lv_sub hl [3, 2, 1, 0] rfl) hf
theorem mJ2_remove {l : Launch} {G : gG} {Rp : gM → gM → Nat → Prop} (hk : rOK Rp) {S S2 : gS} {r2 : Int32} {C N : Nat} {l0 : Nat} {l1 : Option Nat} (hf : fJ2_remove G l0 l1 S = some (r2, S2, C, N)) : gMet l yJ2_remove cJ2_remove 5 (some .boolean) 2 83 G Rp [.ref l0, va_rf l1] S (some (.int r2)) S2 C N := by
  refine g_start (by decide) (by simp [lg_sl, va_rf_cat, cat_i, cat_j, cat_r]) (fun p e s m args below meth c ls hc hl hH => ?_)
  have hl : lv_has ls 5 [(0, .ref l0), (1, va_rf l1)] := by simpa [lv_args, va_rf_cat, cat_i, cat_j, cat_r] using hl
  exact wJ2_remove_b0 hk hc l0 l1 S _ _ ls 0 0 C N (by omega) (by omega) hH va_S.rf (lv_sub hl [0, 1] rfl) hf
end
end

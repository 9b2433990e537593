theorem pn_J0 : plainName RJ0 = true := by decide +kernel
theorem pn_J1 : plainName RJ1 = true := by decide +kernel
theorem pn_J10 : plainName RJ10 = true := by decide +kernel
theorem pn_J12 : plainName RJ12 = true := by decide +kernel
theorem pn_J13 : plainName RJ13 = true := by decide +kernel
theorem pn_J14 : plainName RJ14 = true := by decide +kernel
theorem pn_J15 : plainName RJ15 = true := by decide +kernel
theorem pn_J16 : plainName RJ16 = true := by decide +kernel
theorem pn_J17 : plainName RJ17 = true := by decide +kernel
theorem pn_J18 : plainName RJ18 = true := by decide +kernel
theorem pn_J2 : plainName RJ2 = true := by decide +kernel
theorem pn_J20 : plainName RJ20 = true := by decide +kernel
theorem pn_J21 : plainName RJ21 = true := by decide +kernel
theorem pn_J22 : plainName RJ22 = true := by decide +kernel
theorem pn_J23 : plainName RJ23 = true := by decide +kernel
theorem pn_J3 : plainName RJ3 = true := by decide +kernel
theorem pn_J4 : plainName RJ4 = true := by decide +kernel
theorem pn_J5 : plainName RJ5 = true := by decide +kernel
theorem pn_J6 : plainName RJ6 = true := by decide +kernel
theorem pn_J7 : plainName RJ7 = true := by decide +kernel
theorem pn_J8 : plainName RJ8 = true := by decide +kernel
theorem pn_J9 : plainName RJ9 = true := by decide +kernel
theorem pn_X1 : plainName RX1 = true := by decide +kernel
theorem pn_X2 : plainName RX2 = true := by decide +kernel
theorem pn_X3 : plainName RX3 = true := by decide +kernel
theorem pn_X4 : plainName RX4 = true := by decide +kernel
theorem pn_X5 : plainName RX5 = true := by decide +kernel
theorem pn_X6 : plainName RX6 = true := by decide +kernel
theorem pn_X7 : plainName RX7 = true := by decide +kernel
theorem pn_X8 : plainName RX8 = true := by decide +kernel
theorem pf_J11_min : plainFor yJ11_min = true := by decide +kernel
theorem pf_J11_max : plainFor yJ11_max = true := by decide +kernel
theorem pf_J19_isNaN : plainFor yJ19_isNaN = true := by decide +kernel
theorem pf_J19_floatToIntBits : plainFor yJ19_floatToIntBits = true := by decide +kernel
theorem dv_X1 : ∀ j, j < 4 → defaultValue (tyX1 j) = vp_V [.null, .null, .null, .null] j := fun j hj => by
  rcases (show j = 0 ∨ j = 1 ∨ j = 2 ∨ j = 3 by omega) with rfl | rfl | rfl | rfl <;> rfl
theorem dv_X4 : ∀ j, j < 29 → defaultValue (tyX4 j) = vp_V [.null, .null, .null, .int 0, .null, .int 0, .null, .int 0, .int 0, .null, .null, .int 0, .long 0, .null, .null, .null, .int 0, .null, .null, .int 0, .int 0, .int 0, .int 0, .int 0, .int 0, .int 0, .int 0, .int 0, .int 0] j := fun j hj => by
  rcases (show j = 0 ∨ j = 1 ∨ j = 2 ∨ j = 3 ∨ j = 4 ∨ j = 5 ∨ j = 6 ∨ j = 7 ∨ j = 8 ∨ j = 9 ∨ j = 10 ∨ j = 11 ∨ j = 12 ∨ j = 13 ∨ j = 14 ∨ j = 15 ∨ j = 16 ∨ j = 17 ∨ j = 18 ∨ j = 19 ∨ j = 20 ∨ j = 21 ∨ j = 22 ∨ j = 23 ∨ j = 24 ∨ j = 25 ∨ j = 26 ∨ j = 27 ∨ j = 28 by omega) with rfl | rfl | rfl | rfl | rfl | rfl | rfl | rfl | rfl | rfl | rfl | rfl | rfl | rfl | rfl | rfl | rfl | rfl | rfl | rfl | rfl | rfl | rfl | rfl | rfl | rfl | rfl | rfl | rfl <;> rfl
theorem dv_X2 : ∀ j, j < 5 → defaultValue (tyX2 j) = vp_V [.null, .null, .null, .null, .int 0] j := fun j hj => by
  rcases (show j = 0 ∨ j = 1 ∨ j = 2 ∨ j = 3 ∨ j = 4 by omega) with rfl | rfl | rfl | rfl | rfl <;> rfl
theorem dv_X3 : ∀ j, j < 1 → defaultValue (tyX3 j) = vp_V [.null] j := fun j hj => by
  have h0 : j = 0 := Nat.lt_one_iff.mp hj
  subst h0
  rfl
theorem dv_X5 : ∀ j, j < 5 → defaultValue (tyX5 j) = vp_V [.int 0, .int 0, .null, .null, .int 0] j := fun j hj => by
  rcases (show j = 0 ∨ j = 1 ∨ j = 2 ∨ j = 3 ∨ j = 4 by omega) with rfl | rfl | rfl | rfl | rfl <;> rfl
theorem dv_X7 : ∀ j, j < 3 → defaultValue (tyX7 j) = vp_V [.int 0, .null, .int 0] j := fun j hj => by
  rcases (show j = 0 ∨ j = 1 ∨ j = 2 by omega) with rfl | rfl | rfl <;> rfl
theorem dv_X8 : ∀ j, j < 8 → defaultValue (tyX8 j) = vp_V [.null, .null, .int 0, .int 0, .int 0, .int 0, .int 0, .null] j := fun j hj => by
  rcases (show j = 0 ∨ j = 1 ∨ j = 2 ∨ j = 3 ∨ j = 4 ∨ j = 5 ∨ j = 6 ∨ j = 7 by omega) with rfl | rfl | rfl | rfl | rfl | rfl | rfl | rfl <;> rfl
theorem dv_J2 : ∀ j, j < 3 → defaultValue (tyJ2 j) = vp_V [.int 0, .null, .int 0] j := fun j hj => by
  rcases (show j = 0 ∨ j = 1 ∨ j = 2 by omega) with rfl | rfl | rfl <;> rfl
theorem dv_J3 : ∀ j, j < 3 → defaultValue (tyJ3 j) = vp_V [.null, .int 0, .int 0] j := fun j hj => by
  rcases (show j = 0 ∨ j = 1 ∨ j = 2 by omega) with rfl | rfl | rfl <;> rfl
theorem dv_J5 : ∀ j, j < 4 → defaultValue (tyJ5 j) = vp_V [.null, .int 0, .int 0, .int 0] j := fun j hj => by
  rcases (show j = 0 ∨ j = 1 ∨ j = 2 ∨ j = 3 by omega) with rfl | rfl | rfl | rfl <;> rfl
theorem dv_J6 : ∀ j, j < 2 → defaultValue (tyJ6 j) = vp_V [.null, .int 0] j := fun j hj => by
  rcases (show j = 0 ∨ j = 1 by omega) with rfl | rfl <;> rfl
theorem okn_J0_init : okName yJ0_init 0 := ⟨by decide +kernel, by decide +kernel, by decide +kernel⟩
theorem okn_J1_init : okName yJ1_init 0 := ⟨by decide +kernel, by decide +kernel, by decide +kernel⟩
theorem okn_J10_newLength : okName yJ10_newLength 3 := ⟨by decide +kernel, by decide +kernel, by decide +kernel⟩
theorem okn_J10_hugeLength : okName yJ10_hugeLength 2 := ⟨by decide +kernel, by decide +kernel, by decide +kernel⟩
theorem okn_J11_max : okName yJ11_max 2 := ⟨by decide +kernel, by decide +kernel, by decide +kernel⟩
theorem okn_J11_min : okName yJ11_min 2 := ⟨by decide +kernel, by decide +kernel, by decide +kernel⟩
theorem okn_J12_copyOf : okName yJ12_copyOf 2 := ⟨by decide +kernel, by decide +kernel, by decide +kernel⟩
theorem okn_J12_copyOf_2 : okName yJ12_copyOf_2 3 := ⟨by decide +kernel, by decide +kernel, by decide +kernel⟩
theorem okn_J12_copyOf_3 : okName yJ12_copyOf_3 2 := ⟨by decide +kernel, by decide +kernel, by decide +kernel⟩
theorem okn_J12_fill : okName yJ12_fill 4 := ⟨by decide +kernel, by decide +kernel, by decide +kernel⟩
theorem okn_J12_rangeCheck : okName yJ12_rangeCheck 3 := ⟨by decide +kernel, by decide +kernel, by decide +kernel⟩
theorem okn_J12_copyOfRange : okName yJ12_copyOfRange 3 := ⟨by decide +kernel, by decide +kernel, by decide +kernel⟩
theorem okn_J12_copyOfRangeByte : okName yJ12_copyOfRangeByte 3 := ⟨by decide +kernel, by decide +kernel, by decide +kernel⟩
theorem okn_J12_checkLength : okName yJ12_checkLength 2 := ⟨by decide +kernel, by decide +kernel, by decide +kernel⟩
theorem okn_J13_init : okName yJ13_init 0 := ⟨by decide +kernel, by decide +kernel, by decide +kernel⟩
theorem okn_J13_init_2 : okName yJ13_init_2 1 := ⟨by decide +kernel, by decide +kernel, by decide +kernel⟩
theorem okn_J14_init : okName yJ14_init 1 := ⟨by decide +kernel, by decide +kernel, by decide +kernel⟩
theorem okn_J14_init_2 : okName yJ14_init_2 0 := ⟨by decide +kernel, by decide +kernel, by decide +kernel⟩
theorem okn_J15_init : okName yJ15_init 1 := ⟨by decide +kernel, by decide +kernel, by decide +kernel⟩
theorem okn_J15_init_2 : okName yJ15_init_2 0 := ⟨by decide +kernel, by decide +kernel, by decide +kernel⟩
theorem okn_J16_init : okName yJ16_init 1 := ⟨by decide +kernel, by decide +kernel, by decide +kernel⟩
theorem okn_J17_init : okName yJ17_init 0 := ⟨by decide +kernel, by decide +kernel, by decide +kernel⟩
theorem okn_J17_init_2 : okName yJ17_init_2 1 := ⟨by decide +kernel, by decide +kernel, by decide +kernel⟩
theorem okn_J18_init : okName yJ18_init 1 := ⟨by decide +kernel, by decide +kernel, by decide +kernel⟩
theorem okn_J19_floatToIntBits : okName yJ19_floatToIntBits 1 := ⟨by decide +kernel, by decide +kernel, by decide +kernel⟩
theorem okn_J19_isNaN : okName yJ19_isNaN 1 := ⟨by decide +kernel, by decide +kernel, by decide +kernel⟩
theorem okn_J2_init : okName yJ2_init 0 := ⟨by decide +kernel, by decide +kernel, by decide +kernel⟩
theorem okn_J2_size : okName yJ2_size 0 := ⟨by decide +kernel, by decide +kernel, by decide +kernel⟩
theorem okn_J2_get : okName yJ2_get 1 := ⟨by decide +kernel, by decide +kernel, by decide +kernel⟩
theorem okn_J2_elementData : okName yJ2_elementData 1 := ⟨by decide +kernel, by decide +kernel, by decide +kernel⟩
theorem okn_J2_add : okName yJ2_add 1 := ⟨by decide +kernel, by decide +kernel, by decide +kernel⟩
theorem okn_J2_add_2 : okName yJ2_add_2 3 := ⟨by decide +kernel, by decide +kernel, by decide +kernel⟩
theorem okn_J2_grow : okName yJ2_grow 0 := ⟨by decide +kernel, by decide +kernel, by decide +kernel⟩
theorem okn_J2_grow_2 : okName yJ2_grow_2 1 := ⟨by decide +kernel, by decide +kernel, by decide +kernel⟩
theorem okn_J20_doubleToLongBits : okName yJ20_doubleToLongBits 1 := ⟨by decide +kernel, by decide +kernel, by decide +kernel⟩
theorem okn_J20_isNaN : okName yJ20_isNaN 1 := ⟨by decide +kernel, by decide +kernel, by decide +kernel⟩
theorem okn_J21_fillNull : okName yJ21_fillNull 3 := ⟨by decide +kernel, by decide +kernel, by decide +kernel⟩
theorem okn_J21_inflate : okName yJ21_inflate 5 := ⟨by decide +kernel, by decide +kernel, by decide +kernel⟩
theorem okn_J21_canEncode : okName yJ21_canEncode 1 := ⟨by decide +kernel, by decide +kernel, by decide +kernel⟩
theorem okn_J21_indexOf : okName yJ21_indexOf 4 := ⟨by decide +kernel, by decide +kernel, by decide +kernel⟩
theorem okn_J21_canEncode_2 : okName yJ21_canEncode_2 1 := ⟨by decide +kernel, by decide +kernel, by decide +kernel⟩
theorem okn_J21_indexOfChar : okName yJ21_indexOfChar 4 := ⟨by decide +kernel, by decide +kernel, by decide +kernel⟩
theorem okn_J22_stringSize : okName yJ22_stringSize 1 := ⟨by decide +kernel, by decide +kernel, by decide +kernel⟩
theorem okn_J22_getChars : okName yJ22_getChars 3 := ⟨by decide +kernel, by decide +kernel, by decide +kernel⟩
theorem okn_J23_isValidCodePoint : okName yJ23_isValidCodePoint 1 := ⟨by decide +kernel, by decide +kernel, by decide +kernel⟩
theorem okn_J23_highSurrogate : okName yJ23_highSurrogate 1 := ⟨by decide +kernel, by decide +kernel, by decide +kernel⟩
theorem okn_J23_lowSurrogate : okName yJ23_lowSurrogate 1 := ⟨by decide +kernel, by decide +kernel, by decide +kernel⟩
theorem okn_J24_init : okName yJ24_init 0 := ⟨by decide +kernel, by decide +kernel, by decide +kernel⟩
theorem okn_J3_init : okName yJ3_init 0 := ⟨by decide +kernel, by decide +kernel, by decide +kernel⟩
theorem okn_J3_addLast : okName yJ3_addLast 1 := ⟨by decide +kernel, by decide +kernel, by decide +kernel⟩
theorem okn_J3_inc : okName yJ3_inc 2 := ⟨by decide +kernel, by decide +kernel, by decide +kernel⟩
theorem okn_J3_grow : okName yJ3_grow 1 := ⟨by decide +kernel, by decide +kernel, by decide +kernel⟩
theorem okn_J3_newCapacity : okName yJ3_newCapacity 2 := ⟨by decide +kernel, by decide +kernel, by decide +kernel⟩
theorem okn_J3_size : okName yJ3_size 0 := ⟨by decide +kernel, by decide +kernel, by decide +kernel⟩
theorem okn_J3_sub : okName yJ3_sub 3 := ⟨by decide +kernel, by decide +kernel, by decide +kernel⟩
theorem okn_J3_removeFirst : okName yJ3_removeFirst 0 := ⟨by decide +kernel, by decide +kernel, by decide +kernel⟩
theorem okn_J3_pollFirst : okName yJ3_pollFirst 0 := ⟨by decide +kernel, by decide +kernel, by decide +kernel⟩
theorem okn_J3_elementAt : okName yJ3_elementAt 2 := ⟨by decide +kernel, by decide +kernel, by decide +kernel⟩
theorem okn_J3_isEmpty : okName yJ3_isEmpty 0 := ⟨by decide +kernel, by decide +kernel, by decide +kernel⟩
theorem okn_J3_removeLast : okName yJ3_removeLast 0 := ⟨by decide +kernel, by decide +kernel, by decide +kernel⟩
theorem okn_J3_pollLast : okName yJ3_pollLast 0 := ⟨by decide +kernel, by decide +kernel, by decide +kernel⟩
theorem okn_J3_dec : okName yJ3_dec 2 := ⟨by decide +kernel, by decide +kernel, by decide +kernel⟩
theorem okn_J4_init : okName yJ4_init 1 := ⟨by decide +kernel, by decide +kernel, by decide +kernel⟩
theorem okn_J4_length : okName yJ4_length 0 := ⟨by decide +kernel, by decide +kernel, by decide +kernel⟩
theorem okn_J4_setLength : okName yJ4_setLength 1 := ⟨by decide +kernel, by decide +kernel, by decide +kernel⟩
theorem okn_J4_ensureCapacityInternal : okName yJ4_ensureCapacityInternal 1 := ⟨by decide +kernel, by decide +kernel, by decide +kernel⟩
theorem okn_J4_newCapacity : okName yJ4_newCapacity 1 := ⟨by decide +kernel, by decide +kernel, by decide +kernel⟩
theorem okn_J4_isLatin1 : okName yJ4_isLatin1 0 := ⟨by decide +kernel, by decide +kernel, by decide +kernel⟩
theorem okn_J4_append : okName yJ4_append 1 := ⟨by decide +kernel, by decide +kernel, by decide +kernel⟩
theorem okn_J4_appendNull : okName yJ4_appendNull 0 := ⟨by decide +kernel, by decide +kernel, by decide +kernel⟩
theorem okn_J4_putStringAt : okName yJ4_putStringAt 2 := ⟨by decide +kernel, by decide +kernel, by decide +kernel⟩
theorem okn_J4_inflateIfNeededFor : okName yJ4_inflateIfNeededFor 1 := ⟨by decide +kernel, by decide +kernel, by decide +kernel⟩
theorem okn_J4_inflate : okName yJ4_inflate 0 := ⟨by decide +kernel, by decide +kernel, by decide +kernel⟩
theorem okn_J4_append_2 : okName yJ4_append_2 1 := ⟨by decide +kernel, by decide +kernel, by decide +kernel⟩
theorem okn_J4_getValue : okName yJ4_getValue 0 := ⟨by decide +kernel, by decide +kernel, by decide +kernel⟩
theorem okn_J4_append_3 : okName yJ4_append_3 1 := ⟨by decide +kernel, by decide +kernel, by decide +kernel⟩
theorem okn_J4_charAt : okName yJ4_charAt 1 := ⟨by decide +kernel, by decide +kernel, by decide +kernel⟩
theorem okn_J5_init : okName yJ5_init 0 := ⟨by decide +kernel, by decide +kernel, by decide +kernel⟩
theorem okn_J5_length : okName yJ5_length 0 := ⟨by decide +kernel, by decide +kernel, by decide +kernel⟩
theorem okn_J5_setLength : okName yJ5_setLength 1 := ⟨by decide +kernel, by decide +kernel, by decide +kernel⟩
theorem okn_J5_append : okName yJ5_append 1 := ⟨by decide +kernel, by decide +kernel, by decide +kernel⟩
theorem okn_J5_append_2 : okName yJ5_append_2 1 := ⟨by decide +kernel, by decide +kernel, by decide +kernel⟩
theorem okn_J5_toString : okName yJ5_toString 0 := ⟨by decide +kernel, by decide +kernel, by decide +kernel⟩
theorem okn_J5_append_3 : okName yJ5_append_3 1 := ⟨by decide +kernel, by decide +kernel, by decide +kernel⟩
theorem okn_J5_charAt : okName yJ5_charAt 1 := ⟨by decide +kernel, by decide +kernel, by decide +kernel⟩
theorem okn_J6_checkBoundsBeginEnd : okName yJ6_checkBoundsBeginEnd 3 := ⟨by decide +kernel, by decide +kernel, by decide +kernel⟩
theorem okn_J6_length : okName yJ6_length 0 := ⟨by decide +kernel, by decide +kernel, by decide +kernel⟩
theorem okn_J6_coder : okName yJ6_coder 0 := ⟨by decide +kernel, by decide +kernel, by decide +kernel⟩
theorem okn_J6_checkBoundsOffCount : okName yJ6_checkBoundsOffCount 3 := ⟨by decide +kernel, by decide +kernel, by decide +kernel⟩
theorem okn_J6_getBytes : okName yJ6_getBytes 3 := ⟨by decide +kernel, by decide +kernel, by decide +kernel⟩
theorem okn_J6_init : okName yJ6_init 1 := ⟨by decide +kernel, by decide +kernel, by decide +kernel⟩
theorem okn_J6_init_2 : okName yJ6_init_2 2 := ⟨by decide +kernel, by decide +kernel, by decide +kernel⟩
theorem okn_J6_checkIndex : okName yJ6_checkIndex 2 := ⟨by decide +kernel, by decide +kernel, by decide +kernel⟩
theorem okn_J6_indexOf : okName yJ6_indexOf 1 := ⟨by decide +kernel, by decide +kernel, by decide +kernel⟩
theorem okn_J6_indexOf_2 : okName yJ6_indexOf_2 2 := ⟨by decide +kernel, by decide +kernel, by decide +kernel⟩
theorem okn_J6_isLatin1 : okName yJ6_isLatin1 0 := ⟨by decide +kernel, by decide +kernel, by decide +kernel⟩
theorem okn_J7_newBytesFor : okName yJ7_newBytesFor 1 := ⟨by decide +kernel, by decide +kernel, by decide +kernel⟩
theorem okn_J7_newBytesLength : okName yJ7_newBytesLength 1 := ⟨by decide +kernel, by decide +kernel, by decide +kernel⟩
theorem okn_J7_putCharsAt : okName yJ7_putCharsAt 6 := ⟨by decide +kernel, by decide +kernel, by decide +kernel⟩
theorem okn_J7_checkBoundsBeginEnd : okName yJ7_checkBoundsBeginEnd 3 := ⟨by decide +kernel, by decide +kernel, by decide +kernel⟩
theorem okn_J7_length : okName yJ7_length 1 := ⟨by decide +kernel, by decide +kernel, by decide +kernel⟩
theorem okn_J7_putChar : okName yJ7_putChar 3 := ⟨by decide +kernel, by decide +kernel, by decide +kernel⟩
theorem okn_J7_inflate : okName yJ7_inflate 5 := ⟨by decide +kernel, by decide +kernel, by decide +kernel⟩
theorem okn_J7_checkBoundsOffCount : okName yJ7_checkBoundsOffCount 3 := ⟨by decide +kernel, by decide +kernel, by decide +kernel⟩
theorem okn_J7_getChars : okName yJ7_getChars 4 := ⟨by decide +kernel, by decide +kernel, by decide +kernel⟩
theorem okn_J7_getChars_2 : okName yJ7_getChars_2 3 := ⟨by decide +kernel, by decide +kernel, by decide +kernel⟩
theorem okn_J7_compress : okName yJ7_compress 3 := ⟨by decide +kernel, by decide +kernel, by decide +kernel⟩
theorem okn_J7_compress_2 : okName yJ7_compress_2 5 := ⟨by decide +kernel, by decide +kernel, by decide +kernel⟩
theorem okn_J7_getChar : okName yJ7_getChar 2 := ⟨by decide +kernel, by decide +kernel, by decide +kernel⟩
theorem okn_J7_coderFromArrayLen : okName yJ7_coderFromArrayLen 2 := ⟨by decide +kernel, by decide +kernel, by decide +kernel⟩
theorem okn_J7_fillNull : okName yJ7_fillNull 3 := ⟨by decide +kernel, by decide +kernel, by decide +kernel⟩
theorem okn_J7_putCharSB : okName yJ7_putCharSB 3 := ⟨by decide +kernel, by decide +kernel, by decide +kernel⟩
theorem okn_J7_checkIndex : okName yJ7_checkIndex 2 := ⟨by decide +kernel, by decide +kernel, by decide +kernel⟩
theorem okn_J7_indexOf : okName yJ7_indexOf 4 := ⟨by decide +kernel, by decide +kernel, by decide +kernel⟩
theorem okn_J7_indexOfChar : okName yJ7_indexOfChar 4 := ⟨by decide +kernel, by decide +kernel, by decide +kernel⟩
theorem okn_J7_indexOfCharUnsafe : okName yJ7_indexOfCharUnsafe 4 := ⟨by decide +kernel, by decide +kernel, by decide +kernel⟩
theorem okn_J7_indexOfSupplementary : okName yJ7_indexOfSupplementary 4 := ⟨by decide +kernel, by decide +kernel, by decide +kernel⟩
theorem okn_J8_checkIndex : okName yJ8_checkIndex 2 := ⟨by decide +kernel, by decide +kernel, by decide +kernel⟩
theorem okn_J9_checkIndex : okName yJ9_checkIndex 3 := ⟨by decide +kernel, by decide +kernel, by decide +kernel⟩
theorem okn_J9_checkFromToIndex : okName yJ9_checkFromToIndex 4 := ⟨by decide +kernel, by decide +kernel, by decide +kernel⟩
theorem okn_J9_checkFromIndexSize : okName yJ9_checkFromIndexSize 4 := ⟨by decide +kernel, by decide +kernel, by decide +kernel⟩
theorem okn_X1_init : okName yX1_init 0 := ⟨by decide +kernel, by decide +kernel, by decide +kernel⟩
theorem okn_X1_forgetAll : okName yX1_forgetAll 0 := ⟨by decide +kernel, by decide +kernel, by decide +kernel⟩
theorem okn_X1_act : okName yX1_act 2 := ⟨by decide +kernel, by decide +kernel, by decide +kernel⟩
theorem okn_X1_done : okName yX1_done 3 := ⟨by decide +kernel, by decide +kernel, by decide +kernel⟩
theorem okn_X1_arePair : okName yX1_arePair 2 := ⟨by decide +kernel, by decide +kernel, by decide +kernel⟩
theorem okn_X1_isBetween : okName yX1_isBetween 3 := ⟨by decide +kernel, by decide +kernel, by decide +kernel⟩
theorem okn_X1_need : okName yX1_need 2 := ⟨by decide +kernel, by decide +kernel, by decide +kernel⟩
theorem okn_X1_isClock : okName yX1_isClock 1 := ⟨by decide +kernel, by decide +kernel, by decide +kernel⟩
theorem okn_X1_doneBeside : okName yX1_doneBeside 3 := ⟨by decide +kernel, by decide +kernel, by decide +kernel⟩
theorem okn_X1_isShelf : okName yX1_isShelf 1 := ⟨by decide +kernel, by decide +kernel, by decide +kernel⟩
theorem okn_X1_isHarbour : okName yX1_isHarbour 1 := ⟨by decide +kernel, by decide +kernel, by decide +kernel⟩
theorem okn_X1_changed : okName yX1_changed 2 := ⟨by decide +kernel, by decide +kernel, by decide +kernel⟩
theorem okn_X1_isTight : okName yX1_isTight 0 := ⟨by decide +kernel, by decide +kernel, by decide +kernel⟩
theorem okn_X1_isEmpty : okName yX1_isEmpty 0 := ⟨by decide +kernel, by decide +kernel, by decide +kernel⟩
theorem okn_X1_isEmptyByMoments : okName yX1_isEmptyByMoments 0 := ⟨by decide +kernel, by decide +kernel, by decide +kernel⟩
theorem okn_X1_moments : okName yX1_moments 0 := ⟨by decide +kernel, by decide +kernel, by decide +kernel⟩
theorem okn_X1_momentsTightened : okName yX1_momentsTightened 0 := ⟨by decide +kernel, by decide +kernel, by decide +kernel⟩
theorem okn_X1_lines : okName yX1_lines 0 := ⟨by decide +kernel, by decide +kernel, by decide +kernel⟩
theorem okn_X1_reachableByMoments : okName yX1_reachableByMoments 0 := ⟨by decide +kernel, by decide +kernel, by decide +kernel⟩
theorem okn_X1_clockOf : okName yX1_clockOf 2 := ⟨by decide +kernel, by decide +kernel, by decide +kernel⟩
theorem okn_X1_codeOf : okName yX1_codeOf 4 := ⟨by decide +kernel, by decide +kernel, by decide +kernel⟩
theorem okn_X1_stuckIn : okName yX1_stuckIn 0 := ⟨by decide +kernel, by decide +kernel, by decide +kernel⟩
theorem okn_X1_usableLines : okName yX1_usableLines 0 := ⟨by decide +kernel, by decide +kernel, by decide +kernel⟩
theorem okn_X1_share : okName yX1_share 0 := ⟨by decide +kernel, by decide +kernel, by decide +kernel⟩
theorem okn_X1_shareBits : okName yX1_shareBits 0 := ⟨by decide +kernel, by decide +kernel, by decide +kernel⟩
theorem okn_X1_worked : okName yX1_worked 0 := ⟨by decide +kernel, by decide +kernel, by decide +kernel⟩
theorem okn_X1_keep : okName yX1_keep 0 := ⟨by decide +kernel, by decide +kernel, by decide +kernel⟩
theorem okn_X1_states : okName yX1_states 0 := ⟨by decide +kernel, by decide +kernel, by decide +kernel⟩
theorem okn_X1_clearText : okName yX1_clearText 0 := ⟨by decide +kernel, by decide +kernel, by decide +kernel⟩
theorem okn_X1_tell : okName yX1_tell 3 := ⟨by decide +kernel, by decide +kernel, by decide +kernel⟩
theorem okn_X1_forget : okName yX1_forget 2 := ⟨by decide +kernel, by decide +kernel, by decide +kernel⟩
theorem okn_X1_tighten : okName yX1_tighten 0 := ⟨by decide +kernel, by decide +kernel, by decide +kernel⟩
theorem okn_X1_reset : okName yX1_reset 2 := ⟨by decide +kernel, by decide +kernel, by decide +kernel⟩
theorem okn_X1_delay : okName yX1_delay 0 := ⟨by decide +kernel, by decide +kernel, by decide +kernel⟩
theorem okn_X1_goBackInTime : okName yX1_goBackInTime 0 := ⟨by decide +kernel, by decide +kernel, by decide +kernel⟩
theorem okn_X1_setFree : okName yX1_setFree 1 := ⟨by decide +kernel, by decide +kernel, by decide +kernel⟩
theorem okn_X1_copyClock : okName yX1_copyClock 2 := ⟨by decide +kernel, by decide +kernel, by decide +kernel⟩
theorem okn_X1_shift : okName yX1_shift 2 := ⟨by decide +kernel, by decide +kernel, by decide +kernel⟩
theorem okn_X1_store : okName yX1_store 1 := ⟨by decide +kernel, by decide +kernel, by decide +kernel⟩
theorem okn_X1_meet : okName yX1_meet 1 := ⟨by decide +kernel, by decide +kernel, by decide +kernel⟩
theorem okn_X1_wrap : okName yX1_wrap 1 := ⟨by decide +kernel, by decide +kernel, by decide +kernel⟩
theorem okn_X1_setStay : okName yX1_setStay 3 := ⟨by decide +kernel, by decide +kernel, by decide +kernel⟩
theorem okn_X1_addLine : okName yX1_addLine 2 := ⟨by decide +kernel, by decide +kernel, by decide +kernel⟩
theorem okn_X1_setNeed : okName yX1_setNeed 4 := ⟨by decide +kernel, by decide +kernel, by decide +kernel⟩
theorem okn_X1_turnReset : okName yX1_turnReset 2 := ⟨by decide +kernel, by decide +kernel, by decide +kernel⟩
theorem okn_X1_told : okName yX1_told 2 := ⟨by decide +kernel, by decide +kernel, by decide +kernel⟩
theorem okn_X1_needArgument : okName yX1_needArgument 1 := ⟨by decide +kernel, by decide +kernel, by decide +kernel⟩
theorem okn_X1_there : okName yX1_there 1 := ⟨by decide +kernel, by decide +kernel, by decide +kernel⟩
theorem okn_X1_needSuch : okName yX1_needSuch 1 := ⟨by decide +kernel, by decide +kernel, by decide +kernel⟩
theorem okn_X1_tightened : okName yX1_tightened 2 := ⟨by decide +kernel, by decide +kernel, by decide +kernel⟩
theorem okn_X1_tightOne : okName yX1_tightOne 0 := ⟨by decide +kernel, by decide +kernel, by decide +kernel⟩
theorem okn_X1_hasMoment : okName yX1_hasMoment 3 := ⟨by decide +kernel, by decide +kernel, by decide +kernel⟩
theorem okn_X1_isMoment : okName yX1_isMoment 1 := ⟨by decide +kernel, by decide +kernel, by decide +kernel⟩
theorem okn_X1_leastOf : okName yX1_leastOf 1 := ⟨by decide +kernel, by decide +kernel, by decide +kernel⟩
theorem okn_X1_mostOf : okName yX1_mostOf 1 := ⟨by decide +kernel, by decide +kernel, by decide +kernel⟩
theorem okn_X1_longestDelay : okName yX1_longestDelay 3 := ⟨by decide +kernel, by decide +kernel, by decide +kernel⟩
theorem okn_X1_mostTold : okName yX1_mostTold 0 := ⟨by decide +kernel, by decide +kernel, by decide +kernel⟩
theorem okn_X1_needless : okName yX1_needless 0 := ⟨by decide +kernel, by decide +kernel, by decide +kernel⟩
theorem okn_X1_isShelfEmpty : okName yX1_isShelfEmpty 1 := ⟨by decide +kernel, by decide +kernel, by decide +kernel⟩
theorem okn_X1_isWithin : okName yX1_isWithin 1 := ⟨by decide +kernel, by decide +kernel, by decide +kernel⟩
theorem okn_X1_shelved : okName yX1_shelved 1 := ⟨by decide +kernel, by decide +kernel, by decide +kernel⟩
theorem okn_X1_momentsBeyond : okName yX1_momentsBeyond 1 := ⟨by decide +kernel, by decide +kernel, by decide +kernel⟩
theorem okn_X1_doMeet : okName yX1_doMeet 1 := ⟨by decide +kernel, by decide +kernel, by decide +kernel⟩
theorem okn_X1_stayOf : okName yX1_stayOf 2 := ⟨by decide +kernel, by decide +kernel, by decide +kernel⟩
theorem okn_X1_fromOf : okName yX1_fromOf 1 := ⟨by decide +kernel, by decide +kernel, by decide +kernel⟩
theorem okn_X1_lineAt : okName yX1_lineAt 1 := ⟨by decide +kernel, by decide +kernel, by decide +kernel⟩
theorem okn_X1_toOf : okName yX1_toOf 1 := ⟨by decide +kernel, by decide +kernel, by decide +kernel⟩
theorem okn_X1_doesReset : okName yX1_doesReset 2 := ⟨by decide +kernel, by decide +kernel, by decide +kernel⟩
theorem okn_X1_reachable : okName yX1_reachable 0 := ⟨by decide +kernel, by decide +kernel, by decide +kernel⟩
theorem okn_X1_allStops : okName yX1_allStops 0 := ⟨by decide +kernel, by decide +kernel, by decide +kernel⟩
theorem okn_X1_zones : okName yX1_zones 0 := ⟨by decide +kernel, by decide +kernel, by decide +kernel⟩
theorem okn_X1_zonesOf : okName yX1_zonesOf 1 := ⟨by decide +kernel, by decide +kernel, by decide +kernel⟩
theorem okn_X1_fewestLines : okName yX1_fewestLines 1 := ⟨by decide +kernel, by decide +kernel, by decide +kernel⟩
theorem okn_X1_fewestTicks : okName yX1_fewestTicks 1 := ⟨by decide +kernel, by decide +kernel, by decide +kernel⟩
theorem okn_X1_meanBits : okName yX1_meanBits 1 := ⟨by decide +kernel, by decide +kernel, by decide +kernel⟩
theorem okn_X1_goBack : okName yX1_goBack 0 := ⟨by decide +kernel, by decide +kernel, by decide +kernel⟩
theorem okn_X1_needState : okName yX1_needState 1 := ⟨by decide +kernel, by decide +kernel, by decide +kernel⟩
theorem okn_X1_undo : okName yX1_undo 0 := ⟨by decide +kernel, by decide +kernel, by decide +kernel⟩
theorem okn_X1_type : okName yX1_type 1 := ⟨by decide +kernel, by decide +kernel, by decide +kernel⟩
theorem okn_X1_faultPosition : okName yX1_faultPosition 0 := ⟨by decide +kernel, by decide +kernel, by decide +kernel⟩
theorem okn_X1_faulty : okName yX1_faulty 0 := ⟨by decide +kernel, by decide +kernel, by decide +kernel⟩
theorem okn_X1_faultReason : okName yX1_faultReason 0 := ⟨by decide +kernel, by decide +kernel, by decide +kernel⟩
theorem okn_X1_faultCause : okName yX1_faultCause 0 := ⟨by decide +kernel, by decide +kernel, by decide +kernel⟩
theorem okn_X1_play : okName yX1_play 0 := ⟨by decide +kernel, by decide +kernel, by decide +kernel⟩
theorem okn_X2_init : okName yX2_init 0 := ⟨by decide +kernel, by decide +kernel, by decide +kernel⟩
theorem okn_X2_init_2 : okName yX2_init_2 1 := ⟨by decide +kernel, by decide +kernel, by decide +kernel⟩
theorem okn_X2_tells : okName yX2_tells 3 := ⟨by decide +kernel, by decide +kernel, by decide +kernel⟩
theorem okn_X2_takes : okName yX2_takes 1 := ⟨by decide +kernel, by decide +kernel, by decide +kernel⟩
theorem okn_X2_forgets : okName yX2_forgets 2 := ⟨by decide +kernel, by decide +kernel, by decide +kernel⟩
theorem okn_X2_forgetsAll : okName yX2_forgetsAll 0 := ⟨by decide +kernel, by decide +kernel, by decide +kernel⟩
theorem okn_X2_tightens : okName yX2_tightens 0 := ⟨by decide +kernel, by decide +kernel, by decide +kernel⟩
theorem okn_X2_readied : okName yX2_readied 0 := ⟨by decide +kernel, by decide +kernel, by decide +kernel⟩
theorem okn_X2_resets : okName yX2_resets 2 := ⟨by decide +kernel, by decide +kernel, by decide +kernel⟩
theorem okn_X2_takesWorked : okName yX2_takesWorked 1 := ⟨by decide +kernel, by decide +kernel, by decide +kernel⟩
theorem okn_X2_delays : okName yX2_delays 0 := ⟨by decide +kernel, by decide +kernel, by decide +kernel⟩
theorem okn_X2_goesBack : okName yX2_goesBack 0 := ⟨by decide +kernel, by decide +kernel, by decide +kernel⟩
theorem okn_X2_frees : okName yX2_frees 1 := ⟨by decide +kernel, by decide +kernel, by decide +kernel⟩
theorem okn_X2_copies : okName yX2_copies 2 := ⟨by decide +kernel, by decide +kernel, by decide +kernel⟩
theorem okn_X2_shifts : okName yX2_shifts 2 := ⟨by decide +kernel, by decide +kernel, by decide +kernel⟩
theorem okn_X2_puts : okName yX2_puts 1 := ⟨by decide +kernel, by decide +kernel, by decide +kernel⟩
theorem okn_X2_meets : okName yX2_meets 1 := ⟨by decide +kernel, by decide +kernel, by decide +kernel⟩
theorem okn_X2_onShelf : okName yX2_onShelf 1 := ⟨by decide +kernel, by decide +kernel, by decide +kernel⟩
theorem okn_X2_wraps : okName yX2_wraps 1 := ⟨by decide +kernel, by decide +kernel, by decide +kernel⟩
theorem okn_X2_allows : okName yX2_allows 3 := ⟨by decide +kernel, by decide +kernel, by decide +kernel⟩
theorem okn_X2_stay : okName yX2_stay 2 := ⟨by decide +kernel, by decide +kernel, by decide +kernel⟩
theorem okn_X2_getsLine : okName yX2_getsLine 2 := ⟨by decide +kernel, by decide +kernel, by decide +kernel⟩
theorem okn_X2_wants : okName yX2_wants 4 := ⟨by decide +kernel, by decide +kernel, by decide +kernel⟩
theorem okn_X2_isLine : okName yX2_isLine 1 := ⟨by decide +kernel, by decide +kernel, by decide +kernel⟩
theorem okn_X2_turnsReset : okName yX2_turnsReset 2 := ⟨by decide +kernel, by decide +kernel, by decide +kernel⟩
theorem okn_X2_harboursByMoments : okName yX2_harboursByMoments 0 := ⟨by decide +kernel, by decide +kernel, by decide +kernel⟩
theorem okn_X2_ticksTo : okName yX2_ticksTo 0 := ⟨by decide +kernel, by decide +kernel, by decide +kernel⟩
theorem okn_X2_allowed : okName yX2_allowed 1 := ⟨by decide +kernel, by decide +kernel, by decide +kernel⟩
theorem okn_X2_spreads : okName yX2_spreads 5 := ⟨by decide +kernel, by decide +kernel, by decide +kernel⟩
theorem okn_X2_moved : okName yX2_moved 2 := ⟨by decide +kernel, by decide +kernel, by decide +kernel⟩
theorem okn_X2_ticked : okName yX2_ticked 1 := ⟨by decide +kernel, by decide +kernel, by decide +kernel⟩
theorem okn_X2_stuck : okName yX2_stuck 0 := ⟨by decide +kernel, by decide +kernel, by decide +kernel⟩
theorem okn_X2_takable : okName yX2_takable 1 := ⟨by decide +kernel, by decide +kernel, by decide +kernel⟩
theorem okn_X2_usable : okName yX2_usable 0 := ⟨by decide +kernel, by decide +kernel, by decide +kernel⟩
theorem okn_X2_gathered : okName yX2_gathered 0 := ⟨by decide +kernel, by decide +kernel, by decide +kernel⟩
theorem okn_X2_start : okName yX2_start 0 := ⟨by decide +kernel, by decide +kernel, by decide +kernel⟩
theorem okn_X2_arrived : okName yX2_arrived 2 := ⟨by decide +kernel, by decide +kernel, by decide +kernel⟩
theorem okn_X2_keeps : okName yX2_keeps 2 := ⟨by decide +kernel, by decide +kernel, by decide +kernel⟩
theorem okn_X2_goes : okName yX2_goes 3 := ⟨by decide +kernel, by decide +kernel, by decide +kernel⟩
theorem okn_X2_isKnown : okName yX2_isKnown 3 := ⟨by decide +kernel, by decide +kernel, by decide +kernel⟩
theorem okn_X2_fewestTicksTo : okName yX2_fewestTicksTo 1 := ⟨by decide +kernel, by decide +kernel, by decide +kernel⟩
theorem okn_X3_init : okName yX3_init 0 := ⟨by decide +kernel, by decide +kernel, by decide +kernel⟩
theorem okn_X3_plain : okName yX3_plain 1 := ⟨by decide +kernel, by decide +kernel, by decide +kernel⟩
theorem okn_X3_init_2 : okName yX3_init_2 1 := ⟨by decide +kernel, by decide +kernel, by decide +kernel⟩
theorem okn_X3_tells : okName yX3_tells 3 := ⟨by decide +kernel, by decide +kernel, by decide +kernel⟩
theorem okn_X3_at : okName yX3_at 2 := ⟨by decide +kernel, by decide +kernel, by decide +kernel⟩
theorem okn_X3_sets : okName yX3_sets 3 := ⟨by decide +kernel, by decide +kernel, by decide +kernel⟩
theorem okn_X3_tight : okName yX3_tight 0 := ⟨by decide +kernel, by decide +kernel, by decide +kernel⟩
theorem okn_X3_tightens : okName yX3_tightens 0 := ⟨by decide +kernel, by decide +kernel, by decide +kernel⟩
theorem okn_X3_sum : okName yX3_sum 2 := ⟨by decide +kernel, by decide +kernel, by decide +kernel⟩
theorem okn_X3_hasNone : okName yX3_hasNone 0 := ⟨by decide +kernel, by decide +kernel, by decide +kernel⟩
theorem okn_X3_isTooFar : okName yX3_isTooFar 0 := ⟨by decide +kernel, by decide +kernel, by decide +kernel⟩
theorem okn_X3_isTooGreat : okName yX3_isTooGreat 0 := ⟨by decide +kernel, by decide +kernel, by decide +kernel⟩
theorem okn_X3_unlike : okName yX3_unlike 1 := ⟨by decide +kernel, by decide +kernel, by decide +kernel⟩
theorem okn_X3_resets : okName yX3_resets 2 := ⟨by decide +kernel, by decide +kernel, by decide +kernel⟩
theorem okn_X3_delays : okName yX3_delays 0 := ⟨by decide +kernel, by decide +kernel, by decide +kernel⟩
theorem okn_X3_goesBack : okName yX3_goesBack 0 := ⟨by decide +kernel, by decide +kernel, by decide +kernel⟩
theorem okn_X3_frees : okName yX3_frees 1 := ⟨by decide +kernel, by decide +kernel, by decide +kernel⟩
theorem okn_X3_copies : okName yX3_copies 2 := ⟨by decide +kernel, by decide +kernel, by decide +kernel⟩
theorem okn_X3_shifts : okName yX3_shifts 2 := ⟨by decide +kernel, by decide +kernel, by decide +kernel⟩
theorem okn_X3_isVoid : okName yX3_isVoid 0 := ⟨by decide +kernel, by decide +kernel, by decide +kernel⟩
theorem okn_X3_count : okName yX3_count 1 := ⟨by decide +kernel, by decide +kernel, by decide +kernel⟩
theorem okn_X3_decodes : okName yX3_decodes 2 := ⟨by decide +kernel, by decide +kernel, by decide +kernel⟩
theorem okn_X3_has : okName yX3_has 1 := ⟨by decide +kernel, by decide +kernel, by decide +kernel⟩
theorem okn_X3_isInside : okName yX3_isInside 1 := ⟨by decide +kernel, by decide +kernel, by decide +kernel⟩
theorem okn_X3_widens : okName yX3_widens 0 := ⟨by decide +kernel, by decide +kernel, by decide +kernel⟩
theorem okn_X3_sum_2 : okName yX3_sum_2 1 := ⟨by decide +kernel, by decide +kernel, by decide +kernel⟩
theorem okn_X4_init : okName yX4_init 0 := ⟨by decide +kernel, by decide +kernel, by decide +kernel⟩
theorem okn_X4_frees : okName yX4_frees 0 := ⟨by decide +kernel, by decide +kernel, by decide +kernel⟩
theorem okn_X4_thrown : okName yX4_thrown 0 := ⟨by decide +kernel, by decide +kernel, by decide +kernel⟩
theorem okn_X4_tell : okName yX4_tell 3 := ⟨by decide +kernel, by decide +kernel, by decide +kernel⟩
theorem okn_X4_begins : okName yX4_begins 0 := ⟨by decide +kernel, by decide +kernel, by decide +kernel⟩
theorem okn_X4_copies : okName yX4_copies 4 := ⟨by decide +kernel, by decide +kernel, by decide +kernel⟩
theorem okn_X4_goTell : okName yX4_goTell 3 := ⟨by decide +kernel, by decide +kernel, by decide +kernel⟩
theorem okn_X4_arePair : okName yX4_arePair 2 := ⟨by decide +kernel, by decide +kernel, by decide +kernel⟩
theorem okn_X4_in : okName yX4_in 3 := ⟨by decide +kernel, by decide +kernel, by decide +kernel⟩
theorem okn_X4_isTooLate : okName yX4_isTooLate 0 := ⟨by decide +kernel, by decide +kernel, by decide +kernel⟩
theorem okn_X4_looks : okName yX4_looks 0 := ⟨by decide +kernel, by decide +kernel, by decide +kernel⟩
theorem okn_X4_carries : okName yX4_carries 4 := ⟨by decide +kernel, by decide +kernel, by decide +kernel⟩
theorem okn_X4_tightens : okName yX4_tightens 2 := ⟨by decide +kernel, by decide +kernel, by decide +kernel⟩
theorem okn_X4_sum : okName yX4_sum 2 := ⟨by decide +kernel, by decide +kernel, by decide +kernel⟩
theorem okn_X4_less : okName yX4_less 2 := ⟨by decide +kernel, by decide +kernel, by decide +kernel⟩
theorem okn_X4_ends : okName yX4_ends 1 := ⟨by decide +kernel, by decide +kernel, by decide +kernel⟩
theorem okn_X4_fails : okName yX4_fails 1 := ⟨by decide +kernel, by decide +kernel, by decide +kernel⟩
theorem okn_X4_records : okName yX4_records 0 := ⟨by decide +kernel, by decide +kernel, by decide +kernel⟩
theorem okn_X4_forget : okName yX4_forget 2 := ⟨by decide +kernel, by decide +kernel, by decide +kernel⟩
theorem okn_X4_goForget : okName yX4_goForget 2 := ⟨by decide +kernel, by decide +kernel, by decide +kernel⟩
theorem okn_X4_forgetAll : okName yX4_forgetAll 0 := ⟨by decide +kernel, by decide +kernel, by decide +kernel⟩
theorem okn_X4_changed : okName yX4_changed 0 := ⟨by decide +kernel, by decide +kernel, by decide +kernel⟩
theorem okn_X4_tighten : okName yX4_tighten 0 := ⟨by decide +kernel, by decide +kernel, by decide +kernel⟩
theorem okn_X4_goTighten : okName yX4_goTighten 0 := ⟨by decide +kernel, by decide +kernel, by decide +kernel⟩
theorem okn_X4_isTooFar : okName yX4_isTooFar 0 := ⟨by decide +kernel, by decide +kernel, by decide +kernel⟩
theorem okn_X4_only : okName yX4_only 1 := ⟨by decide +kernel, by decide +kernel, by decide +kernel⟩
theorem okn_X4_reset : okName yX4_reset 2 := ⟨by decide +kernel, by decide +kernel, by decide +kernel⟩
theorem okn_X4_goReset : okName yX4_goReset 2 := ⟨by decide +kernel, by decide +kernel, by decide +kernel⟩
theorem okn_X4_isClock : okName yX4_isClock 1 := ⟨by decide +kernel, by decide +kernel, by decide +kernel⟩
theorem okn_X4_most : okName yX4_most 1 := ⟨by decide +kernel, by decide +kernel, by decide +kernel⟩
theorem okn_X4_resets : okName yX4_resets 2 := ⟨by decide +kernel, by decide +kernel, by decide +kernel⟩
theorem okn_X4_tells : okName yX4_tells 1 := ⟨by decide +kernel, by decide +kernel, by decide +kernel⟩
theorem okn_X4_delay : okName yX4_delay 0 := ⟨by decide +kernel, by decide +kernel, by decide +kernel⟩
theorem okn_X4_goDelay : okName yX4_goDelay 0 := ⟨by decide +kernel, by decide +kernel, by decide +kernel⟩
theorem okn_X4_delays : okName yX4_delays 0 := ⟨by decide +kernel, by decide +kernel, by decide +kernel⟩
theorem okn_X4_goBackInTime : okName yX4_goBackInTime 0 := ⟨by decide +kernel, by decide +kernel, by decide +kernel⟩
theorem okn_X4_goWayBack : okName yX4_goWayBack 0 := ⟨by decide +kernel, by decide +kernel, by decide +kernel⟩
theorem okn_X4_toldBounds : okName yX4_toldBounds 0 := ⟨by decide +kernel, by decide +kernel, by decide +kernel⟩
theorem okn_X4_setFree : okName yX4_setFree 1 := ⟨by decide +kernel, by decide +kernel, by decide +kernel⟩
theorem okn_X4_goFree : okName yX4_goFree 1 := ⟨by decide +kernel, by decide +kernel, by decide +kernel⟩
theorem okn_X4_copyClock : okName yX4_copyClock 2 := ⟨by decide +kernel, by decide +kernel, by decide +kernel⟩
theorem okn_X4_goCopy : okName yX4_goCopy 2 := ⟨by decide +kernel, by decide +kernel, by decide +kernel⟩
theorem okn_X4_least : okName yX4_least 1 := ⟨by decide +kernel, by decide +kernel, by decide +kernel⟩
theorem okn_X4_shift : okName yX4_shift 2 := ⟨by decide +kernel, by decide +kernel, by decide +kernel⟩
theorem okn_X4_goShift : okName yX4_goShift 2 := ⟨by decide +kernel, by decide +kernel, by decide +kernel⟩
theorem okn_X4_store : okName yX4_store 1 := ⟨by decide +kernel, by decide +kernel, by decide +kernel⟩
theorem okn_X4_isSlot : okName yX4_isSlot 1 := ⟨by decide +kernel, by decide +kernel, by decide +kernel⟩
theorem okn_X4_meet : okName yX4_meet 1 := ⟨by decide +kernel, by decide +kernel, by decide +kernel⟩
theorem okn_X4_hasZone : okName yX4_hasZone 1 := ⟨by decide +kernel, by decide +kernel, by decide +kernel⟩
theorem okn_X4_wrap : okName yX4_wrap 1 := ⟨by decide +kernel, by decide +kernel, by decide +kernel⟩
theorem okn_X4_looksAt : okName yX4_looksAt 1 := ⟨by decide +kernel, by decide +kernel, by decide +kernel⟩
theorem okn_X4_more : okName yX4_more 2 := ⟨by decide +kernel, by decide +kernel, by decide +kernel⟩
theorem okn_X4_setStay : okName yX4_setStay 3 := ⟨by decide +kernel, by decide +kernel, by decide +kernel⟩
theorem okn_X4_isHarbour : okName yX4_isHarbour 1 := ⟨by decide +kernel, by decide +kernel, by decide +kernel⟩
theorem okn_X4_addLine : okName yX4_addLine 2 := ⟨by decide +kernel, by decide +kernel, by decide +kernel⟩
theorem okn_X4_lays : okName yX4_lays 3 := ⟨by decide +kernel, by decide +kernel, by decide +kernel⟩
theorem okn_X4_setNeed : okName yX4_setNeed 4 := ⟨by decide +kernel, by decide +kernel, by decide +kernel⟩
theorem okn_X4_isLine : okName yX4_isLine 1 := ⟨by decide +kernel, by decide +kernel, by decide +kernel⟩
theorem okn_X4_line : okName yX4_line 2 := ⟨by decide +kernel, by decide +kernel, by decide +kernel⟩
theorem okn_X4_turnReset : okName yX4_turnReset 2 := ⟨by decide +kernel, by decide +kernel, by decide +kernel⟩
theorem okn_X4_told : okName yX4_told 2 := ⟨by decide +kernel, by decide +kernel, by decide +kernel⟩
theorem okn_X4_asks : okName yX4_asks 1 := ⟨by decide +kernel, by decide +kernel, by decide +kernel⟩
theorem okn_X4_bound : okName yX4_bound 2 := ⟨by decide +kernel, by decide +kernel, by decide +kernel⟩
theorem okn_X4_tightened : okName yX4_tightened 2 := ⟨by decide +kernel, by decide +kernel, by decide +kernel⟩
theorem okn_X4_isTight : okName yX4_isTight 0 := ⟨by decide +kernel, by decide +kernel, by decide +kernel⟩
theorem okn_X4_isEmpty : okName yX4_isEmpty 0 := ⟨by decide +kernel, by decide +kernel, by decide +kernel⟩
theorem okn_X4_hasNone : okName yX4_hasNone 0 := ⟨by decide +kernel, by decide +kernel, by decide +kernel⟩
theorem okn_X4_isEmptyByMoments : okName yX4_isEmptyByMoments 0 := ⟨by decide +kernel, by decide +kernel, by decide +kernel⟩
theorem okn_X4_hasMoment : okName yX4_hasMoment 3 := ⟨by decide +kernel, by decide +kernel, by decide +kernel⟩
theorem okn_X4_isMoment : okName yX4_isMoment 3 := ⟨by decide +kernel, by decide +kernel, by decide +kernel⟩
theorem okn_X4_allows : okName yX4_allows 5 := ⟨by decide +kernel, by decide +kernel, by decide +kernel⟩
theorem okn_X4_moments : okName yX4_moments 0 := ⟨by decide +kernel, by decide +kernel, by decide +kernel⟩
theorem okn_X4_toldCount : okName yX4_toldCount 0 := ⟨by decide +kernel, by decide +kernel, by decide +kernel⟩
theorem okn_X4_count : okName yX4_count 0 := ⟨by decide +kernel, by decide +kernel, by decide +kernel⟩
theorem okn_X4_looksAtMoments : okName yX4_looksAtMoments 2 := ⟨by decide +kernel, by decide +kernel, by decide +kernel⟩
theorem okn_X4_momentsTightened : okName yX4_momentsTightened 0 := ⟨by decide +kernel, by decide +kernel, by decide +kernel⟩
theorem okn_X4_leastOf : okName yX4_leastOf 1 := ⟨by decide +kernel, by decide +kernel, by decide +kernel⟩
theorem okn_X4_mostOf : okName yX4_mostOf 1 := ⟨by decide +kernel, by decide +kernel, by decide +kernel⟩
theorem okn_X4_longestDelay : okName yX4_longestDelay 3 := ⟨by decide +kernel, by decide +kernel, by decide +kernel⟩
theorem okn_X4_needless : okName yX4_needless 0 := ⟨by decide +kernel, by decide +kernel, by decide +kernel⟩
theorem okn_X4_isNeedless : okName yX4_isNeedless 1 := ⟨by decide +kernel, by decide +kernel, by decide +kernel⟩
theorem okn_X4_isShelfEmpty : okName yX4_isShelfEmpty 1 := ⟨by decide +kernel, by decide +kernel, by decide +kernel⟩
theorem okn_X4_isWithin : okName yX4_isWithin 1 := ⟨by decide +kernel, by decide +kernel, by decide +kernel⟩
theorem okn_X4_asksShelf : okName yX4_asksShelf 1 := ⟨by decide +kernel, by decide +kernel, by decide +kernel⟩
theorem okn_X4_isInside : okName yX4_isInside 4 := ⟨by decide +kernel, by decide +kernel, by decide +kernel⟩
theorem okn_X4_momentsBeyond : okName yX4_momentsBeyond 1 := ⟨by decide +kernel, by decide +kernel, by decide +kernel⟩
theorem okn_X4_doMeet : okName yX4_doMeet 1 := ⟨by decide +kernel, by decide +kernel, by decide +kernel⟩
theorem okn_X4_stayOf : okName yX4_stayOf 2 := ⟨by decide +kernel, by decide +kernel, by decide +kernel⟩
theorem okn_X4_stay : okName yX4_stay 2 := ⟨by decide +kernel, by decide +kernel, by decide +kernel⟩
theorem okn_X4_lines : okName yX4_lines 0 := ⟨by decide +kernel, by decide +kernel, by decide +kernel⟩
theorem okn_X4_fromOf : okName yX4_fromOf 1 := ⟨by decide +kernel, by decide +kernel, by decide +kernel⟩
theorem okn_X4_toOf : okName yX4_toOf 1 := ⟨by decide +kernel, by decide +kernel, by decide +kernel⟩
theorem okn_X4_doesReset : okName yX4_doesReset 2 := ⟨by decide +kernel, by decide +kernel, by decide +kernel⟩
theorem okn_X4_reachable : okName yX4_reachable 0 := ⟨by decide +kernel, by decide +kernel, by decide +kernel⟩
theorem okn_X4_spreads : okName yX4_spreads 0 := ⟨by decide +kernel, by decide +kernel, by decide +kernel⟩
theorem okn_X4_staysIn : okName yX4_staysIn 1 := ⟨by decide +kernel, by decide +kernel, by decide +kernel⟩
theorem okn_X4_adds : okName yX4_adds 2 := ⟨by decide +kernel, by decide +kernel, by decide +kernel⟩
theorem okn_X4_goes : okName yX4_goes 2 := ⟨by decide +kernel, by decide +kernel, by decide +kernel⟩
theorem okn_X4_needs : okName yX4_needs 1 := ⟨by decide +kernel, by decide +kernel, by decide +kernel⟩
theorem okn_X4_widens : okName yX4_widens 0 := ⟨by decide +kernel, by decide +kernel, by decide +kernel⟩
theorem okn_X4_isNew : okName yX4_isNew 1 := ⟨by decide +kernel, by decide +kernel, by decide +kernel⟩
theorem okn_X4_zones : okName yX4_zones 0 := ⟨by decide +kernel, by decide +kernel, by decide +kernel⟩
theorem okn_X4_zonesOf : okName yX4_zonesOf 1 := ⟨by decide +kernel, by decide +kernel, by decide +kernel⟩
theorem okn_X4_asksZones : okName yX4_asksZones 1 := ⟨by decide +kernel, by decide +kernel, by decide +kernel⟩
theorem okn_X4_fewestLines : okName yX4_fewestLines 1 := ⟨by decide +kernel, by decide +kernel, by decide +kernel⟩
theorem okn_X4_reachableByMoments : okName yX4_reachableByMoments 0 := ⟨by decide +kernel, by decide +kernel, by decide +kernel⟩
theorem okn_X4_rides : okName yX4_rides 0 := ⟨by decide +kernel, by decide +kernel, by decide +kernel⟩
theorem okn_X4_comes : okName yX4_comes 2 := ⟨by decide +kernel, by decide +kernel, by decide +kernel⟩
theorem okn_X4_carried : okName yX4_carried 2 := ⟨by decide +kernel, by decide +kernel, by decide +kernel⟩
theorem okn_X4_behind : okName yX4_behind 3 := ⟨by decide +kernel, by decide +kernel, by decide +kernel⟩
theorem okn_X4_clockAt : okName yX4_clockAt 2 := ⟨by decide +kernel, by decide +kernel, by decide +kernel⟩
theorem okn_X4_momentAt : okName yX4_momentAt 4 := ⟨by decide +kernel, by decide +kernel, by decide +kernel⟩
theorem okn_X4_ticked : okName yX4_ticked 1 := ⟨by decide +kernel, by decide +kernel, by decide +kernel⟩
theorem okn_X4_fewestTicks : okName yX4_fewestTicks 1 := ⟨by decide +kernel, by decide +kernel, by decide +kernel⟩
theorem okn_X4_stuckIn : okName yX4_stuckIn 0 := ⟨by decide +kernel, by decide +kernel, by decide +kernel⟩
theorem okn_X4_linesAt : okName yX4_linesAt 1 := ⟨by decide +kernel, by decide +kernel, by decide +kernel⟩
theorem okn_X4_usableLines : okName yX4_usableLines 0 := ⟨by decide +kernel, by decide +kernel, by decide +kernel⟩
theorem okn_X4_share : okName yX4_share 0 := ⟨by decide +kernel, by decide +kernel, by decide +kernel⟩
theorem okn_X4_part : okName yX4_part 0 := ⟨by decide +kernel, by decide +kernel, by decide +kernel⟩
theorem okn_X4_shareBits : okName yX4_shareBits 0 := ⟨by decide +kernel, by decide +kernel, by decide +kernel⟩
theorem okn_X4_meanBits : okName yX4_meanBits 1 := ⟨by decide +kernel, by decide +kernel, by decide +kernel⟩
theorem okn_X4_worked : okName yX4_worked 0 := ⟨by decide +kernel, by decide +kernel, by decide +kernel⟩
theorem okn_X4_keep : okName yX4_keep 0 := ⟨by decide +kernel, by decide +kernel, by decide +kernel⟩
theorem okn_X4_goBack : okName yX4_goBack 0 := ⟨by decide +kernel, by decide +kernel, by decide +kernel⟩
theorem okn_X4_undo : okName yX4_undo 0 := ⟨by decide +kernel, by decide +kernel, by decide +kernel⟩
theorem okn_X4_states : okName yX4_states 0 := ⟨by decide +kernel, by decide +kernel, by decide +kernel⟩
theorem okn_X4_type : okName yX4_type 1 := ⟨by decide +kernel, by decide +kernel, by decide +kernel⟩
theorem okn_X4_clearText : okName yX4_clearText 0 := ⟨by decide +kernel, by decide +kernel, by decide +kernel⟩
theorem okn_X4_faultPosition : okName yX4_faultPosition 0 := ⟨by decide +kernel, by decide +kernel, by decide +kernel⟩
theorem okn_X4_faultTold : okName yX4_faultTold 1 := ⟨by decide +kernel, by decide +kernel, by decide +kernel⟩
theorem okn_X4_doesAll : okName yX4_doesAll 0 := ⟨by decide +kernel, by decide +kernel, by decide +kernel⟩
theorem okn_X4_takesOrder : okName yX4_takesOrder 0 := ⟨by decide +kernel, by decide +kernel, by decide +kernel⟩
theorem okn_X4_here : okName yX4_here 0 := ⟨by decide +kernel, by decide +kernel, by decide +kernel⟩
theorem okn_X4_takes : okName yX4_takes 1 := ⟨by decide +kernel, by decide +kernel, by decide +kernel⟩
theorem okn_X4_takesDigit : okName yX4_takesDigit 0 := ⟨by decide +kernel, by decide +kernel, by decide +kernel⟩
theorem okn_X4_doesOrder : okName yX4_doesOrder 0 := ⟨by decide +kernel, by decide +kernel, by decide +kernel⟩
theorem okn_X4_faultReason : okName yX4_faultReason 0 := ⟨by decide +kernel, by decide +kernel, by decide +kernel⟩
theorem okn_X4_faultCause : okName yX4_faultCause 0 := ⟨by decide +kernel, by decide +kernel, by decide +kernel⟩
theorem okn_X4_play : okName yX4_play 0 := ⟨by decide +kernel, by decide +kernel, by decide +kernel⟩
theorem okn_X5_init : okName yX5_init 1 := ⟨by decide +kernel, by decide +kernel, by decide +kernel⟩
theorem okn_X5_init_2 : okName yX5_init_2 2 := ⟨by decide +kernel, by decide +kernel, by decide +kernel⟩
theorem okn_X5_isReset : okName yX5_isReset 1 := ⟨by decide +kernel, by decide +kernel, by decide +kernel⟩
theorem okn_X5_canBeTaken : okName yX5_canBeTaken 1 := ⟨by decide +kernel, by decide +kernel, by decide +kernel⟩
theorem okn_X5_taken : okName yX5_taken 1 := ⟨by decide +kernel, by decide +kernel, by decide +kernel⟩
theorem okn_X6_init : okName yX6_init 1 := ⟨by decide +kernel, by decide +kernel, by decide +kernel⟩
theorem okn_X7_init : okName yX7_init 3 := ⟨by decide +kernel, by decide +kernel, by decide +kernel⟩
theorem okn_X8_init : okName yX8_init 1 := ⟨by decide +kernel, by decide +kernel, by decide +kernel⟩
theorem okn_X8_isWell : okName yX8_isWell 0 := ⟨by decide +kernel, by decide +kernel, by decide +kernel⟩
theorem okn_X8_one : okName yX8_one 0 := ⟨by decide +kernel, by decide +kernel, by decide +kernel⟩
theorem okn_X8_isOfForm : okName yX8_isOfForm 1 := ⟨by decide +kernel, by decide +kernel, by decide +kernel⟩
theorem okn_X8_accepts : okName yX8_accepts 1 := ⟨by decide +kernel, by decide +kernel, by decide +kernel⟩
theorem okn_X8_reads : okName yX8_reads 1 := ⟨by decide +kernel, by decide +kernel, by decide +kernel⟩

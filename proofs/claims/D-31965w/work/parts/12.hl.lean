theorem pd_J0_init : mMd yJ0_init 0 := by decide +kernel
theorem pd_J14_hugeLength : mMd yJ14_hugeLength 2 := by decide +kernel
theorem pd_J14_newLength : mMd yJ14_newLength 3 := by decide +kernel
theorem pd_J16_checkLength : mMd yJ16_checkLength 2 := by decide +kernel
theorem pd_J16_copyOf : mMd yJ16_copyOf 2 := by decide +kernel
theorem pd_J16_copyOfRange : mMd yJ16_copyOfRange 3 := by decide +kernel
theorem pd_J16_copyOfRangeByte : mMd yJ16_copyOfRangeByte 3 := by decide +kernel
theorem pd_J16_copyOf_2 : mMd yJ16_copyOf_2 3 := by decide +kernel
theorem pd_J16_copyOf_3 : mMd yJ16_copyOf_3 2 := by decide +kernel
theorem pd_J16_fill : mMd yJ16_fill 4 := by decide +kernel
theorem pd_J16_rangeCheck : mMd yJ16_rangeCheck 3 := by decide +kernel
theorem pd_J17_checkIndex : mMd yJ17_checkIndex 2 := by decide +kernel
theorem pd_J18_checkFromIndexSize : mMd yJ18_checkFromIndexSize 4 := by decide +kernel
theorem pd_J18_checkFromToIndex : mMd yJ18_checkFromToIndex 4 := by decide +kernel
theorem pd_J18_checkIndex : mMd yJ18_checkIndex 3 := by decide +kernel
theorem pd_J19_canEncode : mMd yJ19_canEncode 1 := by decide +kernel
theorem pd_J19_canEncode_2 : mMd yJ19_canEncode_2 1 := by decide +kernel
theorem pd_J19_charAt : mMd yJ19_charAt 2 := by decide +kernel
theorem pd_J19_fillNull : mMd yJ19_fillNull 3 := by decide +kernel
theorem pd_J19_indexOf : mMd yJ19_indexOf 4 := by decide +kernel
theorem pd_J19_indexOfChar : mMd yJ19_indexOfChar 4 := by decide +kernel
theorem pd_J19_inflate : mMd yJ19_inflate 5 := by decide +kernel
theorem pd_J1_init : mMd yJ1_init 0 := by decide +kernel
theorem pd_J20_init : mMd yJ20_init 0 := by decide +kernel
theorem pd_J21_getChars : mMd yJ21_getChars 3 := by decide +kernel
theorem pd_J21_init : mMd yJ21_init 1 := by decide +kernel
theorem pd_J21_intValue : mMd yJ21_intValue 0 := by decide +kernel
theorem pd_J21_stringSize : mMd yJ21_stringSize 1 := by decide +kernel
theorem pd_J21_valueOf : mMd yJ21_valueOf 1 := by decide +kernel
theorem pd_J23_checkForComodification : mMd yJ23_checkForComodification 0 := by decide +kernel
theorem pd_J23_hasNext : mMd yJ23_hasNext 0 := by decide +kernel
theorem pd_J23_init : mMd yJ23_init 1 := by decide +kernel
theorem pd_J23_next : mMd yJ23_next 0 := by decide +kernel
theorem pd_J25_init : mMd yJ25_init 0 := by decide +kernel
theorem pd_J2_add : mMd yJ2_add 1 := by decide +kernel
theorem pd_J2_add_2 : mMd yJ2_add_2 3 := by decide +kernel
theorem pd_J2_elementData : mMd yJ2_elementData 1 := by decide +kernel
theorem pd_J2_get : mMd yJ2_get 1 := by decide +kernel
theorem pd_J2_grow : mMd yJ2_grow 0 := by decide +kernel
theorem pd_J2_grow_2 : mMd yJ2_grow_2 1 := by decide +kernel
theorem pd_J2_init : mMd yJ2_init 0 := by decide +kernel
theorem pd_J2_isEmpty : mMd yJ2_isEmpty 0 := by decide +kernel
theorem pd_J2_iterator : mMd yJ2_iterator 0 := by decide +kernel
theorem pd_J2_size : mMd yJ2_size 0 := by decide +kernel
theorem pd_J3_append : mMd yJ3_append 1 := by decide +kernel
theorem pd_J3_append_2 : mMd yJ3_append_2 1 := by decide +kernel
theorem pd_J3_append_3 : mMd yJ3_append_3 1 := by decide +kernel
theorem pd_J3_append_4 : mMd yJ3_append_4 1 := by decide +kernel
theorem pd_J3_append_5 : mMd yJ3_append_5 3 := by decide +kernel
theorem pd_J3_append_6 : mMd yJ3_append_6 1 := by decide +kernel
theorem pd_J3_charAt : mMd yJ3_charAt 1 := by decide +kernel
theorem pd_J3_ensureCapacityInternal : mMd yJ3_ensureCapacityInternal 1 := by decide +kernel
theorem pd_J3_getBytes : mMd yJ3_getBytes 3 := by decide +kernel
theorem pd_J3_getCoder : mMd yJ3_getCoder 0 := by decide +kernel
theorem pd_J3_getValue : mMd yJ3_getValue 0 := by decide +kernel
theorem pd_J3_inflateIfNeededFor : mMd yJ3_inflateIfNeededFor 1 := by decide +kernel
theorem pd_J3_inflateIfNeededFor_2 : mMd yJ3_inflateIfNeededFor_2 1 := by decide +kernel
theorem pd_J3_init : mMd yJ3_init 1 := by decide +kernel
theorem pd_J3_isLatin1 : mMd yJ3_isLatin1 0 := by decide +kernel
theorem pd_J3_length : mMd yJ3_length 0 := by decide +kernel
theorem pd_J3_newCapacity : mMd yJ3_newCapacity 1 := by decide +kernel
theorem pd_J3_putStringAt : mMd yJ3_putStringAt 2 := by decide +kernel
theorem pd_J3_setLength : mMd yJ3_setLength 1 := by decide +kernel
theorem pd_J4_append : mMd yJ4_append 1 := by decide +kernel
theorem pd_J4_append_2 : mMd yJ4_append_2 1 := by decide +kernel
theorem pd_J4_append_4 : mMd yJ4_append_4 1 := by decide +kernel
theorem pd_J4_append_6 : mMd yJ4_append_6 3 := by decide +kernel
theorem pd_J4_charAt : mMd yJ4_charAt 1 := by decide +kernel
theorem pd_J4_init : mMd yJ4_init 0 := by decide +kernel
theorem pd_J4_length : mMd yJ4_length 0 := by decide +kernel
theorem pd_J4_setLength : mMd yJ4_setLength 1 := by decide +kernel
theorem pd_J4_toString : mMd yJ4_toString 0 := by decide +kernel
theorem pd_J5_charAt : mMd yJ5_charAt 1 := by decide +kernel
theorem pd_J5_checkIndex : mMd yJ5_checkIndex 2 := by decide +kernel
theorem pd_J5_coder : mMd yJ5_coder 0 := by decide +kernel
theorem pd_J5_getBytes : mMd yJ5_getBytes 3 := by decide +kernel
theorem pd_J5_indexOf : mMd yJ5_indexOf 1 := by decide +kernel
theorem pd_J5_indexOf_2 : mMd yJ5_indexOf_2 2 := by decide +kernel
theorem pd_J5_init : mMd yJ5_init 1 := by decide +kernel
theorem pd_J5_init_2 : mMd yJ5_init_2 2 := by decide +kernel
theorem pd_J5_isLatin1 : mMd yJ5_isLatin1 0 := by decide +kernel
theorem pd_J5_length : mMd yJ5_length 0 := by decide +kernel
theorem pd_J5_value : mMd yJ5_value 0 := by decide +kernel
theorem pd_J7_init : mMd yJ7_init 1 := by decide +kernel
theorem pd_J7_init_2 : mMd yJ7_init_2 0 := by decide +kernel
theorem pd_J7_init_3 : mMd yJ7_init_3 4 := by decide +kernel
theorem pd_J8_init_3 : mMd yJ8_init_3 4 := by decide +kernel
theorem pd_X0_addSluice : mMd yX0_addSluice 5 := by decide +kernel
theorem pd_X0_addWalker : mMd yX0_addWalker 2 := by decide +kernel
theorem pd_X0_cellAt : mMd yX0_cellAt 4 := by decide +kernel
theorem pd_X0_curve : mMd yX0_curve 5 := by decide +kernel
theorem pd_X0_end : mMd yX0_end 4 := by decide +kernel
theorem pd_X0_level : mMd yX0_level 3 := by decide +kernel
theorem pd_X0_looks : mMd yX0_looks 4 := by decide +kernel
theorem pd_X0_nextYear : mMd yX0_nextYear 2 := by decide +kernel
theorem pd_X0_note : mMd yX0_note 7 := by decide +kernel
theorem pd_X0_numbers : mMd yX0_numbers 6 := by decide +kernel
theorem pd_X0_pass : mMd yX0_pass 3 := by decide +kernel
theorem pd_X0_route : mMd yX0_route 3 := by decide +kernel
theorem pd_X0_routeAt : mMd yX0_routeAt 4 := by decide +kernel
theorem pd_X0_routeLength : mMd yX0_routeLength 3 := by decide +kernel
theorem pd_X0_setCell : mMd yX0_setCell 6 := by decide +kernel
theorem pd_X0_setInflow : mMd yX0_setInflow 4 := by decide +kernel
theorem pd_X0_setKind : mMd yX0_setKind 6 := by decide +kernel
theorem pd_X0_setSluice : mMd yX0_setSluice 4 := by decide +kernel
theorem pd_X0_share : mMd yX0_share 3 := by decide +kernel
theorem pd_X0_total : mMd yX0_total 4 := by decide +kernel
theorem pd_X0_type : mMd yX0_type 3 := by decide +kernel
theorem pd_X0_walk : mMd yX0_walk 5 := by decide +kernel
theorem pd_X0_walkAt : mMd yX0_walkAt 4 := by decide +kernel
theorem pd_X0_worth : mMd yX0_worth 3 := by decide +kernel
theorem pd_X10_init : mMd yX10_init 2 := by decide +kernel
theorem pd_X11_goOnce : mMd yX11_goOnce 1 := by decide +kernel
theorem pd_X11_init : mMd yX11_init 2 := by decide +kernel
theorem pd_X12_here : mMd yX12_here 0 := by decide +kernel
theorem pd_X12_init : mMd yX12_init 1 := by decide +kernel
theorem pd_X12_step : mMd yX12_step 2 := by decide +kernel
theorem pd_X13_init : mMd yX13_init 2 := by decide +kernel
theorem pd_X14_distanceOf : mMd yX14_distanceOf 1 := by decide +kernel
theorem pd_X14_init : mMd yX14_init 1 := by decide +kernel
theorem pd_X15_fault : mMd yX15_fault 0 := by decide +kernel
theorem pd_X15_init : mMd yX15_init 1 := by decide +kernel
theorem pd_X16_init : mMd yX16_init 0 := by decide +kernel
theorem pd_X17_init : mMd yX17_init 4 := by decide +kernel
theorem pd_X17_noted : mMd yX17_noted 2 := by decide +kernel
theorem pd_X18_cell : mMd yX18_cell 0 := by decide +kernel
theorem pd_X18_init : mMd yX18_init 4 := by decide +kernel
theorem pd_X18_kind : mMd yX18_kind 0 := by decide +kernel
theorem pd_X18_many : mMd yX18_many 0 := by decide +kernel
theorem pd_X18_place : mMd yX18_place 0 := by decide +kernel
theorem pd_X1_addSluice : mMd yX1_addSluice 3 := by decide +kernel
theorem pd_X1_addUp : mMd yX1_addUp 1 := by decide +kernel
theorem pd_X1_addWalker : mMd yX1_addWalker 0 := by decide +kernel
theorem pd_X1_at : mMd yX1_at 2 := by decide +kernel
theorem pd_X1_cellAt : mMd yX1_cellAt 2 := by decide +kernel
theorem pd_X1_checkArgument : mMd yX1_checkArgument 1 := by decide +kernel
theorem pd_X1_checkIndex : mMd yX1_checkIndex 2 := by decide +kernel
theorem pd_X1_checkRange : mMd yX1_checkRange 3 := by decide +kernel
theorem pd_X1_checkState : mMd yX1_checkState 1 := by decide +kernel
theorem pd_X1_curve : mMd yX1_curve 3 := by decide +kernel
theorem pd_X1_curveOf : mMd yX1_curveOf 3 := by decide +kernel
theorem pd_X1_depthOf : mMd yX1_depthOf 1 := by decide +kernel
theorem pd_X1_distance : mMd yX1_distance 2 := by decide +kernel
theorem pd_X1_doneShare : mMd yX1_doneShare 0 := by decide +kernel
theorem pd_X1_doubt : mMd yX1_doubt 2 := by decide +kernel
theorem pd_X1_end : mMd yX1_end 2 := by decide +kernel
theorem pd_X1_endDay : mMd yX1_endDay 0 := by decide +kernel
theorem pd_X1_errorCode : mMd yX1_errorCode 0 := by decide +kernel
theorem pd_X1_errorOffset : mMd yX1_errorOffset 0 := by decide +kernel
theorem pd_X1_errors : mMd yX1_errors 0 := by decide +kernel
theorem pd_X1_flow : mMd yX1_flow 1 := by decide +kernel
theorem pd_X1_greatest : mMd yX1_greatest 1 := by decide +kernel
theorem pd_X1_init : mMd yX1_init 0 := by decide +kernel
theorem pd_X1_joined : mMd yX1_joined 4 := by decide +kernel
theorem pd_X1_level : mMd yX1_level 1 := by decide +kernel
theorem pd_X1_likers : mMd yX1_likers 1 := by decide +kernel
theorem pd_X1_looks : mMd yX1_looks 2 := by decide +kernel
theorem pd_X1_meanDoubt : mMd yX1_meanDoubt 0 := by decide +kernel
theorem pd_X1_nextRoute : mMd yX1_nextRoute 0 := by decide +kernel
theorem pd_X1_nextYear : mMd yX1_nextYear 0 := by decide +kernel
theorem pd_X1_note : mMd yX1_note 5 := by decide +kernel
theorem pd_X1_numbers : mMd yX1_numbers 4 := by decide +kernel
theorem pd_X1_pass : mMd yX1_pass 1 := by decide +kernel
theorem pd_X1_percentOf : mMd yX1_percentOf 1 := by decide +kernel
theorem pd_X1_readRoute : mMd yX1_readRoute 1 := by decide +kernel
theorem pd_X1_route : mMd yX1_route 1 := by decide +kernel
theorem pd_X1_routeAt : mMd yX1_routeAt 2 := by decide +kernel
theorem pd_X1_routeLength : mMd yX1_routeLength 1 := by decide +kernel
theorem pd_X1_setCell : mMd yX1_setCell 4 := by decide +kernel
theorem pd_X1_setInflow : mMd yX1_setInflow 2 := by decide +kernel
theorem pd_X1_setKind : mMd yX1_setKind 4 := by decide +kernel
theorem pd_X1_setSluice : mMd yX1_setSluice 2 := by decide +kernel
theorem pd_X1_share : mMd yX1_share 1 := by decide +kernel
theorem pd_X1_shareOf : mMd yX1_shareOf 1 := by decide +kernel
theorem pd_X1_tell : mMd yX1_tell 4 := by decide +kernel
theorem pd_X1_tellAll : mMd yX1_tellAll 1 := by decide +kernel
theorem pd_X1_total : mMd yX1_total 2 := by decide +kernel
theorem pd_X1_type : mMd yX1_type 1 := by decide +kernel
theorem pd_X1_walk : mMd yX1_walk 3 := by decide +kernel
theorem pd_X1_walkAt : mMd yX1_walkAt 2 := by decide +kernel
theorem pd_X1_worth : mMd yX1_worth 1 := by decide +kernel
theorem pd_X1_worthOf : mMd yX1_worthOf 1 := by decide +kernel
theorem pd_X2_endDay : mMd yX2_endDay 1 := by decide +kernel
theorem pd_X2_init : mMd yX2_init 0 := by decide +kernel
theorem pd_X2_init_2 : mMd yX2_init_2 3 := by decide +kernel
theorem pd_X3_init : mMd yX3_init 0 := by decide +kernel
theorem pd_X4_add : mMd yX4_add 1 := by decide +kernel
theorem pd_X4_addSluice : mMd yX4_addSluice 3 := by decide +kernel
theorem pd_X4_addWalker : mMd yX4_addWalker 0 := by decide +kernel
theorem pd_X4_answered : mMd yX4_answered 1 := by decide +kernel
theorem pd_X4_cellAt : mMd yX4_cellAt 2 := by decide +kernel
theorem pd_X4_closing : mMd yX4_closing 1 := by decide +kernel
theorem pd_X4_curve : mMd yX4_curve 3 := by decide +kernel
theorem pd_X4_curveOf : mMd yX4_curveOf 3 := by decide +kernel
theorem pd_X4_depth : mMd yX4_depth 1 := by decide +kernel
theorem pd_X4_distance : mMd yX4_distance 2 := by decide +kernel
theorem pd_X4_doneShare : mMd yX4_doneShare 0 := by decide +kernel
theorem pd_X4_doubt : mMd yX4_doubt 2 := by decide +kernel
theorem pd_X4_end : mMd yX4_end 2 := by decide +kernel
theorem pd_X4_errorCode : mMd yX4_errorCode 0 := by decide +kernel
theorem pd_X4_errorOffset : mMd yX4_errorOffset 0 := by decide +kernel
theorem pd_X4_errors : mMd yX4_errors 0 := by decide +kernel
theorem pd_X4_fails : mMd yX4_fails 3 := by decide +kernel
theorem pd_X4_far : mMd yX4_far 2 := by decide +kernel
theorem pd_X4_find : mMd yX4_find 3 := by decide +kernel
theorem pd_X4_go : mMd yX4_go 2 := by decide +kernel
theorem pd_X4_grow : mMd yX4_grow 1 := by decide +kernel
theorem pd_X4_init : mMd yX4_init 0 := by decide +kernel
theorem pd_X4_is : mMd yX4_is 1 := by decide +kernel
theorem pd_X4_isIn : mMd yX4_isIn 3 := by decide +kernel
theorem pd_X4_isRoute : mMd yX4_isRoute 1 := by decide +kernel
theorem pd_X4_isWay : mMd yX4_isWay 1 := by decide +kernel
theorem pd_X4_letter : mMd yX4_letter 1 := by decide +kernel
theorem pd_X4_level : mMd yX4_level 1 := by decide +kernel
theorem pd_X4_looks : mMd yX4_looks 2 := by decide +kernel
theorem pd_X4_meanDoubt : mMd yX4_meanDoubt 0 := by decide +kernel
theorem pd_X4_nextRoute : mMd yX4_nextRoute 0 := by decide +kernel
theorem pd_X4_nextYear : mMd yX4_nextYear 0 := by decide +kernel
theorem pd_X4_noCell : mMd yX4_noCell 1 := by decide +kernel
theorem pd_X4_noKind : mMd yX4_noKind 1 := by decide +kernel
theorem pd_X4_noPond : mMd yX4_noPond 1 := by decide +kernel
theorem pd_X4_noRoute : mMd yX4_noRoute 1 := by decide +kernel
theorem pd_X4_noWalk : mMd yX4_noWalk 1 := by decide +kernel
theorem pd_X4_noWalker : mMd yX4_noWalker 1 := by decide +kernel
theorem pd_X4_note : mMd yX4_note 5 := by decide +kernel
theorem pd_X4_numbers : mMd yX4_numbers 4 := by decide +kernel
theorem pd_X4_pass : mMd yX4_pass 1 := by decide +kernel
theorem pd_X4_read : mMd yX4_read 1 := by decide +kernel
theorem pd_X4_route : mMd yX4_route 1 := by decide +kernel
theorem pd_X4_routeAt : mMd yX4_routeAt 2 := by decide +kernel
theorem pd_X4_routeLength : mMd yX4_routeLength 1 := by decide +kernel
theorem pd_X4_saw : mMd yX4_saw 4 := by decide +kernel
theorem pd_X4_setCell : mMd yX4_setCell 4 := by decide +kernel
theorem pd_X4_setInflow : mMd yX4_setInflow 2 := by decide +kernel
theorem pd_X4_setKind : mMd yX4_setKind 4 := by decide +kernel
theorem pd_X4_setSluice : mMd yX4_setSluice 2 := by decide +kernel
theorem pd_X4_share : mMd yX4_share 1 := by decide +kernel
theorem pd_X4_shareOf : mMd yX4_shareOf 1 := by decide +kernel
theorem pd_X4_step : mMd yX4_step 1 := by decide +kernel
theorem pd_X4_suits : mMd yX4_suits 2 := by decide +kernel
theorem pd_X4_tell : mMd yX4_tell 4 := by decide +kernel
theorem pd_X4_thrown : mMd yX4_thrown 0 := by decide +kernel
theorem pd_X4_total : mMd yX4_total 2 := by decide +kernel
theorem pd_X4_type : mMd yX4_type 1 := by decide +kernel
theorem pd_X4_walk : mMd yX4_walk 3 := by decide +kernel
theorem pd_X4_walkAt : mMd yX4_walkAt 2 := by decide +kernel
theorem pd_X4_worth : mMd yX4_worth 1 := by decide +kernel
theorem pd_X4_worthOf : mMd yX4_worthOf 1 := by decide +kernel
theorem pd_X4_wrong : mMd yX4_wrong 1 := by decide +kernel
theorem pd_X5_init : mMd yX5_init 3 := by decide +kernel
theorem pd_X6_all : mMd yX6_all 0 := by decide +kernel
theorem pd_X6_init : mMd yX6_init 1 := by decide +kernel
theorem pd_X6_isAtItem : mMd yX6_isAtItem 0 := by decide +kernel
theorem pd_X6_item : mMd yX6_item 1 := by decide +kernel
theorem pd_X6_need : mMd yX6_need 2 := by decide +kernel
theorem pd_X6_sign : mMd yX6_sign 0 := by decide +kernel
theorem pd_X6_steps : mMd yX6_steps 1 := by decide +kernel
theorem pd_X7_go : mMd yX7_go 1 := by decide +kernel
theorem pd_X7_init : mMd yX7_init 0 := by decide +kernel
theorem pd_X8_goOnce : mMd yX8_goOnce 1 := by decide +kernel
theorem pd_X8_init : mMd yX8_init 0 := by decide +kernel
theorem pd_X9_init : mMd yX9_init 2 := by decide +kernel
theorem pdi_0 : mMd ⟨"java/lang/CharSequence", "charAt", "(I)C"⟩ 1 := by decide +kernel
theorem pdi_1 : mMd ⟨"java/lang/CharSequence", "length", "()I"⟩ 0 := by decide +kernel
theorem pdi_2 : mMd ⟨"java/util/List", "size", "()I"⟩ 0 := by decide +kernel
theorem pdi_3 : mMd ⟨"java/util/List", "add", "(Ljava/lang/Object;)Z"⟩ 1 := by decide +kernel
theorem pdi_4 : mMd ⟨"java/util/List", "get", "(I)Ljava/lang/Object;"⟩ 1 := by decide +kernel
theorem pdi_5 : mMd ⟨"java/util/List", "iterator", "()Ljava/util/Iterator;"⟩ 0 := by decide +kernel
theorem pdi_6 : mMd ⟨"java/util/Iterator", "next", "()Ljava/lang/Object;"⟩ 0 := by decide +kernel
theorem pdi_7 : mMd ⟨"java/util/Iterator", "hasNext", "()Z"⟩ 0 := by decide +kernel
theorem pdi_8 : mMd ⟨"java/util/List", "isEmpty", "()Z"⟩ 0 := by decide +kernel
def dfsJ2 : List Value := [.int 0, .null, .int 0]
theorem dfJ2 : ∀ j, j < 3 → defaultValue (tyJ2 j) = vp_V dfsJ2 j := by decide +kernel
def dfsJ21 : List Value := [.int 0]
theorem dfJ21 : ∀ j, j < 1 → defaultValue (tyJ21 j) = vp_V dfsJ21 j := by decide +kernel
def dfsJ23 : List Value := [.int 0, .int 0, .int 0, .null]
theorem dfJ23 : ∀ j, j < 4 → defaultValue (tyJ23 j) = vp_V dfsJ23 j := by decide +kernel
def dfsJ4 : List Value := [.null, .int 0, .int 0, .int 0]
theorem dfJ4 : ∀ j, j < 4 → defaultValue (tyJ4 j) = vp_V dfsJ4 j := by decide +kernel
def dfsJ5 : List Value := [.null, .int 0, .int 0, .int 0]
theorem dfJ5 : ∀ j, j < 4 → defaultValue (tyJ5 j) = vp_V dfsJ5 j := by decide +kernel
def dfsX1 : List Value := [.null, .null, .null, .null, .null, .null, .null, .null, .null, .null, .null, .null, .null, .int 0, .int 0, .int 0, .int 0, .int 0]
theorem dfX1 : ∀ j, j < 18 → defaultValue (tyX1 j) = vp_V dfsX1 j := by decide +kernel
def dfsX10 : List Value := [.int 0, .int 0, .null, .null, .null, .null, .null, .int 0]
theorem dfX10 : ∀ j, j < 8 → defaultValue (tyX10 j) = vp_V dfsX10 j := by decide +kernel
def dfsX11 : List Value := [.int 0, .int 0, .int 0]
theorem dfX11 : ∀ j, j < 3 → defaultValue (tyX11 j) = vp_V dfsX11 j := by decide +kernel
def dfsX12 : List Value := [.null]
theorem dfX12 : ∀ j, j < 1 → defaultValue (tyX12 j) = vp_V dfsX12 j := by decide +kernel
def dfsX13 : List Value := [.int 0, .int 0, .null, .null, .null, .null, .null, .int 0]
theorem dfX13 : ∀ j, j < 8 → defaultValue (tyX13 j) = vp_V dfsX13 j := by decide +kernel
def dfsX14 : List Value := [.null]
theorem dfX14 : ∀ j, j < 1 → defaultValue (tyX14 j) = vp_V dfsX14 j := by decide +kernel
def dfsX15 : List Value := [.null, .null, .null, .null, .null, .int 0]
theorem dfX15 : ∀ j, j < 6 → defaultValue (tyX15 j) = vp_V dfsX15 j := by decide +kernel
def dfsX16 : List Value := [.null]
theorem dfX16 : ∀ j, j < 1 → defaultValue (tyX16 j) = vp_V dfsX16 j := by decide +kernel
def dfsX17 : List Value := [.int 0, .int 0, .int 0, .int 0, .int 0, .null]
theorem dfX17 : ∀ j, j < 6 → defaultValue (tyX17 j) = vp_V dfsX17 j := by decide +kernel
def dfsX18 : List Value := [.int 0, .int 0, .int 0, .int 0]
theorem dfX18 : ∀ j, j < 4 → defaultValue (tyX18 j) = vp_V dfsX18 j := by decide +kernel
def dfsX2 : List Value := [.int 0, .int 0, .int 0, .int 0, .int 0]
theorem dfX2 : ∀ j, j < 5 → defaultValue (tyX2 j) = vp_V dfsX2 j := by decide +kernel
def dfsX3 : List Value := [.int 0, .int 0, .int 0]
theorem dfX3 : ∀ j, j < 3 → defaultValue (tyX3 j) = vp_V dfsX3 j := by decide +kernel
def dfsX4 : List Value := [.int 0, .int 0, .int 0, .null, .null, .null, .null, .null, .null, .null, .null, .null, .null, .int 0, .null, .null, .null, .null, .int 0, .int 0, .int 0, .int 0, .null, .null, .int 0, .int 0, .null, .int 0, .int 0, .int 0, .null, .null, .null, .null, .null, .null, .null, .null, .null, .null, .null, .null, .null, .null, .null, .null, .null, .int 0, .int 0]
theorem dfX4 : ∀ j, j < 49 → defaultValue (tyX4 j) = vp_V dfsX4 j := by decide +kernel
def dfsX5 : List Value := [.int 0, .int 0, .int 0, .int 0]
theorem dfX5 : ∀ j, j < 4 → defaultValue (tyX5 j) = vp_V dfsX5 j := by decide +kernel
def dfsX6 : List Value := [.null, .int 0]
theorem dfX6 : ∀ j, j < 2 → defaultValue (tyX6 j) = vp_V dfsX6 j := by decide +kernel
def dfsX8 : List Value := [.int 0, .null]
theorem dfX8 : ∀ j, j < 2 → defaultValue (tyX8 j) = vp_V dfsX8 j := by decide +kernel
def nm_IllegalArgumentException : List String := ["java/lang/RuntimeException", "java/lang/Exception"]
theorem tw_IllegalArgumentException_X1_a : (vx_at0 "Hidecount" 83 "java/lang/IllegalArgumentException" nm_IllegalArgumentException).all (fun w => decide (w ∈ lw_tbl) && (goodWord w || mBk w)) = true := by decide +kernel
theorem tw_IllegalArgumentException_X1_b : ∀ w ∈ Cond.classLink "Hidecount" 81 "java/lang/IllegalArgumentException" :: Cond.initialized "java/lang/IllegalArgumentException" :: vx_at0 "Hidecount" 83 "java/lang/IllegalArgumentException" nm_IllegalArgumentException, vx_ot w = true := by decide +kernel
def nm_IllegalStateException : List String := ["java/lang/RuntimeException", "java/lang/Exception"]
theorem tw_IllegalStateException_X1_a : (vx_at0 "Hidecount" 90 "java/lang/IllegalStateException" nm_IllegalStateException).all (fun w => decide (w ∈ lw_tbl) && (goodWord w || mBk w)) = true := by decide +kernel
theorem tw_IllegalStateException_X1_b : ∀ w ∈ Cond.classLink "Hidecount" 88 "java/lang/IllegalStateException" :: Cond.initialized "java/lang/IllegalStateException" :: vx_at0 "Hidecount" 90 "java/lang/IllegalStateException" nm_IllegalStateException, vx_ot w = true := by decide +kernel
def nm_IndexOutOfBoundsException : List String := ["java/lang/RuntimeException", "java/lang/Exception"]
theorem tw_IndexOutOfBoundsException_X1_a : (vx_at0 "Hidecount" 93 "java/lang/IndexOutOfBoundsException" nm_IndexOutOfBoundsException).all (fun w => decide (w ∈ lw_tbl) && (goodWord w || mBk w)) = true := by decide +kernel
theorem tw_IndexOutOfBoundsException_X1_b : ∀ w ∈ Cond.classLink "Hidecount" 91 "java/lang/IndexOutOfBoundsException" :: Cond.initialized "java/lang/IndexOutOfBoundsException" :: vx_at0 "Hidecount" 93 "java/lang/IndexOutOfBoundsException" nm_IndexOutOfBoundsException, vx_ot w = true := by decide +kernel
theorem mSw0_3 {x : Int32} (h0 : ¬ x = 0) (h1 : ¬ x = 1) (h2 : ¬ x = 2) (h3 : ¬ x = 3) : x.toInt < 0 ∨ 3 < x.toInt := by
  refine Classical.byContradiction fun hc => ?_
  have e : x = Int32.ofInt x.toInt := by simp
  have hz9 : 0 ≤ x.toInt ∧ x.toInt ≤ 3 := by omega
  generalize x.toInt = z at e hz9 hc
  have : z = 0 ∨ z = 1 ∨ z = 2 ∨ z = 3 := by omega
  rcases this with rfl | rfl | rfl | rfl
  · exact h0 e
  · exact h1 e
  · exact h2 e
  · exact h3 e
theorem mSw0_4 {x : Int32} (h0 : ¬ x = 0) (h1 : ¬ x = 1) (h2 : ¬ x = 2) (h3 : ¬ x = 3) (h4 : ¬ x = 4) : x.toInt < 0 ∨ 4 < x.toInt := by
  refine Classical.byContradiction fun hc => ?_
  have e : x = Int32.ofInt x.toInt := by simp
  have hz9 : 0 ≤ x.toInt ∧ x.toInt ≤ 4 := by omega
  generalize x.toInt = z at e hz9 hc
  have : z = 0 ∨ z = 1 ∨ z = 2 ∨ z = 3 ∨ z = 4 := by omega
  rcases this with rfl | rfl | rfl | rfl | rfl
  · exact h0 e
  · exact h1 e
  · exact h2 e
  · exact h3 e
  · exact h4 e
theorem mSw0_29 {x : Int32} (h0 : ¬ x = 0) (h1 : ¬ x = 1) (h2 : ¬ x = 2) (h3 : ¬ x = 3) (h4 : ¬ x = 4) (h5 : ¬ x = 5) (h6 : ¬ x = 6) (h7 : ¬ x = 7) (h8 : ¬ x = 8) (h9 : ¬ x = 9) (h10 : ¬ x = 10) (h11 : ¬ x = 11) (h12 : ¬ x = 12) (h13 : ¬ x = 13) (h14 : ¬ x = 14) (h15 : ¬ x = 15) (h16 : ¬ x = 16) (h17 : ¬ x = 17) (h18 : ¬ x = 18) (h19 : ¬ x = 19) (h20 : ¬ x = 20) (h21 : ¬ x = 21) (h22 : ¬ x = 22) (h23 : ¬ x = 23) (h24 : ¬ x = 24) (h25 : ¬ x = 25) (h26 : ¬ x = 26) (h27 : ¬ x = 27) (h28 : ¬ x = 28) (h29 : ¬ x = 29) : x.toInt < 0 ∨ 29 < x.toInt := by
  refine Classical.byContradiction fun hc => ?_
  have e : x = Int32.ofInt x.toInt := by simp
  have hz9 : 0 ≤ x.toInt ∧ x.toInt ≤ 29 := by omega
  generalize x.toInt = z at e hz9 hc
  have : z = 0 ∨ z = 1 ∨ z = 2 ∨ z = 3 ∨ z = 4 ∨ z = 5 ∨ z = 6 ∨ z = 7 ∨ z = 8 ∨ z = 9 ∨ z = 10 ∨ z = 11 ∨ z = 12 ∨ z = 13 ∨ z = 14 ∨ z = 15 ∨ z = 16 ∨ z = 17 ∨ z = 18 ∨ z = 19 ∨ z = 20 ∨ z = 21 ∨ z = 22 ∨ z = 23 ∨ z = 24 ∨ z = 25 ∨ z = 26 ∨ z = 27 ∨ z = 28 ∨ z = 29 := by omega
  rcases this with rfl | rfl | rfl | rfl | rfl | rfl | rfl | rfl | rfl | rfl | rfl | rfl | rfl | rfl | rfl | rfl | rfl | rfl | rfl | rfl | rfl | rfl | rfl | rfl | rfl | rfl | rfl | rfl | rfl | rfl
  · exact h0 e
  · exact h1 e
  · exact h2 e
  · exact h3 e
  · exact h4 e
  · exact h5 e
  · exact h6 e
  · exact h7 e
  · exact h8 e
  · exact h9 e
  · exact h10 e
  · exact h11 e
  · exact h12 e
  · exact h13 e
  · exact h14 e
  · exact h15 e
  · exact h16 e
  · exact h17 e
  · exact h18 e
  · exact h19 e
  · exact h20 e
  · exact h21 e
  · exact h22 e
  · exact h23 e
  · exact h24 e
  · exact h25 e
  · exact h26 e
  · exact h27 e
  · exact h28 e
  · exact h29 e

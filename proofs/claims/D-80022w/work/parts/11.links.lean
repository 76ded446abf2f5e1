/-! links of fields and methods, as the rows of V ask them (by a program) -/
set_option maxRecDepth 100000
abbrev YJ0_init : xY := (yJ0_init, cJ0_init, 1, none, [])
theorem ok_YJ0_init : xYok YJ0_init := ⟨q149, rfl, q80, by decide, by decide, by decide⟩
abbrev YJ0_init_2 : xY := (yJ0_init_2, cJ0_init_2, 5, none, [])
theorem ok_YJ0_init_2 : xYok YJ0_init_2 := ⟨q178, rfl, q80, by decide, by decide, by decide⟩
abbrev YJ1_init : xY := (yJ1_init, cJ1_init, 5, none, [])
theorem ok_YJ1_init : xYok YJ1_init := ⟨q175, rfl, q81, by decide, by decide, by decide⟩
abbrev YJ10_fill : xY := (yJ10_fill, cJ10_fill, 5, none, [])
theorem ok_YJ10_fill : xYok YJ10_fill := ⟨q967, rfl, q110, by decide, by decide, by decide⟩
abbrev YJ10_fill_2 : xY := (yJ10_fill_2, cJ10_fill_2, 4, none, [])
theorem ok_YJ10_fill_2 : xYok YJ10_fill_2 := ⟨q1123, rfl, q110, by decide, by decide, by decide⟩
abbrev YJ11_init : xY := (yJ11_init, cJ11_init, 1, none, [])
abbrev YJ2_init : xY := (yJ2_init, cJ2_init, 5, none, [])
theorem ok_YJ2_init : xYok YJ2_init := ⟨q172, rfl, q82, by decide, by decide, by decide⟩
abbrev YJ3_ordinal : xY := (yJ3_ordinal, cJ3_ordinal, 1, (some .int), [])
theorem ok_YJ3_ordinal : xYok YJ3_ordinal := ⟨q949, rfl, q94, by decide, by decide, by decide⟩
abbrev YJ4_indexOf : xY := (yJ4_indexOf, cJ4_indexOf, 2, (some .int), [])
theorem ok_YJ4_indexOf : xYok YJ4_indexOf := ⟨q593, rfl, q99, by decide, by decide, by decide⟩
abbrev YJ4_indexOf_2 : xY := (yJ4_indexOf_2, cJ4_indexOf_2, 3, (some .int), [])
theorem ok_YJ4_indexOf_2 : xYok YJ4_indexOf_2 := ⟨q597, rfl, q99, by decide, by decide, by decide⟩
abbrev YJ4_isLatin1 : xY := (yJ4_isLatin1, cJ4_isLatin1, 1, (some .boolean), [])
theorem ok_YJ4_isLatin1 : xYok YJ4_isLatin1 := ⟨q601, rfl, q99, by decide, by decide, by decide⟩
abbrev YJ4_length : xY := (yJ4_length, cJ4_length, 1, (some .int), [])
theorem ok_YJ4_length : xYok YJ4_length := ⟨q607, rfl, q99, by decide, by decide, by decide⟩
abbrev YJ4_coder : xY := (yJ4_coder, cJ4_coder, 1, (some .byte), [])
theorem ok_YJ4_coder : xYok YJ4_coder := ⟨q611, rfl, q99, by decide, by decide, by decide⟩
abbrev YJ4_checkBoundsBeginEnd : xY := (yJ4_checkBoundsBeginEnd, cJ4_checkBoundsBeginEnd, 3, none, [])
theorem ok_YJ4_checkBoundsBeginEnd : xYok YJ4_checkBoundsBeginEnd := ⟨q644, rfl, q99, by decide, by decide, by decide⟩
abbrev YJ4_charAt : xY := (yJ4_charAt, cJ4_charAt, 2, (some .char), [])
theorem ok_YJ4_charAt : xYok YJ4_charAt := ⟨q785, rfl, q99, by decide, by decide, by decide⟩
abbrev YJ4_checkIndex : xY := (yJ4_checkIndex, cJ4_checkIndex, 2, none, [])
theorem ok_YJ4_checkIndex : xYok YJ4_checkIndex := ⟨q791, rfl, q99, by decide, by decide, by decide⟩
abbrev YJ5_indexOf : xY := (yJ5_indexOf, cJ5_indexOf, 4, (some .int), [])
theorem ok_YJ5_indexOf : xYok YJ5_indexOf := ⟨q614, rfl, q100, by decide, by decide, by decide⟩
abbrev YJ5_canEncode : xY := (yJ5_canEncode, cJ5_canEncode, 1, (some .boolean), [])
theorem ok_YJ5_canEncode : xYok YJ5_canEncode := ⟨q617, rfl, q100, by decide, by decide, by decide⟩
abbrev YJ5_indexOfChar : xY := (yJ5_indexOfChar, cJ5_indexOfChar, 6, (some .int), [])
theorem ok_YJ5_indexOfChar : xYok YJ5_indexOfChar := ⟨q626, rfl, q100, by decide, by decide, by decide⟩
abbrev YJ5_charAt : xY := (yJ5_charAt, cJ5_charAt, 2, (some .char), [])
theorem ok_YJ5_charAt : xYok YJ5_charAt := ⟨q788, rfl, q100, by decide, by decide, by decide⟩
abbrev YJ6_max : xY := (yJ6_max, cJ6_max, 2, (some .int), [])
theorem ok_YJ6_max : xYok YJ6_max := ⟨q620, rfl, q101, by decide, by decide, by decide⟩
abbrev YJ6_min : xY := (yJ6_min, cJ6_min, 2, (some .int), [])
theorem ok_YJ6_min : xYok YJ6_min := ⟨q623, rfl, q101, by decide, by decide, by decide⟩
abbrev YJ7_indexOf : xY := (yJ7_indexOf, cJ7_indexOf, 4, (some .int), [])
theorem ok_YJ7_indexOf : xYok YJ7_indexOf := ⟨q629, rfl, q102, by decide, by decide, by decide⟩
abbrev YJ7_indexOfChar : xY := (yJ7_indexOfChar, cJ7_indexOfChar, 4, (some .int), [])
theorem ok_YJ7_indexOfChar : xYok YJ7_indexOfChar := ⟨q635, rfl, q102, by decide, by decide, by decide⟩
abbrev YJ7_checkBoundsBeginEnd : xY := (yJ7_checkBoundsBeginEnd, cJ7_checkBoundsBeginEnd, 3, none, [])
theorem ok_YJ7_checkBoundsBeginEnd : xYok YJ7_checkBoundsBeginEnd := ⟨q638, rfl, q102, by decide, by decide, by decide⟩
abbrev YJ7_length : xY := (yJ7_length, cJ7_length, 1, (some .int), [])
theorem ok_YJ7_length : xYok YJ7_length := ⟨q641, rfl, q102, by decide, by decide, by decide⟩
abbrev YJ7_indexOfCharUnsafe : xY := (yJ7_indexOfCharUnsafe, cJ7_indexOfCharUnsafe, 5, (some .int), [])
theorem ok_YJ7_indexOfCharUnsafe : xYok YJ7_indexOfCharUnsafe := ⟨q652, rfl, q102, by decide, by decide, by decide⟩
abbrev YJ7_getChar : xY := (yJ7_getChar, cJ7_getChar, 2, (some .char), [])
theorem ok_YJ7_getChar : xYok YJ7_getChar := ⟨q655, rfl, q102, by decide, by decide, by decide⟩
abbrev YJ7_indexOfSupplementary : xY := (yJ7_indexOfSupplementary, cJ7_indexOfSupplementary, 7, (some .int), [])
theorem ok_YJ7_indexOfSupplementary : xYok YJ7_indexOfSupplementary := ⟨q664, rfl, q102, by decide, by decide, by decide⟩
abbrev YJ7_charAt : xY := (yJ7_charAt, cJ7_charAt, 2, (some .char), [])
theorem ok_YJ7_charAt : xYok YJ7_charAt := ⟨q797, rfl, q102, by decide, by decide, by decide⟩
abbrev YJ7_checkIndex : xY := (yJ7_checkIndex, cJ7_checkIndex, 2, none, [])
theorem ok_YJ7_checkIndex : xYok YJ7_checkIndex := ⟨q800, rfl, q102, by decide, by decide, by decide⟩
abbrev YJ8_checkFromToIndex : xY := (yJ8_checkFromToIndex, cJ8_checkFromToIndex, 4, (some .int), [])
theorem ok_YJ8_checkFromToIndex : xYok YJ8_checkFromToIndex := ⟨q649, rfl, q103, by decide, by decide, by decide⟩
abbrev YJ8_checkIndex : xY := (yJ8_checkIndex, cJ8_checkIndex, 3, (some .int), [])
theorem ok_YJ8_checkIndex : xYok YJ8_checkIndex := ⟨q794, rfl, q103, by decide, by decide, by decide⟩
abbrev YJ9_isValidCodePoint : xY := (yJ9_isValidCodePoint, cJ9_isValidCodePoint, 2, (some .boolean), [])
theorem ok_YJ9_isValidCodePoint : xYok YJ9_isValidCodePoint := ⟨q667, rfl, q104, by decide, by decide, by decide⟩
abbrev YJ9_highSurrogate : xY := (yJ9_highSurrogate, cJ9_highSurrogate, 1, (some .char), [])
theorem ok_YJ9_highSurrogate : xYok YJ9_highSurrogate := ⟨q670, rfl, q104, by decide, by decide, by decide⟩
abbrev YJ9_lowSurrogate : xY := (yJ9_lowSurrogate, cJ9_lowSurrogate, 1, (some .char), [])
theorem ok_YJ9_lowSurrogate : xYok YJ9_lowSurrogate := ⟨q674, rfl, q104, by decide, by decide, by decide⟩
abbrev Y0_init : xY := (yX0_init, cX0_init, 2, none, [])
theorem ok_Y0_init : xYok Y0_init := ⟨q115, rfl, q78, by decide, by decide, by decide⟩
abbrev Y0_feed : xY := (yX0_feed, cX0_feed, 6, (some .int), [])
theorem ok_Y0_feed : xYok Y0_feed := ⟨q530, rfl, q78, by decide, by decide, by decide⟩
abbrev Y0_four : xY := (yX0_four, cX0_four, 3, none, [])
theorem ok_Y0_four : xYok Y0_four := ⟨q534, rfl, q78, by decide, by decide, by decide⟩
abbrev Y0_end : xY := (yX0_end, cX0_end, 2, (some .int), [])
theorem ok_Y0_end : xYok Y0_end := ⟨q538, rfl, q78, by decide, by decide, by decide⟩
abbrev Y0_text : xY := (yX0_text, cX0_text, 3, (some .int), [])
theorem ok_Y0_text : xYok Y0_text := ⟨q542, rfl, q78, by decide, by decide, by decide⟩
abbrev Y0_place : xY := (yX0_place, cX0_place, 1, (some .int), [])
theorem ok_Y0_place : xYok Y0_place := ⟨q845, rfl, q78, by decide, by decide, by decide⟩
abbrev Y0_told : xY := (yX0_told, cX0_told, 4, (some .int), [])
theorem ok_Y0_told : xYok Y0_told := ⟨q849, rfl, q78, by decide, by decide, by decide⟩
abbrev Y0_isProgram : xY := (yX0_isProgram, cX0_isProgram, 2, (some .boolean), [])
theorem ok_Y0_isProgram : xYok Y0_isProgram := ⟨q853, rfl, q78, by decide, by decide, by decide⟩
abbrev Y0_put : xY := (yX0_put, cX0_put, 6, (some .int), [])
theorem ok_Y0_put : xYok Y0_put := ⟨q857, rfl, q78, by decide, by decide, by decide⟩
abbrev Y0_isCell : xY := (yX0_isCell, cX0_isCell, 1, (some .boolean), [])
theorem ok_Y0_isCell : xYok Y0_isCell := ⟨q860, rfl, q78, by decide, by decide, by decide⟩
abbrev Y0_cell : xY := (yX0_cell, cX0_cell, 2, (some .long), [])
theorem ok_Y0_cell : xYok Y0_cell := ⟨q923, rfl, q78, by decide, by decide, by decide⟩
abbrev Y0_version : xY := (yX0_version, cX0_version, 2, (some .int), [])
theorem ok_Y0_version : xYok Y0_version := ⟨q927, rfl, q78, by decide, by decide, by decide⟩
abbrev Y0_add : xY := (yX0_add, cX0_add, 4, (some .int), [])
theorem ok_Y0_add : xYok Y0_add := ⟨q931, rfl, q78, by decide, by decide, by decide⟩
abbrev Y0_isClient : xY := (yX0_isClient, cX0_isClient, 1, (some .boolean), [])
theorem ok_Y0_isClient : xYok Y0_isClient := ⟨q934, rfl, q78, by decide, by decide, by decide⟩
abbrev Y0_turn : xY := (yX0_turn, cX0_turn, 3, (some .int), [])
theorem ok_Y0_turn : xYok Y0_turn := ⟨q941, rfl, q78, by decide, by decide, by decide⟩
abbrev Y0_judged : xY := (yX0_judged, cX0_judged, 4, (some .int), [])
theorem ok_Y0_judged : xYok Y0_judged := ⟨q1023, rfl, q78, by decide, by decide, by decide⟩
abbrev Y0_ended : xY := (yX0_ended, cX0_ended, 7, (some .int), [])
theorem ok_Y0_ended : xYok Y0_ended := ⟨q1037, rfl, q78, by decide, by decide, by decide⟩
abbrev Y0_isHeld : xY := (yX0_isHeld, cX0_isHeld, 4, (some .boolean), [])
theorem ok_Y0_isHeld : xYok Y0_isHeld := ⟨q1041, rfl, q78, by decide, by decide, by decide⟩
abbrev Y0_play : xY := (yX0_play, cX0_play, 8, (some .int), [])
theorem ok_Y0_play : xYok Y0_play := ⟨q1077, rfl, q78, by decide, by decide, by decide⟩
abbrev Y0_client : xY := (yX0_client, cX0_client, 5, (some .int), [])
theorem ok_Y0_client : xYok Y0_client := ⟨q1084, rfl, q78, by decide, by decide, by decide⟩
abbrev Y0_sees : xY := (yX0_sees, cX0_sees, 3, (some .long), [])
theorem ok_Y0_sees : xYok Y0_sees := ⟨q1091, rfl, q78, by decide, by decide, by decide⟩
abbrev Y0_rules : xY := (yX0_rules, cX0_rules, 1, (some .int), [])
theorem ok_Y0_rules : xYok Y0_rules := ⟨q1096, rfl, q78, by decide, by decide, by decide⟩
abbrev Y0_rows : xY := (yX0_rows, cX0_rows, 1, (some .int), [])
theorem ok_Y0_rows : xYok Y0_rows := ⟨q1100, rfl, q78, by decide, by decide, by decide⟩
abbrev Y0_row : xY := (yX0_row, cX0_row, 3, (some .int), [])
theorem ok_Y0_row : xYok Y0_row := ⟨q1104, rfl, q78, by decide, by decide, by decide⟩
abbrev Y0_value : xY := (yX0_value, cX0_value, 2, (some .long), [])
theorem ok_Y0_value : xYok Y0_value := ⟨q1111, rfl, q78, by decide, by decide, by decide⟩
abbrev Y0_replays : xY := (yX0_replays, cX0_replays, 3, (some .int), [])
theorem ok_Y0_replays : xYok Y0_replays := ⟨q1115, rfl, q78, by decide, by decide, by decide⟩
abbrev Y0_isSame : xY := (yX0_isSame, cX0_isSame, 6, (some .boolean), [])
theorem ok_Y0_isSame : xYok Y0_isSame := ⟨q1127, rfl, q78, by decide, by decide, by decide⟩
abbrev Y0_clear : xY := (yX0_clear, cX0_clear, 3, (some .int), [])
theorem ok_Y0_clear : xYok Y0_clear := ⟨q1137, rfl, q78, by decide, by decide, by decide⟩
abbrev Y1_init : xY := (yX1_init, cX1_init, 1, none, [])
theorem ok_Y1_init : xYok Y1_init := ⟨q123, rfl, q79, by decide, by decide, by decide⟩
abbrev Y1_read : xY := (yX1_read, cX1_read, 4, (some (.object "MemoryTransactions$Program")), [(46, 59, 62, 9)])
theorem ok_Y1_read : xYok Y1_read := ⟨q546, rfl, q79, by decide, by decide, by decide⟩
abbrev Y1_next : xY := (yX1_next, cX1_next, 2, none, [])
theorem ok_Y1_next : xYok Y1_next := ⟨q576, rfl, q79, by decide, by decide, by decide⟩
abbrev Y1_ch : xY := (yX1_ch, cX1_ch, 2, (some .int), [])
theorem ok_Y1_ch : xYok Y1_ch := ⟨q580, rfl, q79, by decide, by decide, by decide⟩
abbrev Y1_isLetter : xY := (yX1_isLetter, cX1_isLetter, 1, (some .boolean), [])
theorem ok_Y1_isLetter : xYok Y1_isLetter := ⟨q583, rfl, q79, by decide, by decide, by decide⟩
abbrev Y1_isDigit : xY := (yX1_isDigit, cX1_isDigit, 1, (some .boolean), [])
theorem ok_Y1_isDigit : xYok Y1_isDigit := ⟨q586, rfl, q79, by decide, by decide, by decide⟩
abbrev Y1_statements : xY := (yX1_statements, cX1_statements, 6, (some (.object "MemoryTransactions$Statement")), [])
theorem ok_Y1_statements : xYok Y1_statements := ⟨q679, rfl, q79, by decide, by decide, by decide⟩
abbrev Y1_statement : xY := (yX1_statement, cX1_statement, 3, (some (.object "MemoryTransactions$Statement")), [])
theorem ok_Y1_statement : xYok Y1_statement := ⟨q683, rfl, q79, by decide, by decide, by decide⟩
abbrev Y1_wrong : xY := (yX1_wrong, cX1_wrong, 1, (some (.object "MemoryTransactions$Fault")), [])
theorem ok_Y1_wrong : xYok Y1_wrong := ⟨q687, rfl, q79, by decide, by decide, by decide⟩
abbrev Y1_want : xY := (yX1_want, cX1_want, 2, none, [])
theorem ok_Y1_want : xYok Y1_want := ⟨q724, rfl, q79, by decide, by decide, by decide⟩
abbrev Y1_exp : xY := (yX1_exp, cX1_exp, 4, (some (.object "MemoryTransactions$Exp")), [])
theorem ok_Y1_exp : xYok Y1_exp := ⟨q728, rfl, q79, by decide, by decide, by decide⟩
abbrev Y1_sum : xY := (yX1_sum, cX1_sum, 4, (some (.object "MemoryTransactions$Exp")), [])
theorem ok_Y1_sum : xYok Y1_sum := ⟨q732, rfl, q79, by decide, by decide, by decide⟩
abbrev Y1_product : xY := (yX1_product, cX1_product, 4, (some (.object "MemoryTransactions$Exp")), [])
theorem ok_Y1_product : xYok Y1_product := ⟨q736, rfl, q79, by decide, by decide, by decide⟩
abbrev Y1_unary : xY := (yX1_unary, cX1_unary, 4, (some (.object "MemoryTransactions$Exp")), [])
theorem ok_Y1_unary : xYok Y1_unary := ⟨q740, rfl, q79, by decide, by decide, by decide⟩
abbrev Y1_operation : xY := (yX1_operation, cX1_operation, 5, (some (.object "MemoryTransactions$Exp")), [])
theorem ok_Y1_operation : xYok Y1_operation := ⟨q771, rfl, q79, by decide, by decide, by decide⟩
abbrev Y1_may : xY := (yX1_may, cX1_may, 3, (some .boolean), [])
theorem ok_Y1_may : xYok Y1_may := ⟨q776, rfl, q79, by decide, by decide, by decide⟩
abbrev Y1_isWord : xY := (yX1_isWord, cX1_isWord, 4, (some .boolean), [])
theorem ok_Y1_isWord : xYok Y1_isWord := ⟨q780, rfl, q79, by decide, by decide, by decide⟩
abbrev Y1_inParentheses : xY := (yX1_inParentheses, cX1_inParentheses, 2, (some (.object "MemoryTransactions$Exp")), [])
theorem ok_Y1_inParentheses : xYok Y1_inParentheses := ⟨q807, rfl, q79, by decide, by decide, by decide⟩
abbrev Y1_body : xY := (yX1_body, cX1_body, 3, (some (.object "MemoryTransactions$Statement")), [])
theorem ok_Y1_body : xYok Y1_body := ⟨q811, rfl, q79, by decide, by decide, by decide⟩
abbrev Y1_wantWord : xY := (yX1_wantWord, cX1_wantWord, 2, none, [])
theorem ok_Y1_wantWord : xYok Y1_wantWord := ⟨q824, rfl, q79, by decide, by decide, by decide⟩
abbrev Y1_plain : xY := (yX1_plain, cX1_plain, 2, none, [])
theorem ok_Y1_plain : xYok Y1_plain := ⟨q832, rfl, q79, by decide, by decide, by decide⟩
abbrev Y10_init : xY := (yX10_init, cX10_init, 2, none, [])
theorem ok_Y10_init : xYok Y10_init := ⟨q387, rfl, q91, by decide, by decide, by decide⟩
abbrev Y10_of : xY := (yX10_of, cX10_of, 2, (some .long), [])
theorem ok_Y10_of : xYok Y10_of := ⟨q893, rfl, q91, by decide, by decide, by decide⟩
abbrev Y11_init : xY := (yX11_init, cX11_init, 1, none, [])
theorem ok_Y11_init : xYok Y11_init := ⟨q396, rfl, q92, by decide, by decide, by decide⟩
abbrev Y12_init : xY := (yX12_init, cX12_init, 1, none, [])
theorem ok_Y12_init : xYok Y12_init := ⟨q465, rfl, q93, by decide, by decide, by decide⟩
abbrev Y12_cut : xY := (yX12_cut, cX12_cut, 1, none, [])
theorem ok_Y12_cut : xYok Y12_cut := ⟨q1027, rfl, q93, by decide, by decide, by decide⟩
abbrev Y12_waits : xY := (yX12_waits, cX12_waits, 1, none, [])
theorem ok_Y12_waits : xYok Y12_waits := ⟨q1032, rfl, q93, by decide, by decide, by decide⟩
abbrev Y12_over : xY := (yX12_over, cX12_over, 1, none, [])
theorem ok_Y12_over : xYok Y12_over := ⟨q1071, rfl, q93, by decide, by decide, by decide⟩
abbrev Y12_clear : xY := (yX12_clear, cX12_clear, 1, none, [])
theorem ok_Y12_clear : xYok Y12_clear := ⟨q1141, rfl, q93, by decide, by decide, by decide⟩
abbrev Y13_init : xY := (yX13_init, cX13_init, 1, none, [])
theorem ok_Y13_init : xYok Y13_init := ⟨q1146, rfl, q96, by decide, by decide, by decide⟩
abbrev Y13_feed : xY := (yX13_feed, cX13_feed, 9, (some .int), [])
theorem ok_Y13_feed : xYok Y13_feed := ⟨q1381, rfl, q96, by decide, by decide, by decide⟩
abbrev Y13_end : xY := (yX13_end, cX13_end, 2, (some .int), [])
theorem ok_Y13_end : xYok Y13_end := ⟨q1385, rfl, q96, by decide, by decide, by decide⟩
abbrev Y13_text : xY := (yX13_text, cX13_text, 1, (some .int), [])
theorem ok_Y13_text : xYok Y13_text := ⟨q1389, rfl, q96, by decide, by decide, by decide⟩
abbrev Y13_readText : xY := (yX13_readText, cX13_readText, 1, none, [])
theorem ok_Y13_readText : xYok Y13_readText := ⟨q1393, rfl, q96, by decide, by decide, by decide⟩
abbrev Y13_next : xY := (yX13_next, cX13_next, 6, none, [])
theorem ok_Y13_next : xYok Y13_next := ⟨q1397, rfl, q96, by decide, by decide, by decide⟩
abbrev Y13_byteAt : xY := (yX13_byteAt, cX13_byteAt, 2, (some .int), [])
theorem ok_Y13_byteAt : xYok Y13_byteAt := ⟨q1401, rfl, q96, by decide, by decide, by decide⟩
abbrev Y13_isSmall : xY := (yX13_isSmall, cX13_isSmall, 1, (some .boolean), [])
theorem ok_Y13_isSmall : xYok Y13_isSmall := ⟨q1404, rfl, q96, by decide, by decide, by decide⟩
abbrev Y13_wordOf : xY := (yX13_wordOf, cX13_wordOf, 2, (some .int), [])
theorem ok_Y13_wordOf : xYok Y13_wordOf := ⟨q1407, rfl, q96, by decide, by decide, by decide⟩
abbrev Y13_isFigure : xY := (yX13_isFigure, cX13_isFigure, 1, (some .boolean), [])
theorem ok_Y13_isFigure : xYok Y13_isFigure := ⟨q1420, rfl, q96, by decide, by decide, by decide⟩
abbrev Y13_isSignByte : xY := (yX13_isSignByte, cX13_isSignByte, 1, (some .boolean), [])
theorem ok_Y13_isSignByte : xYok Y13_isSignByte := ⟨q1425, rfl, q96, by decide, by decide, by decide⟩
abbrev Y13_isSign : xY := (yX13_isSign, cX13_isSign, 2, (some .boolean), [])
theorem ok_Y13_isSign : xYok Y13_isSign := ⟨q1429, rfl, q96, by decide, by decide, by decide⟩
abbrev Y13_misplaced : xY := (yX13_misplaced, cX13_misplaced, 1, none, [])
theorem ok_Y13_misplaced : xYok Y13_misplaced := ⟨q1433, rfl, q96, by decide, by decide, by decide⟩
abbrev Y13_closeBody : xY := (yX13_closeBody, cX13_closeBody, 3, none, [])
theorem ok_Y13_closeBody : xYok Y13_closeBody := ⟨q1437, rfl, q96, by decide, by decide, by decide⟩
abbrev Y13_openBody : xY := (yX13_openBody, cX13_openBody, 3, none, [])
theorem ok_Y13_openBody : xYok Y13_openBody := ⟨q1441, rfl, q96, by decide, by decide, by decide⟩
abbrev Y13_takeWord : xY := (yX13_takeWord, cX13_takeWord, 2, none, [])
theorem ok_Y13_takeWord : xYok Y13_takeWord := ⟨q1445, rfl, q96, by decide, by decide, by decide⟩
abbrev Y13_readStatement : xY := (yX13_readStatement, cX13_readStatement, 4, none, [])
theorem ok_Y13_readStatement : xYok Y13_readStatement := ⟨q1449, rfl, q96, by decide, by decide, by decide⟩
abbrev Y13_newStatement : xY := (yX13_newStatement, cX13_newStatement, 4, (some .int), [])
theorem ok_Y13_newStatement : xYok Y13_newStatement := ⟨q1453, rfl, q96, by decide, by decide, by decide⟩
abbrev Y13_take : xY := (yX13_take, cX13_take, 2, none, [])
theorem ok_Y13_take : xYok Y13_take := ⟨q1457, rfl, q96, by decide, by decide, by decide⟩
abbrev Y13_exp : xY := (yX13_exp, cX13_exp, 6, (some .int), [])
theorem ok_Y13_exp : xYok Y13_exp := ⟨q1461, rfl, q96, by decide, by decide, by decide⟩
abbrev Y13_readUnary : xY := (yX13_readUnary, cX13_readUnary, 4, (some .boolean), [])
theorem ok_Y13_readUnary : xYok Y13_readUnary := ⟨q1465, rfl, q96, by decide, by decide, by decide⟩
abbrev Y13_act : xY := (yX13_act, cX13_act, 6, none, [])
theorem ok_Y13_act : xYok Y13_act := ⟨q1469, rfl, q96, by decide, by decide, by decide⟩
abbrev Y13_operandIsThere : xY := (yX13_operandIsThere, cX13_operandIsThere, 1, none, [])
theorem ok_Y13_operandIsThere : xYok Y13_operandIsThere := ⟨q1473, rfl, q96, by decide, by decide, by decide⟩
abbrev Y13_reduce : xY := (yX13_reduce, cX13_reduce, 2, none, [])
theorem ok_Y13_reduce : xYok Y13_reduce := ⟨q1477, rfl, q96, by decide, by decide, by decide⟩
abbrev Y13_strength : xY := (yX13_strength, cX13_strength, 1, (some .int), [])
theorem ok_Y13_strength : xYok Y13_strength := ⟨q1480, rfl, q96, by decide, by decide, by decide⟩
abbrev Y13_place : xY := (yX13_place, cX13_place, 1, (some .int), [])
theorem ok_Y13_place : xYok Y13_place := ⟨q1484, rfl, q96, by decide, by decide, by decide⟩
abbrev Y13_told : xY := (yX13_told, cX13_told, 3, (some .int), [])
theorem ok_Y13_told : xYok Y13_told := ⟨q1488, rfl, q96, by decide, by decide, by decide⟩
abbrev Y13_turn : xY := (yX13_turn, cX13_turn, 2, (some .int), [])
theorem ok_Y13_turn : xYok Y13_turn := ⟨q1492, rfl, q96, by decide, by decide, by decide⟩
abbrev Y13_isClient : xY := (yX13_isClient, cX13_isClient, 2, (some .boolean), [])
theorem ok_Y13_isClient : xYok Y13_isClient := ⟨q1496, rfl, q96, by decide, by decide, by decide⟩
abbrev Y13_turnOf : xY := (yX13_turnOf, cX13_turnOf, 3, (some .int), [])
theorem ok_Y13_turnOf : xYok Y13_turnOf := ⟨q1500, rfl, q96, by decide, by decide, by decide⟩
abbrev Y13_bringRead : xY := (yX13_bringRead, cX13_bringRead, 3, none, [])
theorem ok_Y13_bringRead : xYok Y13_bringRead := ⟨q1504, rfl, q96, by decide, by decide, by decide⟩
abbrev Y13_isChanged : xY := (yX13_isChanged, cX13_isChanged, 2, (some .boolean), [])
theorem ok_Y13_isChanged : xYok Y13_isChanged := ⟨q1508, rfl, q96, by decide, by decide, by decide⟩
abbrev Y13_walkAnew : xY := (yX13_walkAnew, cX13_walkAnew, 4, none, [])
theorem ok_Y13_walkAnew : xYok Y13_walkAnew := ⟨q1512, rfl, q96, by decide, by decide, by decide⟩
abbrev Y13_firstOf : xY := (yX13_firstOf, cX13_firstOf, 2, (some .int), [])
theorem ok_Y13_firstOf : xYok Y13_firstOf := ⟨q1516, rfl, q96, by decide, by decide, by decide⟩
abbrev Y13_beginWalk : xY := (yX13_beginWalk, cX13_beginWalk, 3, none, [])
theorem ok_Y13_beginWalk : xYok Y13_beginWalk := ⟨q1520, rfl, q96, by decide, by decide, by decide⟩
abbrev Y13_step : xY := (yX13_step, cX13_step, 4, (some .int), [])
theorem ok_Y13_step : xYok Y13_step := ⟨q1524, rfl, q96, by decide, by decide, by decide⟩
abbrev Y13_work : xY := (yX13_work, cX13_work, 6, (some .long), [])
theorem ok_Y13_work : xYok Y13_work := ⟨q1528, rfl, q96, by decide, by decide, by decide⟩
abbrev Y13_valueOf : xY := (yX13_valueOf, cX13_valueOf, 2, (some .long), [])
theorem ok_Y13_valueOf : xYok Y13_valueOf := ⟨q1532, rfl, q96, by decide, by decide, by decide⟩
abbrev Y13_two : xY := (yX13_two, cX13_two, 6, (some .long), [])
theorem ok_Y13_two : xYok Y13_two := ⟨q1536, rfl, q96, by decide, by decide, by decide⟩
abbrev Y13_throwFrom : xY := (yX13_throwFrom, cX13_throwFrom, 3, (some .int), [])
theorem ok_Y13_throwFrom : xYok Y13_throwFrom := ⟨q1541, rfl, q96, by decide, by decide, by decide⟩
abbrev Y13_around : xY := (yX13_around, cX13_around, 5, (some .int), [])
theorem ok_Y13_around : xYok Y13_around := ⟨q1545, rfl, q96, by decide, by decide, by decide⟩
abbrev Y13_bringBack : xY := (yX13_bringBack, cX13_bringBack, 3, none, [])
theorem ok_Y13_bringBack : xYok Y13_bringBack := ⟨q1549, rfl, q96, by decide, by decide, by decide⟩
abbrev Y13_goIn : xY := (yX13_goIn, cX13_goIn, 3, none, [])
theorem ok_Y13_goIn : xYok Y13_goIn := ⟨q1553, rfl, q96, by decide, by decide, by decide⟩
abbrev Y13_behind : xY := (yX13_behind, cX13_behind, 3, (some .int), [])
theorem ok_Y13_behind : xYok Y13_behind := ⟨q1557, rfl, q96, by decide, by decide, by decide⟩
abbrev Y13_retryFrom : xY := (yX13_retryFrom, cX13_retryFrom, 3, (some .int), [])
theorem ok_Y13_retryFrom : xYok Y13_retryFrom := ⟨q1561, rfl, q96, by decide, by decide, by decide⟩
abbrev Y13_keep : xY := (yX13_keep, cX13_keep, 3, none, [])
theorem ok_Y13_keep : xYok Y13_keep := ⟨q1565, rfl, q96, by decide, by decide, by decide⟩
abbrev Y13_keepRead : xY := (yX13_keepRead, cX13_keepRead, 3, none, [])
theorem ok_Y13_keepRead : xYok Y13_keepRead := ⟨q1570, rfl, q96, by decide, by decide, by decide⟩
abbrev Y13_cutRun : xY := (yX13_cutRun, cX13_cutRun, 2, (some .int), [])
theorem ok_Y13_cutRun : xYok Y13_cutRun := ⟨q1574, rfl, q96, by decide, by decide, by decide⟩
abbrev Y13_isHeld : xY := (yX13_isHeld, cX13_isHeld, 4, (some .boolean), [])
theorem ok_Y13_isHeld : xYok Y13_isHeld := ⟨q1578, rfl, q96, by decide, by decide, by decide⟩
abbrev Y13_endThrown : xY := (yX13_endThrown, cX13_endThrown, 4, (some .int), [])
theorem ok_Y13_endThrown : xYok Y13_endThrown := ⟨q1582, rfl, q96, by decide, by decide, by decide⟩
abbrev Y13_addRow : xY := (yX13_addRow, cX13_addRow, 8, none, [])
theorem ok_Y13_addRow : xYok Y13_addRow := ⟨q1586, rfl, q96, by decide, by decide, by decide⟩
abbrev Y13_over : xY := (yX13_over, cX13_over, 3, none, [])
theorem ok_Y13_over : xYok Y13_over := ⟨q1590, rfl, q96, by decide, by decide, by decide⟩
abbrev Y13_isWell : xY := (yX13_isWell, cX13_isWell, 3, (some .boolean), [])
theorem ok_Y13_isWell : xYok Y13_isWell := ⟨q1594, rfl, q96, by decide, by decide, by decide⟩
abbrev Y13_rulesHold : xY := (yX13_rulesHold, cX13_rulesHold, 3, (some .boolean), [])
theorem ok_Y13_rulesHold : xYok Y13_rulesHold := ⟨q1598, rfl, q96, by decide, by decide, by decide⟩
abbrev Y13_holds : xY := (yX13_holds, cX13_holds, 4, (some .boolean), [])
theorem ok_Y13_holds : xYok Y13_holds := ⟨q1602, rfl, q96, by decide, by decide, by decide⟩
abbrev Y13_bringIn : xY := (yX13_bringIn, cX13_bringIn, 2, none, [])
theorem ok_Y13_bringIn : xYok Y13_bringIn := ⟨q1607, rfl, q96, by decide, by decide, by decide⟩
abbrev Y13_play : xY := (yX13_play, cX13_play, 8, (some .int), [])
theorem ok_Y13_play : xYok Y13_play := ⟨q1611, rfl, q96, by decide, by decide, by decide⟩
abbrev Y13_put : xY := (yX13_put, cX13_put, 5, (some .int), [])
theorem ok_Y13_put : xYok Y13_put := ⟨q1617, rfl, q96, by decide, by decide, by decide⟩
abbrev Y13_cell : xY := (yX13_cell, cX13_cell, 2, (some .long), [])
theorem ok_Y13_cell : xYok Y13_cell := ⟨q1621, rfl, q96, by decide, by decide, by decide⟩
abbrev Y13_version : xY := (yX13_version, cX13_version, 2, (some .int), [])
theorem ok_Y13_version : xYok Y13_version := ⟨q1625, rfl, q96, by decide, by decide, by decide⟩
abbrev Y13_add : xY := (yX13_add, cX13_add, 3, (some .int), [])
theorem ok_Y13_add : xYok Y13_add := ⟨q1629, rfl, q96, by decide, by decide, by decide⟩
abbrev Y13_client : xY := (yX13_client, cX13_client, 5, (some .int), [])
theorem ok_Y13_client : xYok Y13_client := ⟨q1633, rfl, q96, by decide, by decide, by decide⟩
abbrev Y13_sees : xY := (yX13_sees, cX13_sees, 3, (some .long), [])
theorem ok_Y13_sees : xYok Y13_sees := ⟨q1637, rfl, q96, by decide, by decide, by decide⟩
abbrev Y13_rules : xY := (yX13_rules, cX13_rules, 1, (some .int), [])
theorem ok_Y13_rules : xYok Y13_rules := ⟨q1641, rfl, q96, by decide, by decide, by decide⟩
abbrev Y13_rows : xY := (yX13_rows, cX13_rows, 1, (some .int), [])
theorem ok_Y13_rows : xYok Y13_rows := ⟨q1645, rfl, q96, by decide, by decide, by decide⟩
abbrev Y13_row : xY := (yX13_row, cX13_row, 3, (some .int), [])
theorem ok_Y13_row : xYok Y13_row := ⟨q1649, rfl, q96, by decide, by decide, by decide⟩
abbrev Y13_value : xY := (yX13_value, cX13_value, 2, (some .long), [])
theorem ok_Y13_value : xYok Y13_value := ⟨q1653, rfl, q96, by decide, by decide, by decide⟩
abbrev Y13_replays : xY := (yX13_replays, cX13_replays, 3, (some .int), [])
theorem ok_Y13_replays : xYok Y13_replays := ⟨q1657, rfl, q96, by decide, by decide, by decide⟩
abbrev Y13_comesToSame : xY := (yX13_comesToSame, cX13_comesToSame, 7, (some .boolean), [])
theorem ok_Y13_comesToSame : xYok Y13_comesToSame := ⟨q1661, rfl, q96, by decide, by decide, by decide⟩
abbrev Y13_beginRun : xY := (yX13_beginRun, cX13_beginRun, 2, none, [])
theorem ok_Y13_beginRun : xYok Y13_beginRun := ⟨q1665, rfl, q96, by decide, by decide, by decide⟩
abbrev Y13_clear : xY := (yX13_clear, cX13_clear, 3, (some .int), [])
theorem ok_Y13_clear : xYok Y13_clear := ⟨q1669, rfl, q96, by decide, by decide, by decide⟩
abbrev Y14_init : xY := (yX14_init, cX14_init, 1, none, [])
theorem ok_Y14_init : xYok Y14_init := ⟨q554, rfl, q98, by decide, by decide, by decide⟩
abbrev Y15_init : xY := (yX15_init, cX15_init, 1, none, [])
theorem ok_Y15_init : xYok Y15_init := ⟨q692, rfl, q105, by decide, by decide, by decide⟩
abbrev Y16_init : xY := (yX16_init, cX16_init, 1, none, [])
theorem ok_Y16_init : xYok Y16_init := ⟨q745, rfl, q107, by decide, by decide, by decide⟩
abbrev Y2_init : xY := (yX2_init, cX2_init, 1, none, [])
theorem ok_Y2_init : xYok Y2_init := ⟨q168, rfl, q83, by decide, by decide, by decide⟩
abbrev Y3_init : xY := (yX3_init, cX3_init, 1, none, [])
theorem ok_Y3_init : xYok Y3_init := ⟨q234, rfl, q84, by decide, by decide, by decide⟩
abbrev Y3_hold : xY := (yX3_hold, cX3_hold, 3, (some .boolean), [])
theorem ok_Y3_hold : xYok Y3_hold := ⟨q864, rfl, q84, by decide, by decide, by decide⟩
abbrev Y3_holds : xY := (yX3_holds, cX3_holds, 4, (some .boolean), [(0, 19, 20, 53)])
theorem ok_Y3_holds : xYok Y3_holds := ⟨q868, rfl, q84, by decide, by decide, by decide⟩
abbrev Y3_of : xY := (yX3_of, cX3_of, 2, (some .long), [])
theorem ok_Y3_of : xYok Y3_of := ⟨q903, rfl, q84, by decide, by decide, by decide⟩
abbrev Y3_write : xY := (yX3_write, cX3_write, 4, none, [])
theorem ok_Y3_write : xYok Y3_write := ⟨q1063, rfl, q84, by decide, by decide, by decide⟩
abbrev Y3_clear : xY := (yX3_clear, cX3_clear, 1, none, [])
theorem ok_Y3_clear : xYok Y3_clear := ⟨q1119, rfl, q84, by decide, by decide, by decide⟩
abbrev Y3_isSame : xY := (yX3_isSame, cX3_isSame, 4, (some .boolean), [])
theorem ok_Y3_isSame : xYok Y3_isSame := ⟨q1133, rfl, q84, by decide, by decide, by decide⟩
abbrev Y4_init : xY := (yX4_init, cX4_init, 1, none, [])
theorem ok_Y4_init : xYok Y4_init := ⟨q242, rfl, q85, by decide, by decide, by decide⟩
abbrev Y4_work : xY := (yX4_work, cX4_work, 7, (some .long), [])
theorem ok_Y4_work : xYok Y4_work := ⟨q873, rfl, q85, by decide, by decide, by decide⟩
abbrev Y4_divided : xY := (yX4_divided, cX4_divided, 6, (some .long), [])
theorem ok_Y4_divided : xYok Y4_divided := ⟨q908, rfl, q85, by decide, by decide, by decide⟩
abbrev Y4_thrown : xY := (yX4_thrown, cX4_thrown, 3, (some (.object "MemoryTransactions$Thrown")), [])
theorem ok_Y4_thrown : xYok Y4_thrown := ⟨q913, rfl, q85, by decide, by decide, by decide⟩
abbrev Y5_init : xY := (yX5_init, cX5_init, 1, none, [])
theorem ok_Y5_init : xYok Y5_init := ⟨q255, rfl, q86, by decide, by decide, by decide⟩
abbrev Y6_init : xY := (yX6_init, cX6_init, 1, none, [])
theorem ok_Y6_init : xYok Y6_init := ⟨q300, rfl, q87, by decide, by decide, by decide⟩
abbrev Y6_add : xY := (yX6_add, cX6_add, 8, none, [])
theorem ok_Y6_add : xYok Y6_add := ⟨q919, rfl, q87, by decide, by decide, by decide⟩
abbrev Y7_init : xY := (yX7_init, cX7_init, 2, none, [])
theorem ok_Y7_init : xYok Y7_init := ⟨q337, rfl, q88, by decide, by decide, by decide⟩
abbrev Y7_of : xY := (yX7_of, cX7_of, 2, (some .long), [])
theorem ok_Y7_of : xYok Y7_of := ⟨q883, rfl, q88, by decide, by decide, by decide⟩
abbrev Y7_isFresh : xY := (yX7_isFresh, cX7_isFresh, 2, (some .boolean), [])
theorem ok_Y7_isFresh : xYok Y7_isFresh := ⟨q887, rfl, q88, by decide, by decide, by decide⟩
abbrev Y7_sees : xY := (yX7_sees, cX7_sees, 2, (some .long), [])
theorem ok_Y7_sees : xYok Y7_sees := ⟨q897, rfl, q88, by decide, by decide, by decide⟩
abbrev Y7_begin : xY := (yX7_begin, cX7_begin, 3, none, [])
theorem ok_Y7_begin : xYok Y7_begin := ⟨q960, rfl, q88, by decide, by decide, by decide⟩
abbrev Y7_step : xY := (yX7_step, cX7_step, 3, (some (.object "MemoryTransactions$Outcome")), [(52, 60, 63, 9), (52, 60, 68, 164)])
theorem ok_Y7_step : xYok Y7_step := ⟨q971, rfl, q88, by decide, by decide, by decide⟩
abbrev Y7_leave : xY := (yX7_leave, cX7_leave, 2, none, [])
theorem ok_Y7_leave : xYok Y7_leave := ⟨q976, rfl, q88, by decide, by decide, by decide⟩
abbrev Y7_ends : xY := (yX7_ends, cX7_ends, 2, (some (.object "MemoryTransactions$Outcome")), [])
theorem ok_Y7_ends : xYok Y7_ends := ⟨q984, rfl, q88, by decide, by decide, by decide⟩
abbrev Y7_act : xY := (yX7_act, cX7_act, 4, none, [])
theorem ok_Y7_act : xYok Y7_act := ⟨q992, rfl, q88, by decide, by decide, by decide⟩
abbrev Y7_write : xY := (yX7_write, cX7_write, 4, none, [])
theorem ok_Y7_write : xYok Y7_write := ⟨q1000, rfl, q88, by decide, by decide, by decide⟩
abbrev Y7_enter : xY := (yX7_enter, cX7_enter, 4, none, [])
theorem ok_Y7_enter : xYok Y7_enter := ⟨q1004, rfl, q88, by decide, by decide, by decide⟩
abbrev Y7_goBack : xY := (yX7_goBack, cX7_goBack, 3, (some .boolean), [])
theorem ok_Y7_goBack : xYok Y7_goBack := ⟨q1015, rfl, q88, by decide, by decide, by decide⟩
abbrev Y7_undo : xY := (yX7_undo, cX7_undo, 1, none, [])
theorem ok_Y7_undo : xYok Y7_undo := ⟨q1045, rfl, q88, by decide, by decide, by decide⟩
abbrev Y7_hold : xY := (yX7_hold, cX7_hold, 3, (some .boolean), [])
theorem ok_Y7_hold : xYok Y7_hold := ⟨q1052, rfl, q88, by decide, by decide, by decide⟩
abbrev Y7_join : xY := (yX7_join, cX7_join, 2, none, [])
theorem ok_Y7_join : xYok Y7_join := ⟨q1059, rfl, q88, by decide, by decide, by decide⟩
abbrev Y8_init : xY := (yX8_init, cX8_init, 1, none, [])
theorem ok_Y8_init : xYok Y8_init := ⟨q350, rfl, q89, by decide, by decide, by decide⟩
abbrev Y9_init : xY := (yX9_init, cX9_init, 1, none, [])
theorem ok_Y9_init : xYok Y9_init := ⟨q359, rfl, q90, by decide, by decide, by decide⟩
abbrev Y9_clear : xY := (yX9_clear, cX9_clear, 1, none, [])
theorem ok_Y9_clear : xYok Y9_clear := ⟨q964, rfl, q90, by decide, by decide, by decide⟩
abbrev Y9_set : xY := (yX9_set, cX9_set, 2, none, [])
theorem ok_Y9_set : xYok Y9_set := ⟨q1008, rfl, q90, by decide, by decide, by decide⟩
theorem fl_X0_9 : xFl RX0 9 0 0 (.array .byte) true := ⟨RX0, TX0, 10, rfl, by decide, rfl, rfl, Or.inl q496⟩
theorem fl_X0_9F : ∀ q, xcl[0]? = some q → (q.2.1 0).1 = RX0 ∧ Cond.fieldLink RX0 9 (q.2.1 0).1 (q.2.1 0).2.1 (q.2.1 0).2.2.1 ∈ lw_tbl := fun q h => by cases h; exact ⟨rfl, q496⟩
theorem fl_X0_16 : xFl RX0 16 0 2 (.object "MemoryTransactions$Reader") true := ⟨RX0, TX0, 10, rfl, by decide, rfl, rfl, Or.inl q498⟩
theorem fl_X0_16F : ∀ q, xcl[0]? = some q → (q.2.1 2).1 = RX0 ∧ Cond.fieldLink RX0 16 (q.2.1 2).1 (q.2.1 2).2.1 (q.2.1 2).2.2.1 ∈ lw_tbl := fun q h => by cases h; exact ⟨rfl, q498⟩
theorem fl_X0_22 : xFl RX0 22 0 3 (.array (.object "MemoryTransactions$Program")) true := ⟨RX0, TX0, 10, rfl, by decide, rfl, rfl, Or.inl q499⟩
theorem fl_X0_22F : ∀ q, xcl[0]? = some q → (q.2.1 3).1 = RX0 ∧ Cond.fieldLink RX0 22 (q.2.1 3).1 (q.2.1 3).2.1 (q.2.1 3).2.2.1 ∈ lw_tbl := fun q h => by cases h; exact ⟨rfl, q499⟩
theorem fl_X0_29 : xFl RX0 29 0 5 (.object "MemoryTransactions$Store") true := ⟨RX0, TX0, 10, rfl, by decide, rfl, rfl, Or.inl q501⟩
theorem fl_X0_29F : ∀ q, xcl[0]? = some q → (q.2.1 5).1 = RX0 ∧ Cond.fieldLink RX0 29 (q.2.1 5).1 (q.2.1 5).2.1 (q.2.1 5).2.2.1 ∈ lw_tbl := fun q h => by cases h; exact ⟨rfl, q501⟩
theorem fl_X0_35 : xFl RX0 35 0 6 (.array (.object "MemoryTransactions$Client")) true := ⟨RX0, TX0, 10, rfl, by decide, rfl, rfl, Or.inl q502⟩
theorem fl_X0_35F : ∀ q, xcl[0]? = some q → (q.2.1 6).1 = RX0 ∧ Cond.fieldLink RX0 35 (q.2.1 6).1 (q.2.1 6).2.1 (q.2.1 6).2.2.1 ∈ lw_tbl := fun q h => by cases h; exact ⟨rfl, q502⟩
theorem fl_X0_42 : xFl RX0 42 0 7 (.object "MemoryTransactions$Rows") true := ⟨RX0, TX0, 10, rfl, by decide, rfl, rfl, Or.inl q503⟩
theorem fl_X0_42F : ∀ q, xcl[0]? = some q → (q.2.1 7).1 = RX0 ∧ Cond.fieldLink RX0 42 (q.2.1 7).1 (q.2.1 7).2.1 (q.2.1 7).2.2.1 ∈ lw_tbl := fun q h => by cases h; exact ⟨rfl, q503⟩
theorem fl_X0_46 : xFl RX0 46 0 8 (.object "MemoryTransactions$Store") true := ⟨RX0, TX0, 10, rfl, by decide, rfl, rfl, Or.inl q504⟩
theorem fl_X0_46F : ∀ q, xcl[0]? = some q → (q.2.1 8).1 = RX0 ∧ Cond.fieldLink RX0 46 (q.2.1 8).1 (q.2.1 8).2.1 (q.2.1 8).2.2.1 ∈ lw_tbl := fun q h => by cases h; exact ⟨rfl, q504⟩
theorem fl_X0_52 : xFl RX0 52 0 9 (.object "MemoryTransactions$Run") true := ⟨RX0, TX0, 10, rfl, by decide, rfl, rfl, Or.inl q505⟩
theorem fl_X0_52F : ∀ q, xcl[0]? = some q → (q.2.1 9).1 = RX0 ∧ Cond.fieldLink RX0 52 (q.2.1 9).1 (q.2.1 9).2.1 (q.2.1 9).2.2.1 ∈ lw_tbl := fun q h => by cases h; exact ⟨rfl, q505⟩
theorem fl_X0_57 : xFl RX0 57 12 4 (.object "MemoryTransactions$Run") true := ⟨RX12, TX12, 6, rfl, by decide, rfl, rfl, Or.inr ⟨_, q480⟩⟩
theorem fl_X0_60 : xFl RX0 60 7 0 (.object "MemoryTransactions$Store") false := ⟨RX7, TX7, 15, rfl, by decide, rfl, rfl, Or.inr ⟨_, q411⟩⟩
theorem fl_X0_61 : xFl RX0 61 0 1 (.int) false := ⟨RX0, TX0, 10, rfl, by decide, rfl, rfl, Or.inl q497⟩
theorem fl_X0_69 : xFl RX0 69 0 4 (.int) false := ⟨RX0, TX0, 10, rfl, by decide, rfl, rfl, Or.inl q500⟩
theorem fl_X0_76 : xFl RX0 76 1 4 (.int) false := ⟨RX1, TX1, 11, rfl, by decide, rfl, rfl, Or.inr ⟨_, q198⟩⟩
theorem fl_X0_83 : xFl RX0 83 14 1 (.int) false := ⟨RX14, TX14, 4, rfl, by decide, rfl, rfl, Or.inr ⟨_, q558⟩⟩
theorem fl_X0_86 : xFl RX0 86 14 2 (.int) false := ⟨RX14, TX14, 4, rfl, by decide, rfl, rfl, Or.inr ⟨_, q560⟩⟩
theorem fl_X0_89 : xFl RX0 89 14 3 (.int) false := ⟨RX14, TX14, 4, rfl, by decide, rfl, rfl, Or.inr ⟨_, q562⟩⟩
theorem fl_X0_95 : xFl RX0 95 6 6 (.int) false := ⟨RX6, TX6, 7, rfl, by decide, rfl, rfl, Or.inr ⟨_, q317⟩⟩
theorem fl_X0_98 : xFl RX0 98 3 0 (.array .long) true := ⟨RX3, TX3, 5, rfl, by decide, rfl, rfl, Or.inr ⟨_, q272⟩⟩
theorem fl_X0_106 : xFl RX0 106 3 1 (.array .int) true := ⟨RX3, TX3, 5, rfl, by decide, rfl, rfl, Or.inr ⟨_, q275⟩⟩
theorem fl_X0_123 : xFl RX0 123 12 1 (.int) false := ⟨RX12, TX12, 6, rfl, by decide, rfl, rfl, Or.inr ⟨_, q474⟩⟩
theorem fl_X0_124 : xFl RX0 124 12 0 (.array .int) true := ⟨RX12, TX12, 6, rfl, by decide, rfl, rfl, Or.inr ⟨_, q472⟩⟩
theorem fl_X0_127 : xFl RX0 127 12 5 (.object "MemoryTransactions$Phase") false := ⟨RX12, TX12, 6, rfl, by decide, rfl, rfl, Or.inr ⟨_, q482⟩⟩
theorem fl_X0_181 : xFl RX0 181 12 3 (.boolean) false := ⟨RX12, TX12, 6, rfl, by decide, rfl, rfl, Or.inr ⟨_, q478⟩⟩
theorem fl_X0_201 : xFl RX0 201 7 11 (.long) false := ⟨RX7, TX7, 15, rfl, by decide, rfl, rfl, Or.inr ⟨_, q427⟩⟩
theorem fl_X0_213 : xFl RX0 213 7 10 (.int) false := ⟨RX7, TX7, 15, rfl, by decide, rfl, rfl, Or.inr ⟨_, q425⟩⟩
theorem fl_X0_216 : xFl RX0 216 12 2 (.int) false := ⟨RX12, TX12, 6, rfl, by decide, rfl, rfl, Or.inr ⟨_, q476⟩⟩
theorem fl_X0_233 : xFl RX0 233 7 6 (.int) false := ⟨RX7, TX7, 15, rfl, by decide, rfl, rfl, Or.inr ⟨_, q420⟩⟩
theorem fl_X0_236 : xFl RX0 236 7 2 (.object "MemoryTransactions$State") true := ⟨RX7, TX7, 15, rfl, by decide, rfl, rfl, Or.inr ⟨_, q415⟩⟩
theorem fl_X0_240 : xFl RX0 240 9 1 (.int) false := ⟨RX9, TX9, 4, rfl, by decide, rfl, rfl, Or.inr ⟨_, q365⟩⟩
theorem fl_X0_245 : xFl RX0 245 9 3 (.int) false := ⟨RX9, TX9, 4, rfl, by decide, rfl, rfl, Or.inr ⟨_, q370⟩⟩
theorem fl_X0_252 : xFl RX0 252 3 3 (.int) false := ⟨RX3, TX3, 5, rfl, by decide, rfl, rfl, Or.inr ⟨_, q280⟩⟩
theorem fl_X0_255 : xFl RX0 255 6 0 (.array (.object "MemoryTransactions$Row")) true := ⟨RX6, TX6, 7, rfl, by decide, rfl, rfl, Or.inr ⟨_, q305⟩⟩
theorem fl_X0_260 : xFl RX0 260 6 1 (.array .int) true := ⟨RX6, TX6, 7, rfl, by decide, rfl, rfl, Or.inr ⟨_, q307⟩⟩
theorem fl_X0_262 : xFl RX0 262 6 2 (.array .int) true := ⟨RX6, TX6, 7, rfl, by decide, rfl, rfl, Or.inr ⟨_, q309⟩⟩
theorem fl_X0_265 : xFl RX0 265 6 3 (.array .int) true := ⟨RX6, TX6, 7, rfl, by decide, rfl, rfl, Or.inr ⟨_, q311⟩⟩
theorem fl_X0_267 : xFl RX0 267 6 4 (.array .int) true := ⟨RX6, TX6, 7, rfl, by decide, rfl, rfl, Or.inr ⟨_, q313⟩⟩
theorem fl_X0_269 : xFl RX0 269 6 5 (.array .long) true := ⟨RX6, TX6, 7, rfl, by decide, rfl, rfl, Or.inr ⟨_, q315⟩⟩
theorem fl_X12_9 : xFl RX12 9 12 0 (.array .int) true := ⟨RX12, TX12, 6, rfl, by decide, rfl, rfl, Or.inl q471⟩
theorem fl_X12_9F : ∀ q, xcl[12]? = some q → (q.2.1 0).1 = RX12 ∧ Cond.fieldLink RX12 9 (q.2.1 0).1 (q.2.1 0).2.1 (q.2.1 0).2.2.1 ∈ lw_tbl := fun q h => by cases h; exact ⟨rfl, q471⟩
theorem fl_X12_18 : xFl RX12 18 12 4 (.object "MemoryTransactions$Run") true := ⟨RX12, TX12, 6, rfl, by decide, rfl, rfl, Or.inl q479⟩
theorem fl_X12_18F : ∀ q, xcl[12]? = some q → (q.2.1 4).1 = RX12 ∧ Cond.fieldLink RX12 18 (q.2.1 4).1 (q.2.1 4).2.1 (q.2.1 4).2.2.1 ∈ lw_tbl := fun q h => by cases h; exact ⟨rfl, q479⟩
theorem fl_X12_28 : xFl RX12 28 12 5 (.object "MemoryTransactions$Phase") false := ⟨RX12, TX12, 6, rfl, by decide, rfl, rfl, Or.inl q481⟩
theorem fl_X12_31 : xFl RX12 31 12 1 (.int) false := ⟨RX12, TX12, 6, rfl, by decide, rfl, rfl, Or.inl q473⟩
theorem fl_X12_35 : xFl RX12 35 12 2 (.int) false := ⟨RX12, TX12, 6, rfl, by decide, rfl, rfl, Or.inl q475⟩
theorem fl_X12_38 : xFl RX12 38 12 3 (.boolean) false := ⟨RX12, TX12, 6, rfl, by decide, rfl, rfl, Or.inl q477⟩
theorem fl_X11_10 : xFl RX11 10 11 2 (.object "MemoryTransactions$State") true := ⟨RX11, TX11, 3, rfl, by decide, rfl, rfl, Or.inl q402⟩
theorem fl_X11_10F : ∀ q, xcl[11]? = some q → (q.2.1 2).1 = RX11 ∧ Cond.fieldLink RX11 10 (q.2.1 2).1 (q.2.1 2).2.1 (q.2.1 2).2.2.1 ∈ lw_tbl := fun q h => by cases h; exact ⟨rfl, q402⟩
theorem fl_X1_12 : xFl RX1 12 1 0 (.object "MemoryTransactions$Fault") true := ⟨RX1, TX1, 11, rfl, by decide, rfl, rfl, Or.inl q193⟩
theorem fl_X1_12F : ∀ q, xcl[1]? = some q → (q.2.1 0).1 = RX1 ∧ Cond.fieldLink RX1 12 (q.2.1 0).1 (q.2.1 0).2.1 (q.2.1 0).2.2.1 ∈ lw_tbl := fun q h => by cases h; exact ⟨rfl, q193⟩
theorem fl_X1_18 : xFl RX1 18 1 1 (.array .byte) true := ⟨RX1, TX1, 11, rfl, by decide, rfl, rfl, Or.inl q194⟩
theorem fl_X1_18F : ∀ q, xcl[1]? = some q → (q.2.1 1).1 = RX1 ∧ Cond.fieldLink RX1 18 (q.2.1 1).1 (q.2.1 1).2.1 (q.2.1 1).2.2.1 ∈ lw_tbl := fun q h => by cases h; exact ⟨rfl, q194⟩
theorem fl_X1_22 : xFl RX1 22 1 4 (.int) false := ⟨RX1, TX1, 11, rfl, by decide, rfl, rfl, Or.inl q197⟩
theorem fl_X1_26 : xFl RX1 26 1 2 (.int) false := ⟨RX1, TX1, 11, rfl, by decide, rfl, rfl, Or.inl q195⟩
theorem fl_X1_29 : xFl RX1 29 1 3 (.int) false := ⟨RX1, TX1, 11, rfl, by decide, rfl, rfl, Or.inl q196⟩
theorem fl_X1_36 : xFl RX1 36 1 6 (.int) false := ⟨RX1, TX1, 11, rfl, by decide, rfl, rfl, Or.inl q200⟩
theorem fl_X1_39 : xFl RX1 39 1 5 (.char) false := ⟨RX1, TX1, 11, rfl, by decide, rfl, rfl, Or.inl q199⟩
theorem fl_X1_47 : xFl RX1 47 1 8 (.int) false := ⟨RX1, TX1, 11, rfl, by decide, rfl, rfl, Or.inl q202⟩
theorem fl_X1_53 : xFl RX1 53 1 7 (.long) false := ⟨RX1, TX1, 11, rfl, by decide, rfl, rfl, Or.inl q201⟩
theorem fl_X1_93 : xFl RX1 93 1 10 (.boolean) false := ⟨RX1, TX1, 11, rfl, by decide, rfl, rfl, Or.inl q204⟩
theorem fl_X1_100 : xFl RX1 100 1 9 (.object "MemoryTransactions$Program") false := ⟨RX1, TX1, 11, rfl, by decide, rfl, rfl, Or.inl q203⟩
theorem fl_X1_108 : xFl RX1 108 14 0 (.object "MemoryTransactions$Statement") false := ⟨RX14, TX14, 4, rfl, by decide, rfl, rfl, Or.inr ⟨_, q557⟩⟩
theorem fl_X1_116 : xFl RX1 116 15 5 (.object "MemoryTransactions$Statement") false := ⟨RX15, TX15, 6, rfl, by decide, rfl, rfl, Or.inr ⟨_, q705⟩⟩
theorem fl_X1_120 : xFl RX1 120 14 3 (.int) false := ⟨RX14, TX14, 4, rfl, by decide, rfl, rfl, Or.inr ⟨_, q563⟩⟩
theorem fl_X1_137 : xFl RX1 137 14 1 (.int) false := ⟨RX14, TX14, 4, rfl, by decide, rfl, rfl, Or.inr ⟨_, q559⟩⟩
theorem fl_X1_146 : xFl RX1 146 15 0 (.object "MemoryTransactions$Act") false := ⟨RX15, TX15, 6, rfl, by decide, rfl, rfl, Or.inr ⟨_, q695⟩⟩
theorem fl_X1_149 : xFl RX1 149 15 1 (.int) false := ⟨RX15, TX15, 6, rfl, by decide, rfl, rfl, Or.inr ⟨_, q697⟩⟩
theorem fl_X1_150 : xFl RX1 150 15 2 (.object "MemoryTransactions$Exp") false := ⟨RX15, TX15, 6, rfl, by decide, rfl, rfl, Or.inr ⟨_, q699⟩⟩
theorem fl_X1_168 : xFl RX1 168 15 3 (.object "MemoryTransactions$Statement") false := ⟨RX15, TX15, 6, rfl, by decide, rfl, rfl, Or.inr ⟨_, q701⟩⟩
theorem fl_X1_171 : xFl RX1 171 15 4 (.object "MemoryTransactions$Statement") false := ⟨RX15, TX15, 6, rfl, by decide, rfl, rfl, Or.inr ⟨_, q703⟩⟩
theorem fl_X1_219 : xFl RX1 219 16 0 (.char) false := ⟨RX16, TX16, 5, rfl, by decide, rfl, rfl, Or.inr ⟨_, q748⟩⟩
theorem fl_X1_222 : xFl RX1 222 16 3 (.object "MemoryTransactions$Exp") false := ⟨RX16, TX16, 5, rfl, by decide, rfl, rfl, Or.inr ⟨_, q754⟩⟩
theorem fl_X1_225 : xFl RX1 225 16 4 (.object "MemoryTransactions$Exp") false := ⟨RX16, TX16, 5, rfl, by decide, rfl, rfl, Or.inr ⟨_, q756⟩⟩
theorem fl_X1_241 : xFl RX1 241 14 2 (.int) false := ⟨RX14, TX14, 4, rfl, by decide, rfl, rfl, Or.inr ⟨_, q561⟩⟩
theorem fl_X1_244 : xFl RX1 244 16 1 (.long) false := ⟨RX16, TX16, 5, rfl, by decide, rfl, rfl, Or.inr ⟨_, q750⟩⟩
theorem fl_X1_245 : xFl RX1 245 16 2 (.int) false := ⟨RX16, TX16, 5, rfl, by decide, rfl, rfl, Or.inr ⟨_, q752⟩⟩
theorem fl_X6_11 : xFl RX6 11 6 0 (.array (.object "MemoryTransactions$Row")) true := ⟨RX6, TX6, 7, rfl, by decide, rfl, rfl, Or.inl q304⟩
theorem fl_X6_11F : ∀ q, xcl[6]? = some q → (q.2.1 0).1 = RX6 ∧ Cond.fieldLink RX6 11 (q.2.1 0).1 (q.2.1 0).2.1 (q.2.1 0).2.2.1 ∈ lw_tbl := fun q h => by cases h; exact ⟨rfl, q304⟩
theorem fl_X6_17 : xFl RX6 17 6 1 (.array .int) true := ⟨RX6, TX6, 7, rfl, by decide, rfl, rfl, Or.inl q306⟩
theorem fl_X6_17F : ∀ q, xcl[6]? = some q → (q.2.1 1).1 = RX6 ∧ Cond.fieldLink RX6 17 (q.2.1 1).1 (q.2.1 1).2.1 (q.2.1 1).2.2.1 ∈ lw_tbl := fun q h => by cases h; exact ⟨rfl, q306⟩
theorem fl_X6_21 : xFl RX6 21 6 2 (.array .int) true := ⟨RX6, TX6, 7, rfl, by decide, rfl, rfl, Or.inl q308⟩
theorem fl_X6_21F : ∀ q, xcl[6]? = some q → (q.2.1 2).1 = RX6 ∧ Cond.fieldLink RX6 21 (q.2.1 2).1 (q.2.1 2).2.1 (q.2.1 2).2.2.1 ∈ lw_tbl := fun q h => by cases h; exact ⟨rfl, q308⟩
theorem fl_X6_24 : xFl RX6 24 6 3 (.array .int) true := ⟨RX6, TX6, 7, rfl, by decide, rfl, rfl, Or.inl q310⟩
theorem fl_X6_24F : ∀ q, xcl[6]? = some q → (q.2.1 3).1 = RX6 ∧ Cond.fieldLink RX6 24 (q.2.1 3).1 (q.2.1 3).2.1 (q.2.1 3).2.2.1 ∈ lw_tbl := fun q h => by cases h; exact ⟨rfl, q310⟩
theorem fl_X6_27 : xFl RX6 27 6 4 (.array .int) true := ⟨RX6, TX6, 7, rfl, by decide, rfl, rfl, Or.inl q312⟩
theorem fl_X6_27F : ∀ q, xcl[6]? = some q → (q.2.1 4).1 = RX6 ∧ Cond.fieldLink RX6 27 (q.2.1 4).1 (q.2.1 4).2.1 (q.2.1 4).2.2.1 ∈ lw_tbl := fun q h => by cases h; exact ⟨rfl, q312⟩
theorem fl_X6_30 : xFl RX6 30 6 5 (.array .long) true := ⟨RX6, TX6, 7, rfl, by decide, rfl, rfl, Or.inl q314⟩
theorem fl_X6_30F : ∀ q, xcl[6]? = some q → (q.2.1 5).1 = RX6 ∧ Cond.fieldLink RX6 30 (q.2.1 5).1 (q.2.1 5).2.1 (q.2.1 5).2.2.1 ∈ lw_tbl := fun q h => by cases h; exact ⟨rfl, q314⟩
theorem fl_X6_34 : xFl RX6 34 6 6 (.int) false := ⟨RX6, TX6, 7, rfl, by decide, rfl, rfl, Or.inl q316⟩
theorem fl_X7_12 : xFl RX7 12 7 1 (.object "MemoryTransactions$Cut") true := ⟨RX7, TX7, 15, rfl, by decide, rfl, rfl, Or.inl q413⟩
theorem fl_X7_12F : ∀ q, xcl[7]? = some q → (q.2.1 1).1 = RX7 ∧ Cond.fieldLink RX7 12 (q.2.1 1).1 (q.2.1 1).2.1 (q.2.1 1).2.2.1 ∈ lw_tbl := fun q h => by cases h; exact ⟨rfl, q413⟩
theorem fl_X7_21 : xFl RX7 21 7 2 (.object "MemoryTransactions$State") true := ⟨RX7, TX7, 15, rfl, by decide, rfl, rfl, Or.inl q414⟩
theorem fl_X7_21F : ∀ q, xcl[7]? = some q → (q.2.1 2).1 = RX7 ∧ Cond.fieldLink RX7 21 (q.2.1 2).1 (q.2.1 2).2.1 (q.2.1 2).2.2.1 ∈ lw_tbl := fun q h => by cases h; exact ⟨rfl, q414⟩
theorem fl_X7_27 : xFl RX7 27 7 3 (.array (.object "MemoryTransactions$Exp")) true := ⟨RX7, TX7, 15, rfl, by decide, rfl, rfl, Or.inl q416⟩
theorem fl_X7_27F : ∀ q, xcl[7]? = some q → (q.2.1 3).1 = RX7 ∧ Cond.fieldLink RX7 27 (q.2.1 3).1 (q.2.1 3).2.1 (q.2.1 3).2.2.1 ∈ lw_tbl := fun q h => by cases h; exact ⟨rfl, q416⟩
theorem fl_X7_31 : xFl RX7 31 7 4 (.array .long) true := ⟨RX7, TX7, 15, rfl, by decide, rfl, rfl, Or.inl q417⟩
theorem fl_X7_31F : ∀ q, xcl[7]? = some q → (q.2.1 4).1 = RX7 ∧ Cond.fieldLink RX7 31 (q.2.1 4).1 (q.2.1 4).2.1 (q.2.1 4).2.2.1 ∈ lw_tbl := fun q h => by cases h; exact ⟨rfl, q417⟩
theorem fl_X7_35 : xFl RX7 35 7 5 (.array .int) true := ⟨RX7, TX7, 15, rfl, by decide, rfl, rfl, Or.inl q418⟩
theorem fl_X7_35F : ∀ q, xcl[7]? = some q → (q.2.1 5).1 = RX7 ∧ Cond.fieldLink RX7 35 (q.2.1 5).1 (q.2.1 5).2.1 (q.2.1 5).2.2.1 ∈ lw_tbl := fun q h => by cases h; exact ⟨rfl, q418⟩
theorem fl_X7_41 : xFl RX7 41 7 7 (.array (.object "MemoryTransactions$Level")) true := ⟨RX7, TX7, 15, rfl, by decide, rfl, rfl, Or.inl q421⟩
theorem fl_X7_41F : ∀ q, xcl[7]? = some q → (q.2.1 7).1 = RX7 ∧ Cond.fieldLink RX7 41 (q.2.1 7).1 (q.2.1 7).2.1 (q.2.1 7).2.2.1 ∈ lw_tbl := fun q h => by cases h; exact ⟨rfl, q421⟩
theorem fl_X7_50 : xFl RX7 50 7 14 (.object "MemoryTransactions$Letters") true := ⟨RX7, TX7, 15, rfl, by decide, rfl, rfl, Or.inl q430⟩
theorem fl_X7_50F : ∀ q, xcl[7]? = some q → (q.2.1 14).1 = RX7 ∧ Cond.fieldLink RX7 50 (q.2.1 14).1 (q.2.1 14).2.1 (q.2.1 14).2.2.1 ∈ lw_tbl := fun q h => by cases h; exact ⟨rfl, q430⟩
theorem fl_X7_55 : xFl RX7 55 7 0 (.object "MemoryTransactions$Store") false := ⟨RX7, TX7, 15, rfl, by decide, rfl, rfl, Or.inl q412⟩
theorem fl_X7_62 : xFl RX7 62 7 6 (.int) false := ⟨RX7, TX7, 15, rfl, by decide, rfl, rfl, Or.inl q419⟩
theorem fl_X7_66 : xFl RX7 66 7 8 (.int) false := ⟨RX7, TX7, 15, rfl, by decide, rfl, rfl, Or.inl q422⟩
theorem fl_X7_69 : xFl RX7 69 14 0 (.object "MemoryTransactions$Statement") false := ⟨RX14, TX14, 4, rfl, by decide, rfl, rfl, Or.inr ⟨_, q556⟩⟩
theorem fl_X7_75 : xFl RX7 75 7 9 (.object "MemoryTransactions$Statement") false := ⟨RX7, TX7, 15, rfl, by decide, rfl, rfl, Or.inl q423⟩
theorem fl_X7_78 : xFl RX7 78 7 10 (.int) false := ⟨RX7, TX7, 15, rfl, by decide, rfl, rfl, Or.inl q424⟩
theorem fl_X7_81 : xFl RX7 81 3 1 (.array .int) true := ⟨RX3, TX3, 5, rfl, by decide, rfl, rfl, Or.inr ⟨_, q274⟩⟩
theorem fl_X7_84 : xFl RX7 84 9 2 (.array .long) true := ⟨RX9, TX9, 4, rfl, by decide, rfl, rfl, Or.inr ⟨_, q367⟩⟩
theorem fl_X7_87 : xFl RX7 87 9 1 (.int) false := ⟨RX9, TX9, 4, rfl, by decide, rfl, rfl, Or.inr ⟨_, q364⟩⟩
theorem fl_X7_90 : xFl RX7 90 9 0 (.array .long) true := ⟨RX9, TX9, 4, rfl, by decide, rfl, rfl, Or.inr ⟨_, q362⟩⟩
theorem fl_X7_97 : xFl RX7 97 3 0 (.array .long) true := ⟨RX3, TX3, 5, rfl, by decide, rfl, rfl, Or.inr ⟨_, q271⟩⟩
theorem fl_X7_100 : xFl RX7 100 11 0 (.object "MemoryTransactions$Statement") false := ⟨RX11, TX11, 3, rfl, by decide, rfl, rfl, Or.inr ⟨_, q400⟩⟩
theorem fl_X7_103 : xFl RX7 103 11 1 (.boolean) false := ⟨RX11, TX11, 3, rfl, by decide, rfl, rfl, Or.inr ⟨_, q401⟩⟩
theorem fl_X7_107 : xFl RX7 107 11 2 (.object "MemoryTransactions$State") true := ⟨RX11, TX11, 3, rfl, by decide, rfl, rfl, Or.inr ⟨_, q403⟩⟩
theorem fl_X7_114 : xFl RX7 114 15 3 (.object "MemoryTransactions$Statement") false := ⟨RX15, TX15, 6, rfl, by decide, rfl, rfl, Or.inr ⟨_, q700⟩⟩
theorem fl_X7_117 : xFl RX7 117 15 4 (.object "MemoryTransactions$Statement") false := ⟨RX15, TX15, 6, rfl, by decide, rfl, rfl, Or.inr ⟨_, q702⟩⟩
theorem fl_X7_120 : xFl RX7 120 15 0 (.object "MemoryTransactions$Act") false := ⟨RX15, TX15, 6, rfl, by decide, rfl, rfl, Or.inr ⟨_, q694⟩⟩
theorem fl_X7_129 : xFl RX7 129 15 5 (.object "MemoryTransactions$Statement") false := ⟨RX15, TX15, 6, rfl, by decide, rfl, rfl, Or.inr ⟨_, q704⟩⟩
theorem fl_X7_137 : xFl RX7 137 7 12 (.int) false := ⟨RX7, TX7, 15, rfl, by decide, rfl, rfl, Or.inl q428⟩
theorem fl_X7_141 : xFl RX7 141 7 11 (.long) false := ⟨RX7, TX7, 15, rfl, by decide, rfl, rfl, Or.inl q426⟩
theorem fl_X7_166 : xFl RX7 166 5 6 (.long) false := ⟨RX5, TX5, 7, rfl, by decide, rfl, rfl, Or.inr ⟨_, q259⟩⟩
theorem fl_X7_174 : xFl RX7 174 15 1 (.int) false := ⟨RX15, TX15, 6, rfl, by decide, rfl, rfl, Or.inr ⟨_, q696⟩⟩
theorem fl_X7_181 : xFl RX7 181 7 13 (.boolean) false := ⟨RX7, TX7, 15, rfl, by decide, rfl, rfl, Or.inl q429⟩
theorem fl_X7_194 : xFl RX7 194 3 4 (.object "MemoryTransactions$Worker") true := ⟨RX3, TX3, 5, rfl, by decide, rfl, rfl, Or.inr ⟨_, q282⟩⟩
theorem fl_X7_198 : xFl RX7 198 15 2 (.object "MemoryTransactions$Exp") false := ⟨RX15, TX15, 6, rfl, by decide, rfl, rfl, Or.inr ⟨_, q698⟩⟩
theorem fl_X7_212 : xFl RX7 212 9 3 (.int) false := ⟨RX9, TX9, 4, rfl, by decide, rfl, rfl, Or.inr ⟨_, q369⟩⟩
theorem fl_X7_217 : xFl RX7 217 3 3 (.int) false := ⟨RX3, TX3, 5, rfl, by decide, rfl, rfl, Or.inr ⟨_, q279⟩⟩
theorem fl_X7_229 : xFl RX7 229 3 2 (.array (.object "MemoryTransactions$Exp")) true := ⟨RX3, TX3, 5, rfl, by decide, rfl, rfl, Or.inr ⟨_, q277⟩⟩
theorem fl_X10_1 : xFl RX10 1 10 0 (.object "MemoryTransactions$Run") true := ⟨RX10, TX10, 1, rfl, by decide, rfl, rfl, Or.inl q389⟩
theorem fl_X10_1F : ∀ q, xcl[10]? = some q → (q.2.1 0).1 = RX10 ∧ Cond.fieldLink RX10 1 (q.2.1 0).1 (q.2.1 0).2.1 (q.2.1 0).2.2.1 ∈ lw_tbl := fun q h => by cases h; exact ⟨rfl, q389⟩
theorem fl_X9_9 : xFl RX9 9 9 0 (.array .long) true := ⟨RX9, TX9, 4, rfl, by decide, rfl, rfl, Or.inl q361⟩
theorem fl_X9_9F : ∀ q, xcl[9]? = some q → (q.2.1 0).1 = RX9 ∧ Cond.fieldLink RX9 9 (q.2.1 0).1 (q.2.1 0).2.1 (q.2.1 0).2.2.1 ∈ lw_tbl := fun q h => by cases h; exact ⟨rfl, q361⟩
theorem fl_X9_15 : xFl RX9 15 9 2 (.array .long) true := ⟨RX9, TX9, 4, rfl, by decide, rfl, rfl, Or.inl q366⟩
theorem fl_X9_15F : ∀ q, xcl[9]? = some q → (q.2.1 2).1 = RX9 ∧ Cond.fieldLink RX9 15 (q.2.1 2).1 (q.2.1 2).2.1 (q.2.1 2).2.2.1 ∈ lw_tbl := fun q h => by cases h; exact ⟨rfl, q366⟩
theorem fl_X9_18 : xFl RX9 18 9 1 (.int) false := ⟨RX9, TX9, 4, rfl, by decide, rfl, rfl, Or.inl q363⟩
theorem fl_X9_28 : xFl RX9 28 9 3 (.int) false := ⟨RX9, TX9, 4, rfl, by decide, rfl, rfl, Or.inl q368⟩
theorem fl_X3_9 : xFl RX3 9 3 0 (.array .long) true := ⟨RX3, TX3, 5, rfl, by decide, rfl, rfl, Or.inl q270⟩
theorem fl_X3_9F : ∀ q, xcl[3]? = some q → (q.2.1 0).1 = RX3 ∧ Cond.fieldLink RX3 9 (q.2.1 0).1 (q.2.1 0).2.1 (q.2.1 0).2.2.1 ∈ lw_tbl := fun q h => by cases h; exact ⟨rfl, q270⟩
theorem fl_X3_15 : xFl RX3 15 3 1 (.array .int) true := ⟨RX3, TX3, 5, rfl, by decide, rfl, rfl, Or.inl q273⟩
theorem fl_X3_15F : ∀ q, xcl[3]? = some q → (q.2.1 1).1 = RX3 ∧ Cond.fieldLink RX3 15 (q.2.1 1).1 (q.2.1 1).2.1 (q.2.1 1).2.2.1 ∈ lw_tbl := fun q h => by cases h; exact ⟨rfl, q273⟩
theorem fl_X3_21 : xFl RX3 21 3 2 (.array (.object "MemoryTransactions$Exp")) true := ⟨RX3, TX3, 5, rfl, by decide, rfl, rfl, Or.inl q276⟩
theorem fl_X3_21F : ∀ q, xcl[3]? = some q → (q.2.1 2).1 = RX3 ∧ Cond.fieldLink RX3 21 (q.2.1 2).1 (q.2.1 2).2.1 (q.2.1 2).2.2.1 ∈ lw_tbl := fun q h => by cases h; exact ⟨rfl, q276⟩
theorem fl_X3_28 : xFl RX3 28 3 4 (.object "MemoryTransactions$Worker") true := ⟨RX3, TX3, 5, rfl, by decide, rfl, rfl, Or.inl q281⟩
theorem fl_X3_28F : ∀ q, xcl[3]? = some q → (q.2.1 4).1 = RX3 ∧ Cond.fieldLink RX3 28 (q.2.1 4).1 (q.2.1 4).2.1 (q.2.1 4).2.2.1 ∈ lw_tbl := fun q h => by cases h; exact ⟨rfl, q281⟩
theorem fl_X3_41 : xFl RX3 41 3 3 (.int) false := ⟨RX3, TX3, 5, rfl, by decide, rfl, rfl, Or.inl q278⟩
theorem fl_X4_12 : xFl RX4 12 4 0 (.object "MemoryTransactions$Thrown") true := ⟨RX4, TX4, 1, rfl, by decide, rfl, rfl, Or.inl q266⟩
theorem fl_X4_12F : ∀ q, xcl[4]? = some q → (q.2.1 0).1 = RX4 ∧ Cond.fieldLink RX4 12 (q.2.1 0).1 (q.2.1 0).2.1 (q.2.1 0).2.2.1 ∈ lw_tbl := fun q h => by cases h; exact ⟨rfl, q266⟩
theorem fl_X4_18 : xFl RX4 18 5 6 (.long) false := ⟨RX5, TX5, 7, rfl, by decide, rfl, rfl, Or.inr ⟨_, q258⟩⟩
theorem fl_X4_22 : xFl RX4 22 16 0 (.char) false := ⟨RX16, TX16, 5, rfl, by decide, rfl, rfl, Or.inr ⟨_, q747⟩⟩
theorem fl_X4_30 : xFl RX4 30 16 1 (.long) false := ⟨RX16, TX16, 5, rfl, by decide, rfl, rfl, Or.inr ⟨_, q749⟩⟩
theorem fl_X4_33 : xFl RX4 33 16 2 (.int) false := ⟨RX16, TX16, 5, rfl, by decide, rfl, rfl, Or.inr ⟨_, q751⟩⟩
theorem fl_X4_43 : xFl RX4 43 16 3 (.object "MemoryTransactions$Exp") false := ⟨RX16, TX16, 5, rfl, by decide, rfl, rfl, Or.inr ⟨_, q753⟩⟩
theorem fl_X4_51 : xFl RX4 51 16 4 (.object "MemoryTransactions$Exp") false := ⟨RX16, TX16, 5, rfl, by decide, rfl, rfl, Or.inr ⟨_, q755⟩⟩
theorem fl_X13_7 : xFl RX13 7 13 1 (.array .byte) true := ⟨RX13, TX13, 76, rfl, by decide, rfl, rfl, Or.inl q1149⟩
theorem fl_X13_7F : ∀ q, xcl[13]? = some q → (q.2.1 1).1 = RX13 ∧ Cond.fieldLink RX13 7 (q.2.1 1).1 (q.2.1 1).2.1 (q.2.1 1).2.2.1 ∈ lw_tbl := fun q h => by cases h; exact ⟨rfl, q1149⟩
theorem fl_X13_13 : xFl RX13 13 13 10 (.int) false := ⟨RX13, TX13, 76, rfl, by decide, rfl, rfl, Or.inl q1158⟩
theorem fl_X13_17 : xFl RX13 17 13 12 (.array .int) true := ⟨RX13, TX13, 76, rfl, by decide, rfl, rfl, Or.inl q1160⟩
theorem fl_X13_17F : ∀ q, xcl[13]? = some q → (q.2.1 12).1 = RX13 ∧ Cond.fieldLink RX13 17 (q.2.1 12).1 (q.2.1 12).2.1 (q.2.1 12).2.2.1 ∈ lw_tbl := fun q h => by cases h; exact ⟨rfl, q1160⟩
theorem fl_X13_21 : xFl RX13 21 13 13 (.array .int) true := ⟨RX13, TX13, 76, rfl, by decide, rfl, rfl, Or.inl q1161⟩
theorem fl_X13_21F : ∀ q, xcl[13]? = some q → (q.2.1 13).1 = RX13 ∧ Cond.fieldLink RX13 21 (q.2.1 13).1 (q.2.1 13).2.1 (q.2.1 13).2.2.1 ∈ lw_tbl := fun q h => by cases h; exact ⟨rfl, q1161⟩
theorem fl_X13_24 : xFl RX13 24 13 14 (.array .int) true := ⟨RX13, TX13, 76, rfl, by decide, rfl, rfl, Or.inl q1162⟩
theorem fl_X13_24F : ∀ q, xcl[13]? = some q → (q.2.1 14).1 = RX13 ∧ Cond.fieldLink RX13 24 (q.2.1 14).1 (q.2.1 14).2.1 (q.2.1 14).2.2.1 ∈ lw_tbl := fun q h => by cases h; exact ⟨rfl, q1162⟩
theorem fl_X13_27 : xFl RX13 27 13 15 (.array .int) true := ⟨RX13, TX13, 76, rfl, by decide, rfl, rfl, Or.inl q1163⟩
theorem fl_X13_27F : ∀ q, xcl[13]? = some q → (q.2.1 15).1 = RX13 ∧ Cond.fieldLink RX13 27 (q.2.1 15).1 (q.2.1 15).2.1 (q.2.1 15).2.2.1 ∈ lw_tbl := fun q h => by cases h; exact ⟨rfl, q1163⟩
theorem fl_X13_30 : xFl RX13 30 13 16 (.array .int) true := ⟨RX13, TX13, 76, rfl, by decide, rfl, rfl, Or.inl q1164⟩
theorem fl_X13_30F : ∀ q, xcl[13]? = some q → (q.2.1 16).1 = RX13 ∧ Cond.fieldLink RX13 30 (q.2.1 16).1 (q.2.1 16).2.1 (q.2.1 16).2.2.1 ∈ lw_tbl := fun q h => by cases h; exact ⟨rfl, q1164⟩
theorem fl_X13_33 : xFl RX13 33 13 17 (.array .int) true := ⟨RX13, TX13, 76, rfl, by decide, rfl, rfl, Or.inl q1165⟩
theorem fl_X13_33F : ∀ q, xcl[13]? = some q → (q.2.1 17).1 = RX13 ∧ Cond.fieldLink RX13 33 (q.2.1 17).1 (q.2.1 17).2.1 (q.2.1 17).2.2.1 ∈ lw_tbl := fun q h => by cases h; exact ⟨rfl, q1165⟩
theorem fl_X13_36 : xFl RX13 36 13 18 (.array .int) true := ⟨RX13, TX13, 76, rfl, by decide, rfl, rfl, Or.inl q1166⟩
theorem fl_X13_36F : ∀ q, xcl[13]? = some q → (q.2.1 18).1 = RX13 ∧ Cond.fieldLink RX13 36 (q.2.1 18).1 (q.2.1 18).2.1 (q.2.1 18).2.2.1 ∈ lw_tbl := fun q h => by cases h; exact ⟨rfl, q1166⟩
theorem fl_X13_39 : xFl RX13 39 13 19 (.array .int) true := ⟨RX13, TX13, 76, rfl, by decide, rfl, rfl, Or.inl q1167⟩
theorem fl_X13_39F : ∀ q, xcl[13]? = some q → (q.2.1 19).1 = RX13 ∧ Cond.fieldLink RX13 39 (q.2.1 19).1 (q.2.1 19).2.1 (q.2.1 19).2.2.1 ∈ lw_tbl := fun q h => by cases h; exact ⟨rfl, q1167⟩
theorem fl_X13_42 : xFl RX13 42 13 20 (.array .int) true := ⟨RX13, TX13, 76, rfl, by decide, rfl, rfl, Or.inl q1168⟩
theorem fl_X13_42F : ∀ q, xcl[13]? = some q → (q.2.1 20).1 = RX13 ∧ Cond.fieldLink RX13 42 (q.2.1 20).1 (q.2.1 20).2.1 (q.2.1 20).2.2.1 ∈ lw_tbl := fun q h => by cases h; exact ⟨rfl, q1168⟩
theorem fl_X13_45 : xFl RX13 45 13 21 (.array .int) true := ⟨RX13, TX13, 76, rfl, by decide, rfl, rfl, Or.inl q1169⟩
theorem fl_X13_45F : ∀ q, xcl[13]? = some q → (q.2.1 21).1 = RX13 ∧ Cond.fieldLink RX13 45 (q.2.1 21).1 (q.2.1 21).2.1 (q.2.1 21).2.2.1 ∈ lw_tbl := fun q h => by cases h; exact ⟨rfl, q1169⟩
theorem fl_X13_48 : xFl RX13 48 13 22 (.array .int) true := ⟨RX13, TX13, 76, rfl, by decide, rfl, rfl, Or.inl q1170⟩
theorem fl_X13_48F : ∀ q, xcl[13]? = some q → (q.2.1 22).1 = RX13 ∧ Cond.fieldLink RX13 48 (q.2.1 22).1 (q.2.1 22).2.1 (q.2.1 22).2.2.1 ∈ lw_tbl := fun q h => by cases h; exact ⟨rfl, q1170⟩
theorem fl_X13_51 : xFl RX13 51 13 23 (.array .int) true := ⟨RX13, TX13, 76, rfl, by decide, rfl, rfl, Or.inl q1171⟩
theorem fl_X13_51F : ∀ q, xcl[13]? = some q → (q.2.1 23).1 = RX13 ∧ Cond.fieldLink RX13 51 (q.2.1 23).1 (q.2.1 23).2.1 (q.2.1 23).2.2.1 ∈ lw_tbl := fun q h => by cases h; exact ⟨rfl, q1171⟩
theorem fl_X13_54 : xFl RX13 54 13 24 (.array .int) true := ⟨RX13, TX13, 76, rfl, by decide, rfl, rfl, Or.inl q1172⟩
theorem fl_X13_54F : ∀ q, xcl[13]? = some q → (q.2.1 24).1 = RX13 ∧ Cond.fieldLink RX13 54 (q.2.1 24).1 (q.2.1 24).2.1 (q.2.1 24).2.2.1 ∈ lw_tbl := fun q h => by cases h; exact ⟨rfl, q1172⟩
theorem fl_X13_57 : xFl RX13 57 13 25 (.array .int) true := ⟨RX13, TX13, 76, rfl, by decide, rfl, rfl, Or.inl q1173⟩
theorem fl_X13_57F : ∀ q, xcl[13]? = some q → (q.2.1 25).1 = RX13 ∧ Cond.fieldLink RX13 57 (q.2.1 25).1 (q.2.1 25).2.1 (q.2.1 25).2.2.1 ∈ lw_tbl := fun q h => by cases h; exact ⟨rfl, q1173⟩
theorem fl_X13_60 : xFl RX13 60 13 26 (.array .int) true := ⟨RX13, TX13, 76, rfl, by decide, rfl, rfl, Or.inl q1174⟩
theorem fl_X13_60F : ∀ q, xcl[13]? = some q → (q.2.1 26).1 = RX13 ∧ Cond.fieldLink RX13 60 (q.2.1 26).1 (q.2.1 26).2.1 (q.2.1 26).2.2.1 ∈ lw_tbl := fun q h => by cases h; exact ⟨rfl, q1174⟩
theorem fl_X13_63 : xFl RX13 63 13 27 (.array .long) true := ⟨RX13, TX13, 76, rfl, by decide, rfl, rfl, Or.inl q1175⟩
theorem fl_X13_63F : ∀ q, xcl[13]? = some q → (q.2.1 27).1 = RX13 ∧ Cond.fieldLink RX13 63 (q.2.1 27).1 (q.2.1 27).2.1 (q.2.1 27).2.2.1 ∈ lw_tbl := fun q h => by cases h; exact ⟨rfl, q1175⟩
theorem fl_X13_67 : xFl RX13 67 13 29 (.array .int) true := ⟨RX13, TX13, 76, rfl, by decide, rfl, rfl, Or.inl q1177⟩
theorem fl_X13_67F : ∀ q, xcl[13]? = some q → (q.2.1 29).1 = RX13 ∧ Cond.fieldLink RX13 67 (q.2.1 29).1 (q.2.1 29).2.1 (q.2.1 29).2.2.1 ∈ lw_tbl := fun q h => by cases h; exact ⟨rfl, q1177⟩
theorem fl_X13_70 : xFl RX13 70 13 32 (.array .boolean) true := ⟨RX13, TX13, 76, rfl, by decide, rfl, rfl, Or.inl q1180⟩
theorem fl_X13_70F : ∀ q, xcl[13]? = some q → (q.2.1 32).1 = RX13 ∧ Cond.fieldLink RX13 70 (q.2.1 32).1 (q.2.1 32).2.1 (q.2.1 32).2.2.1 ∈ lw_tbl := fun q h => by cases h; exact ⟨rfl, q1180⟩
theorem fl_X13_74 : xFl RX13 74 13 34 (.array .int) true := ⟨RX13, TX13, 76, rfl, by decide, rfl, rfl, Or.inl q1182⟩
theorem fl_X13_74F : ∀ q, xcl[13]? = some q → (q.2.1 34).1 = RX13 ∧ Cond.fieldLink RX13 74 (q.2.1 34).1 (q.2.1 34).2.1 (q.2.1 34).2.2.1 ∈ lw_tbl := fun q h => by cases h; exact ⟨rfl, q1182⟩
theorem fl_X13_77 : xFl RX13 77 13 35 (.array .int) true := ⟨RX13, TX13, 76, rfl, by decide, rfl, rfl, Or.inl q1183⟩
theorem fl_X13_77F : ∀ q, xcl[13]? = some q → (q.2.1 35).1 = RX13 ∧ Cond.fieldLink RX13 77 (q.2.1 35).1 (q.2.1 35).2.1 (q.2.1 35).2.2.1 ∈ lw_tbl := fun q h => by cases h; exact ⟨rfl, q1183⟩
theorem fl_X13_80 : xFl RX13 80 13 36 (.array .int) true := ⟨RX13, TX13, 76, rfl, by decide, rfl, rfl, Or.inl q1184⟩
theorem fl_X13_80F : ∀ q, xcl[13]? = some q → (q.2.1 36).1 = RX13 ∧ Cond.fieldLink RX13 80 (q.2.1 36).1 (q.2.1 36).2.1 (q.2.1 36).2.2.1 ∈ lw_tbl := fun q h => by cases h; exact ⟨rfl, q1184⟩
theorem fl_X13_83 : xFl RX13 83 13 38 (.array .long) true := ⟨RX13, TX13, 76, rfl, by decide, rfl, rfl, Or.inl q1186⟩
theorem fl_X13_83F : ∀ q, xcl[13]? = some q → (q.2.1 38).1 = RX13 ∧ Cond.fieldLink RX13 83 (q.2.1 38).1 (q.2.1 38).2.1 (q.2.1 38).2.2.1 ∈ lw_tbl := fun q h => by cases h; exact ⟨rfl, q1186⟩
theorem fl_X13_86 : xFl RX13 86 13 39 (.array .int) true := ⟨RX13, TX13, 76, rfl, by decide, rfl, rfl, Or.inl q1187⟩
theorem fl_X13_86F : ∀ q, xcl[13]? = some q → (q.2.1 39).1 = RX13 ∧ Cond.fieldLink RX13 86 (q.2.1 39).1 (q.2.1 39).2.1 (q.2.1 39).2.2.1 ∈ lw_tbl := fun q h => by cases h; exact ⟨rfl, q1187⟩
theorem fl_X13_89 : xFl RX13 89 13 40 (.array .int) true := ⟨RX13, TX13, 76, rfl, by decide, rfl, rfl, Or.inl q1188⟩
theorem fl_X13_89F : ∀ q, xcl[13]? = some q → (q.2.1 40).1 = RX13 ∧ Cond.fieldLink RX13 89 (q.2.1 40).1 (q.2.1 40).2.1 (q.2.1 40).2.2.1 ∈ lw_tbl := fun q h => by cases h; exact ⟨rfl, q1188⟩
theorem fl_X13_92 : xFl RX13 92 13 41 (.array .int) true := ⟨RX13, TX13, 76, rfl, by decide, rfl, rfl, Or.inl q1189⟩
theorem fl_X13_92F : ∀ q, xcl[13]? = some q → (q.2.1 41).1 = RX13 ∧ Cond.fieldLink RX13 92 (q.2.1 41).1 (q.2.1 41).2.1 (q.2.1 41).2.2.1 ∈ lw_tbl := fun q h => by cases h; exact ⟨rfl, q1189⟩
theorem fl_X13_95 : xFl RX13 95 13 43 (.array .int) true := ⟨RX13, TX13, 76, rfl, by decide, rfl, rfl, Or.inl q1191⟩
theorem fl_X13_95F : ∀ q, xcl[13]? = some q → (q.2.1 43).1 = RX13 ∧ Cond.fieldLink RX13 95 (q.2.1 43).1 (q.2.1 43).2.1 (q.2.1 43).2.2.1 ∈ lw_tbl := fun q h => by cases h; exact ⟨rfl, q1191⟩
theorem fl_X13_98 : xFl RX13 98 13 44 (.array .int) true := ⟨RX13, TX13, 76, rfl, by decide, rfl, rfl, Or.inl q1192⟩
theorem fl_X13_98F : ∀ q, xcl[13]? = some q → (q.2.1 44).1 = RX13 ∧ Cond.fieldLink RX13 98 (q.2.1 44).1 (q.2.1 44).2.1 (q.2.1 44).2.2.1 ∈ lw_tbl := fun q h => by cases h; exact ⟨rfl, q1192⟩
theorem fl_X13_101 : xFl RX13 101 13 45 (.array .int) true := ⟨RX13, TX13, 76, rfl, by decide, rfl, rfl, Or.inl q1193⟩
theorem fl_X13_101F : ∀ q, xcl[13]? = some q → (q.2.1 45).1 = RX13 ∧ Cond.fieldLink RX13 101 (q.2.1 45).1 (q.2.1 45).2.1 (q.2.1 45).2.2.1 ∈ lw_tbl := fun q h => by cases h; exact ⟨rfl, q1193⟩
theorem fl_X13_104 : xFl RX13 104 13 46 (.array .int) true := ⟨RX13, TX13, 76, rfl, by decide, rfl, rfl, Or.inl q1194⟩
theorem fl_X13_104F : ∀ q, xcl[13]? = some q → (q.2.1 46).1 = RX13 ∧ Cond.fieldLink RX13 104 (q.2.1 46).1 (q.2.1 46).2.1 (q.2.1 46).2.2.1 ∈ lw_tbl := fun q h => by cases h; exact ⟨rfl, q1194⟩
theorem fl_X13_107 : xFl RX13 107 13 47 (.array .int) true := ⟨RX13, TX13, 76, rfl, by decide, rfl, rfl, Or.inl q1195⟩
theorem fl_X13_107F : ∀ q, xcl[13]? = some q → (q.2.1 47).1 = RX13 ∧ Cond.fieldLink RX13 107 (q.2.1 47).1 (q.2.1 47).2.1 (q.2.1 47).2.2.1 ∈ lw_tbl := fun q h => by cases h; exact ⟨rfl, q1195⟩
theorem fl_X13_110 : xFl RX13 110 13 48 (.array .boolean) true := ⟨RX13, TX13, 76, rfl, by decide, rfl, rfl, Or.inl q1196⟩
theorem fl_X13_110F : ∀ q, xcl[13]? = some q → (q.2.1 48).1 = RX13 ∧ Cond.fieldLink RX13 110 (q.2.1 48).1 (q.2.1 48).2.1 (q.2.1 48).2.2.1 ∈ lw_tbl := fun q h => by cases h; exact ⟨rfl, q1196⟩
theorem fl_X13_113 : xFl RX13 113 13 49 (.array .int) true := ⟨RX13, TX13, 76, rfl, by decide, rfl, rfl, Or.inl q1197⟩
theorem fl_X13_113F : ∀ q, xcl[13]? = some q → (q.2.1 49).1 = RX13 ∧ Cond.fieldLink RX13 113 (q.2.1 49).1 (q.2.1 49).2.1 (q.2.1 49).2.2.1 ∈ lw_tbl := fun q h => by cases h; exact ⟨rfl, q1197⟩
theorem fl_X13_116 : xFl RX13 116 13 50 (.array .long) true := ⟨RX13, TX13, 76, rfl, by decide, rfl, rfl, Or.inl q1198⟩
theorem fl_X13_116F : ∀ q, xcl[13]? = some q → (q.2.1 50).1 = RX13 ∧ Cond.fieldLink RX13 116 (q.2.1 50).1 (q.2.1 50).2.1 (q.2.1 50).2.2.1 ∈ lw_tbl := fun q h => by cases h; exact ⟨rfl, q1198⟩
theorem fl_X13_119 : xFl RX13 119 13 51 (.array .int) true := ⟨RX13, TX13, 76, rfl, by decide, rfl, rfl, Or.inl q1199⟩
theorem fl_X13_119F : ∀ q, xcl[13]? = some q → (q.2.1 51).1 = RX13 ∧ Cond.fieldLink RX13 119 (q.2.1 51).1 (q.2.1 51).2.1 (q.2.1 51).2.2.1 ∈ lw_tbl := fun q h => by cases h; exact ⟨rfl, q1199⟩
theorem fl_X13_122 : xFl RX13 122 13 53 (.array .long) true := ⟨RX13, TX13, 76, rfl, by decide, rfl, rfl, Or.inl q1201⟩
theorem fl_X13_122F : ∀ q, xcl[13]? = some q → (q.2.1 53).1 = RX13 ∧ Cond.fieldLink RX13 122 (q.2.1 53).1 (q.2.1 53).2.1 (q.2.1 53).2.2.1 ∈ lw_tbl := fun q h => by cases h; exact ⟨rfl, q1201⟩
theorem fl_X13_125 : xFl RX13 125 13 54 (.array .int) true := ⟨RX13, TX13, 76, rfl, by decide, rfl, rfl, Or.inl q1202⟩
theorem fl_X13_125F : ∀ q, xcl[13]? = some q → (q.2.1 54).1 = RX13 ∧ Cond.fieldLink RX13 125 (q.2.1 54).1 (q.2.1 54).2.1 (q.2.1 54).2.2.1 ∈ lw_tbl := fun q h => by cases h; exact ⟨rfl, q1202⟩
theorem fl_X13_128 : xFl RX13 128 13 56 (.array .long) true := ⟨RX13, TX13, 76, rfl, by decide, rfl, rfl, Or.inl q1204⟩
theorem fl_X13_128F : ∀ q, xcl[13]? = some q → (q.2.1 56).1 = RX13 ∧ Cond.fieldLink RX13 128 (q.2.1 56).1 (q.2.1 56).2.1 (q.2.1 56).2.2.1 ∈ lw_tbl := fun q h => by cases h; exact ⟨rfl, q1204⟩
theorem fl_X13_131 : xFl RX13 131 13 57 (.array .long) true := ⟨RX13, TX13, 76, rfl, by decide, rfl, rfl, Or.inl q1205⟩
theorem fl_X13_131F : ∀ q, xcl[13]? = some q → (q.2.1 57).1 = RX13 ∧ Cond.fieldLink RX13 131 (q.2.1 57).1 (q.2.1 57).2.1 (q.2.1 57).2.2.1 ∈ lw_tbl := fun q h => by cases h; exact ⟨rfl, q1205⟩
theorem fl_X13_134 : xFl RX13 134 13 59 (.array .int) true := ⟨RX13, TX13, 76, rfl, by decide, rfl, rfl, Or.inl q1207⟩
theorem fl_X13_134F : ∀ q, xcl[13]? = some q → (q.2.1 59).1 = RX13 ∧ Cond.fieldLink RX13 134 (q.2.1 59).1 (q.2.1 59).2.1 (q.2.1 59).2.2.1 ∈ lw_tbl := fun q h => by cases h; exact ⟨rfl, q1207⟩
theorem fl_X13_137 : xFl RX13 137 13 61 (.array .int) true := ⟨RX13, TX13, 76, rfl, by decide, rfl, rfl, Or.inl q1209⟩
theorem fl_X13_137F : ∀ q, xcl[13]? = some q → (q.2.1 61).1 = RX13 ∧ Cond.fieldLink RX13 137 (q.2.1 61).1 (q.2.1 61).2.1 (q.2.1 61).2.2.1 ∈ lw_tbl := fun q h => by cases h; exact ⟨rfl, q1209⟩
theorem fl_X13_140 : xFl RX13 140 13 62 (.array .long) true := ⟨RX13, TX13, 76, rfl, by decide, rfl, rfl, Or.inl q1210⟩
theorem fl_X13_140F : ∀ q, xcl[13]? = some q → (q.2.1 62).1 = RX13 ∧ Cond.fieldLink RX13 140 (q.2.1 62).1 (q.2.1 62).2.1 (q.2.1 62).2.2.1 ∈ lw_tbl := fun q h => by cases h; exact ⟨rfl, q1210⟩
theorem fl_X13_143 : xFl RX13 143 13 63 (.array .long) true := ⟨RX13, TX13, 76, rfl, by decide, rfl, rfl, Or.inl q1211⟩
theorem fl_X13_143F : ∀ q, xcl[13]? = some q → (q.2.1 63).1 = RX13 ∧ Cond.fieldLink RX13 143 (q.2.1 63).1 (q.2.1 63).2.1 (q.2.1 63).2.2.1 ∈ lw_tbl := fun q h => by cases h; exact ⟨rfl, q1211⟩
theorem fl_X13_146 : xFl RX13 146 13 64 (.array .int) true := ⟨RX13, TX13, 76, rfl, by decide, rfl, rfl, Or.inl q1212⟩
theorem fl_X13_146F : ∀ q, xcl[13]? = some q → (q.2.1 64).1 = RX13 ∧ Cond.fieldLink RX13 146 (q.2.1 64).1 (q.2.1 64).2.1 (q.2.1 64).2.2.1 ∈ lw_tbl := fun q h => by cases h; exact ⟨rfl, q1212⟩
theorem fl_X13_149 : xFl RX13 149 13 67 (.array .long) true := ⟨RX13, TX13, 76, rfl, by decide, rfl, rfl, Or.inl q1215⟩
theorem fl_X13_149F : ∀ q, xcl[13]? = some q → (q.2.1 67).1 = RX13 ∧ Cond.fieldLink RX13 149 (q.2.1 67).1 (q.2.1 67).2.1 (q.2.1 67).2.2.1 ∈ lw_tbl := fun q h => by cases h; exact ⟨rfl, q1215⟩
theorem fl_X13_152 : xFl RX13 152 13 68 (.array .long) true := ⟨RX13, TX13, 76, rfl, by decide, rfl, rfl, Or.inl q1216⟩
theorem fl_X13_152F : ∀ q, xcl[13]? = some q → (q.2.1 68).1 = RX13 ∧ Cond.fieldLink RX13 152 (q.2.1 68).1 (q.2.1 68).2.1 (q.2.1 68).2.2.1 ∈ lw_tbl := fun q h => by cases h; exact ⟨rfl, q1216⟩
theorem fl_X13_155 : xFl RX13 155 13 70 (.array .int) true := ⟨RX13, TX13, 76, rfl, by decide, rfl, rfl, Or.inl q1218⟩
theorem fl_X13_155F : ∀ q, xcl[13]? = some q → (q.2.1 70).1 = RX13 ∧ Cond.fieldLink RX13 155 (q.2.1 70).1 (q.2.1 70).2.1 (q.2.1 70).2.2.1 ∈ lw_tbl := fun q h => by cases h; exact ⟨rfl, q1218⟩
theorem fl_X13_158 : xFl RX13 158 13 71 (.array .int) true := ⟨RX13, TX13, 76, rfl, by decide, rfl, rfl, Or.inl q1219⟩
theorem fl_X13_158F : ∀ q, xcl[13]? = some q → (q.2.1 71).1 = RX13 ∧ Cond.fieldLink RX13 158 (q.2.1 71).1 (q.2.1 71).2.1 (q.2.1 71).2.2.1 ∈ lw_tbl := fun q h => by cases h; exact ⟨rfl, q1219⟩
theorem fl_X13_161 : xFl RX13 161 13 72 (.array .int) true := ⟨RX13, TX13, 76, rfl, by decide, rfl, rfl, Or.inl q1220⟩
theorem fl_X13_161F : ∀ q, xcl[13]? = some q → (q.2.1 72).1 = RX13 ∧ Cond.fieldLink RX13 161 (q.2.1 72).1 (q.2.1 72).2.1 (q.2.1 72).2.2.1 ∈ lw_tbl := fun q h => by cases h; exact ⟨rfl, q1220⟩
theorem fl_X13_164 : xFl RX13 164 13 73 (.array .int) true := ⟨RX13, TX13, 76, rfl, by decide, rfl, rfl, Or.inl q1221⟩
theorem fl_X13_164F : ∀ q, xcl[13]? = some q → (q.2.1 73).1 = RX13 ∧ Cond.fieldLink RX13 164 (q.2.1 73).1 (q.2.1 73).2.1 (q.2.1 73).2.2.1 ∈ lw_tbl := fun q h => by cases h; exact ⟨rfl, q1221⟩
theorem fl_X13_167 : xFl RX13 167 13 74 (.array .int) true := ⟨RX13, TX13, 76, rfl, by decide, rfl, rfl, Or.inl q1222⟩
theorem fl_X13_167F : ∀ q, xcl[13]? = some q → (q.2.1 74).1 = RX13 ∧ Cond.fieldLink RX13 167 (q.2.1 74).1 (q.2.1 74).2.1 (q.2.1 74).2.2.1 ∈ lw_tbl := fun q h => by cases h; exact ⟨rfl, q1222⟩
theorem fl_X13_170 : xFl RX13 170 13 75 (.array .long) true := ⟨RX13, TX13, 76, rfl, by decide, rfl, rfl, Or.inl q1223⟩
theorem fl_X13_170F : ∀ q, xcl[13]? = some q → (q.2.1 75).1 = RX13 ∧ Cond.fieldLink RX13 170 (q.2.1 75).1 (q.2.1 75).2.1 (q.2.1 75).2.2.1 ∈ lw_tbl := fun q h => by cases h; exact ⟨rfl, q1223⟩
theorem fl_X13_173 : xFl RX13 173 13 0 (.int) false := ⟨RX13, TX13, 76, rfl, by decide, rfl, rfl, Or.inl q1148⟩
theorem fl_X13_176 : xFl RX13 176 13 2 (.int) false := ⟨RX13, TX13, 76, rfl, by decide, rfl, rfl, Or.inl q1150⟩
theorem fl_X13_199 : xFl RX13 199 13 3 (.int) false := ⟨RX13, TX13, 76, rfl, by decide, rfl, rfl, Or.inl q1151⟩
theorem fl_X13_206 : xFl RX13 206 13 5 (.int) false := ⟨RX13, TX13, 76, rfl, by decide, rfl, rfl, Or.inl q1153⟩
theorem fl_X13_209 : xFl RX13 209 13 4 (.int) false := ⟨RX13, TX13, 76, rfl, by decide, rfl, rfl, Or.inl q1152⟩
theorem fl_X13_216 : xFl RX13 216 13 6 (.int) false := ⟨RX13, TX13, 76, rfl, by decide, rfl, rfl, Or.inl q1154⟩
theorem fl_X13_226 : xFl RX13 226 13 7 (.long) false := ⟨RX13, TX13, 76, rfl, by decide, rfl, rfl, Or.inl q1155⟩
theorem fl_X13_234 : xFl RX13 234 13 8 (.int) false := ⟨RX13, TX13, 76, rfl, by decide, rfl, rfl, Or.inl q1156⟩
theorem fl_X13_240 : xFl RX13 240 13 9 (.boolean) false := ⟨RX13, TX13, 76, rfl, by decide, rfl, rfl, Or.inl q1157⟩
theorem fl_X13_253 : xFl RX13 253 13 28 (.int) false := ⟨RX13, TX13, 76, rfl, by decide, rfl, rfl, Or.inl q1176⟩
theorem fl_X13_256 : xFl RX13 256 13 30 (.int) false := ⟨RX13, TX13, 76, rfl, by decide, rfl, rfl, Or.inl q1178⟩
theorem fl_X13_266 : xFl RX13 266 13 31 (.int) false := ⟨RX13, TX13, 76, rfl, by decide, rfl, rfl, Or.inl q1179⟩
theorem fl_X13_269 : xFl RX13 269 13 33 (.int) false := ⟨RX13, TX13, 76, rfl, by decide, rfl, rfl, Or.inl q1181⟩
theorem fl_X13_283 : xFl RX13 283 13 37 (.int) false := ⟨RX13, TX13, 76, rfl, by decide, rfl, rfl, Or.inl q1185⟩
theorem fl_X13_310 : xFl RX13 310 13 11 (.int) false := ⟨RX13, TX13, 76, rfl, by decide, rfl, rfl, Or.inl q1159⟩
theorem fl_X13_316 : xFl RX13 316 13 52 (.int) false := ⟨RX13, TX13, 76, rfl, by decide, rfl, rfl, Or.inl q1200⟩
theorem fl_X13_319 : xFl RX13 319 13 42 (.int) false := ⟨RX13, TX13, 76, rfl, by decide, rfl, rfl, Or.inl q1190⟩
theorem fl_X13_322 : xFl RX13 322 13 55 (.int) false := ⟨RX13, TX13, 76, rfl, by decide, rfl, rfl, Or.inl q1203⟩
theorem fl_X13_329 : xFl RX13 329 13 65 (.int) false := ⟨RX13, TX13, 76, rfl, by decide, rfl, rfl, Or.inl q1213⟩
theorem fl_X13_342 : xFl RX13 342 13 66 (.long) false := ⟨RX13, TX13, 76, rfl, by decide, rfl, rfl, Or.inl q1214⟩
theorem fl_X13_348 : xFl RX13 348 13 58 (.int) false := ⟨RX13, TX13, 76, rfl, by decide, rfl, rfl, Or.inl q1206⟩
theorem fl_X13_351 : xFl RX13 351 13 60 (.int) false := ⟨RX13, TX13, 76, rfl, by decide, rfl, rfl, Or.inl q1208⟩
theorem fl_X13_386 : xFl RX13 386 13 69 (.int) false := ⟨RX13, TX13, 76, rfl, by decide, rfl, rfl, Or.inl q1217⟩
theorem fl_J0_7_2 : xFl RJ0 7 2 0 (.object "java/lang/Throwable") false := ⟨RX2, TX2, 6, rfl, by decide, rfl, rfl, Or.inl q181⟩
theorem fl_J0_7_5 : xFl RJ0 7 5 0 (.object "java/lang/Throwable") false := ⟨RX5, TX5, 7, rfl, by decide, rfl, rfl, Or.inl q181⟩
theorem fl_J0_7_8 : xFl RJ0 7 8 0 (.object "java/lang/Throwable") false := ⟨RX8, TX8, 6, rfl, by decide, rfl, rfl, Or.inl q181⟩
theorem fl_J0_17_2 : xFl RJ0 17 2 1 (.array (.object "java/lang/StackTraceElement")) false := ⟨RX2, TX2, 6, rfl, by decide, rfl, rfl, Or.inl q182⟩
theorem fl_J0_17_5 : xFl RJ0 17 5 1 (.array (.object "java/lang/StackTraceElement")) false := ⟨RX5, TX5, 7, rfl, by decide, rfl, rfl, Or.inl q182⟩
theorem fl_J0_17_8 : xFl RJ0 17 8 1 (.array (.object "java/lang/StackTraceElement")) false := ⟨RX8, TX8, 6, rfl, by decide, rfl, rfl, Or.inl q182⟩
theorem fl_J0_24_2 : xFl RJ0 24 2 2 (.object "java/util/List") false := ⟨RX2, TX2, 6, rfl, by decide, rfl, rfl, Or.inl q183⟩
theorem fl_J0_24_5 : xFl RJ0 24 5 2 (.object "java/util/List") false := ⟨RX5, TX5, 7, rfl, by decide, rfl, rfl, Or.inl q183⟩
theorem fl_J0_24_8 : xFl RJ0 24 8 2 (.object "java/util/List") false := ⟨RX8, TX8, 6, rfl, by decide, rfl, rfl, Or.inl q183⟩
theorem fl_J0_31_2 : xFl RJ0 31 2 3 (.object "java/lang/String") false := ⟨RX2, TX2, 6, rfl, by decide, rfl, rfl, Or.inl q180⟩
theorem fl_J0_31_5 : xFl RJ0 31 5 3 (.object "java/lang/String") false := ⟨RX5, TX5, 7, rfl, by decide, rfl, rfl, Or.inl q180⟩
theorem fl_J0_31_8 : xFl RJ0 31 8 3 (.object "java/lang/String") false := ⟨RX8, TX8, 6, rfl, by decide, rfl, rfl, Or.inl q180⟩
theorem fl_J0_198_2 : xFl RJ0 198 2 4 (.object "java/lang/Object") false := ⟨RX2, TX2, 6, rfl, by decide, rfl, rfl, Or.inl q179⟩
theorem fl_J0_198_5 : xFl RJ0 198 5 4 (.object "java/lang/Object") false := ⟨RX5, TX5, 7, rfl, by decide, rfl, rfl, Or.inl q179⟩
theorem fl_J0_198_8 : xFl RJ0 198 8 4 (.object "java/lang/Object") false := ⟨RX8, TX8, 6, rfl, by decide, rfl, rfl, Or.inl q179⟩
theorem mi_X0_3 : xCi RX0 3 yJ11_init 0 := ⟨Or.inl q116, q117, by decide +kernel⟩
theorem mi_X0_15 : xCi RX0 15 yX1_init 0 := ⟨Or.inr ⟨_, q121⟩, q122, by decide +kernel⟩
theorem mi_X0_28 : xCi RX0 28 yX3_init 0 := ⟨Or.inr ⟨_, q232⟩, q233, by decide +kernel⟩
theorem mi_X0_41 : xCi RX0 41 yX6_init 0 := ⟨Or.inr ⟨_, q298⟩, q299, by decide +kernel⟩
theorem mi_X0_51 : xCi RX0 51 yX7_init 0 := ⟨Or.inl q335, q336, by decide +kernel⟩
theorem mi_X0_56 : xCi RX0 56 yX12_init 0 := ⟨Or.inr ⟨_, q463⟩, q464, by decide +kernel⟩
theorem mv_X0_65 : xCv RX0 65 0 yX0_four 1 := ⟨_, rfl, q531, q533, (lw_all_tbl qs1), by decide +kernel⟩
theorem mv_X0_72 : xCv RX0 72 1 yX1_read 2 := ⟨_, rfl, q543, q544, q545, by decide +kernel⟩
theorem mv_X0_79 : xCv RX0 79 0 yX0_isProgram 1 := ⟨_, rfl, q850, q852, (lw_all_tbl qs19), by decide +kernel⟩
theorem ms_X0_92 : xCs RX0 92 yX0_isCell 1 := ⟨q858, q859, by decide +kernel⟩
theorem mv_X0_102 : xCv RX0 102 3 yX3_hold 1 := ⟨_, rfl, q861, q862, q863, by decide +kernel⟩
theorem mv_X0_116 : xCv RX0 116 6 yX6_add 6 := ⟨_, rfl, q916, q917, q918, by decide +kernel⟩
theorem ms_X0_120 : xCs RX0 120 yX0_isClient 1 := ⟨q932, q933, by decide +kernel⟩
theorem mv_X0_151 : xCv RX0 151 7 yX7_isFresh 0 := ⟨_, rfl, q952, q885, q886, by decide +kernel⟩
theorem mv_X0_160 : xCv RX0 160 7 yX7_begin 2 := ⟨_, rfl, q957, q958, q959, by decide +kernel⟩
theorem mv_X0_164 : xCv RX0 164 7 yX7_step 0 := ⟨_, rfl, q968, q969, q970, by decide +kernel⟩
theorem mv_X0_168 : xCv RX0 168 0 yX0_judged 2 := ⟨_, rfl, q1020, q1022, (lw_all_tbl qs27), by decide +kernel⟩
theorem mv_X0_172 : xCv RX0 172 12 yX12_cut 0 := ⟨_, rfl, q1024, q1025, q1026, by decide +kernel⟩
theorem mv_X0_175 : xCv RX0 175 12 yX12_waits 0 := ⟨_, rfl, q1029, q1030, q1031, by decide +kernel⟩
theorem mv_X0_178 : xCv RX0 178 0 yX0_ended 2 := ⟨_, rfl, q1034, q1036, (lw_all_tbl qs28), by decide +kernel⟩
theorem mv_X0_185 : xCv RX0 185 0 yX0_isHeld 1 := ⟨_, rfl, q1038, q1040, (lw_all_tbl qs29), by decide +kernel⟩
theorem mv_X0_188 : xCv RX0 188 7 yX7_undo 0 := ⟨_, rfl, q1042, q1043, q1044, by decide +kernel⟩
theorem mv_X0_197 : xCv RX0 197 7 yX7_hold 0 := ⟨_, rfl, q1049, q1050, q1051, by decide +kernel⟩
theorem mv_X0_205 : xCv RX0 205 7 yX7_join 0 := ⟨_, rfl, q1056, q1057, q1058, by decide +kernel⟩
theorem mv_X0_219 : xCv RX0 219 12 yX12_over 0 := ⟨_, rfl, q1068, q1069, q1070, by decide +kernel⟩
theorem mv_X0_228 : xCv RX0 228 0 yX0_turn 1 := ⟨_, rfl, q1080, q939, q940, by decide +kernel⟩
theorem mv_X0_248 : xCv RX0 248 7 yX7_sees 1 := ⟨_, rfl, q1092, q895, q896, by decide +kernel⟩
theorem mv_X0_270 : xCv RX0 270 3 yX3_write 2 := ⟨_, rfl, q1128, q1061, q1062, by decide +kernel⟩
theorem mv_X0_277 : xCv RX0 277 3 yX3_clear 0 := ⟨_, rfl, q1116, q1117, q1118, by decide +kernel⟩
theorem mv_X0_280 : xCv RX0 280 0 yX0_isSame 1 := ⟨_, rfl, q1124, q1126, (lw_all_tbl qs30), by decide +kernel⟩
theorem mv_X0_283 : xCv RX0 283 3 yX3_isSame 1 := ⟨_, rfl, q1130, q1131, q1132, by decide +kernel⟩
theorem mv_X0_286 : xCv RX0 286 12 yX12_clear 0 := ⟨_, rfl, q1138, q1139, q1140, by decide +kernel⟩
theorem mi_X12_3 : xCi RX12 3 yJ11_init 0 := ⟨Or.inl q466, q117, by decide +kernel⟩
theorem mi_X12_17 : xCi RX12 17 yX7_init 0 := ⟨Or.inl q468, q336, by decide +kernel⟩
theorem mi_X8_3 : xCi RX8 3 yJ2_init 4 := ⟨Or.inl q352, q171, by decide +kernel⟩
theorem mi_X16_1 : xCi RX16 1 yJ11_init 0 := ⟨Or.inl q746, q117, by decide +kernel⟩
theorem mi_X2_3 : xCi RX2 3 yJ2_init 4 := ⟨Or.inl q170, q171, by decide +kernel⟩
theorem mi_X11_1 : xCi RX11 1 yJ11_init 0 := ⟨Or.inl q397, q117, by decide +kernel⟩
theorem mi_X11_9 : xCi RX11 9 yX9_init 0 := ⟨Or.inr ⟨_, q399⟩, q358, by decide +kernel⟩
theorem mi_X14_1 : xCi RX14 1 yJ11_init 0 := ⟨Or.inl q555, q117, by decide +kernel⟩
theorem mi_X1_3 : xCi RX1 3 yJ11_init 0 := ⟨Or.inl q124, q117, by decide +kernel⟩
theorem mi_X1_11 : xCi RX1 11 yX2_init 0 := ⟨Or.inl q166, q167, by decide +kernel⟩
theorem mv_X1_32 : xCv RX1 32 1 yX1_ch 1 := ⟨_, rfl, q577, q579, (lw_all_tbl qs3), by decide +kernel⟩
theorem ms_X1_43 : xCs RX1 43 yX1_isLetter 1 := ⟨q581, q582, by decide +kernel⟩
theorem ms_X1_50 : xCs RX1 50 yX1_isDigit 1 := ⟨q584, q585, by decide +kernel⟩
-- other: MemoryTransactions$Reader 63 java/lang/String.indexOf(I)I host None inst q591
theorem mv_X1_68 : xCv RX1 68 1 yX1_wrong 0 := ⟨_, rfl, q684, q686, (lw_all_tbl qs6), by decide +kernel⟩
theorem mv_X1_72 : xCv RX1 72 1 yX1_next 0 := ⟨_, rfl, q573, q575, (lw_all_tbl qs2), by decide +kernel⟩
-- other: MemoryTransactions$Reader 75 java/lang/String.length()I host None inst q605
-- other: MemoryTransactions$Reader 79 java/lang/String.charAt(I)C host None inst q783
theorem mv_X1_83 : xCv RX1 83 1 yX1_isWord 1 := ⟨_, rfl, q777, q779, (lw_all_tbl qs14), by decide +kernel⟩
theorem mi_X1_99 : xCi RX1 99 yX14_init 0 := ⟨Or.inr ⟨_, q552⟩, q553, by decide +kernel⟩
theorem mv_X1_104 : xCv RX1 104 1 yX1_statements 2 := ⟨_, rfl, q676, q678, (lw_all_tbl qs4), by decide +kernel⟩
theorem mv_X1_112 : xCv RX1 112 1 yX1_statement 1 := ⟨_, rfl, q680, q682, (lw_all_tbl qs5), by decide +kernel⟩
theorem ms_X1_123 : xCs RX1 123 yJ6_max 2 := ⟨q812, q619, by decide +kernel⟩
theorem mv_X1_129 : xCv RX1 129 1 yX1_want 1 := ⟨_, rfl, q721, q723, (lw_all_tbl qs7), by decide +kernel⟩
theorem mv_X1_133 : xCv RX1 133 1 yX1_exp 1 := ⟨_, rfl, q725, q727, (lw_all_tbl qs8), by decide +kernel⟩
theorem mi_X1_139 : xCi RX1 139 yX15_init 0 := ⟨Or.inr ⟨_, q690⟩, q691, by decide +kernel⟩
theorem mv_X1_155 : xCv RX1 155 1 yX1_may 1 := ⟨_, rfl, q773, q775, (lw_all_tbl qs13), by decide +kernel⟩
theorem mv_X1_161 : xCv RX1 161 1 yX1_inParentheses 0 := ⟨_, rfl, q804, q806, (lw_all_tbl qs15), by decide +kernel⟩
theorem mv_X1_165 : xCv RX1 165 1 yX1_body 1 := ⟨_, rfl, q808, q810, (lw_all_tbl qs16), by decide +kernel⟩
theorem mv_X1_186 : xCv RX1 186 1 yX1_wantWord 1 := ⟨_, rfl, q821, q823, (lw_all_tbl qs17), by decide +kernel⟩
theorem mv_X1_197 : xCv RX1 197 1 yX1_plain 1 := ⟨_, rfl, q829, q831, (lw_all_tbl qs18), by decide +kernel⟩
theorem mi_X1_218 : xCi RX1 218 yX16_init 0 := ⟨Or.inr ⟨_, q743⟩, q744, by decide +kernel⟩
theorem mv_X1_228 : xCv RX1 228 1 yX1_sum 1 := ⟨_, rfl, q729, q731, (lw_all_tbl qs9), by decide +kernel⟩
theorem mv_X1_231 : xCv RX1 231 1 yX1_operation 3 := ⟨_, rfl, q768, q770, (lw_all_tbl qs12), by decide +kernel⟩
theorem mv_X1_235 : xCv RX1 235 1 yX1_product 1 := ⟨_, rfl, q733, q735, (lw_all_tbl qs10), by decide +kernel⟩
theorem mv_X1_238 : xCv RX1 238 1 yX1_unary 1 := ⟨_, rfl, q737, q739, (lw_all_tbl qs11), by decide +kernel⟩
theorem mi_X6_3 : xCi RX6 3 yJ11_init 0 := ⟨Or.inl q301, q117, by decide +kernel⟩
theorem mi_X7_3 : xCi RX7 3 yJ11_init 0 := ⟨Or.inl q338, q117, by decide +kernel⟩
theorem mi_X7_11 : xCi RX7 11 yX8_init 0 := ⟨Or.inl q348, q349, by decide +kernel⟩
theorem mi_X7_20 : xCi RX7 20 yX9_init 0 := ⟨Or.inr ⟨_, q357⟩, q358, by decide +kernel⟩
theorem mi_X7_47 : xCi RX7 47 yX10_init 1 := ⟨Or.inr ⟨_, q385⟩, q386, by decide +kernel⟩
theorem mi_X7_54 : xCi RX7 54 yX11_init 0 := ⟨Or.inr ⟨_, q394⟩, q395, by decide +kernel⟩
theorem mv_X7_59 : xCv RX7 59 9 yX9_clear 0 := ⟨_, rfl, q961, q962, q963, by decide +kernel⟩
theorem mv_X7_93 : xCv RX7 93 7 yX7_isFresh 0 := ⟨_, rfl, q884, q885, q886, by decide +kernel⟩
theorem mv_X7_110 : xCv RX7 110 9 yX9_set 1 := ⟨_, rfl, q1005, q1006, q1007, by decide +kernel⟩
theorem mv_X7_130 : xCv RX7 130 7 yX7_enter 2 := ⟨_, rfl, q1001, q1003, (lw_all_tbl qs25), by decide +kernel⟩
theorem mv_X7_134 : xCv RX7 134 7 yX7_leave 0 := ⟨_, rfl, q973, q975, (lw_all_tbl qs21), by decide +kernel⟩
theorem mv_X7_151 : xCv RX7 151 7 yX7_ends 1 := ⟨_, rfl, q981, q983, (lw_all_tbl qs22), by decide +kernel⟩
theorem mv_X7_158 : xCv RX7 158 7 yX7_act 1 := ⟨_, rfl, q989, q991, (lw_all_tbl qs23), by decide +kernel⟩
theorem mv_X7_170 : xCv RX7 170 7 yX7_goBack 1 := ⟨_, rfl, q1012, q1014, (lw_all_tbl qs26), by decide +kernel⟩
theorem mv_X7_177 : xCv RX7 177 7 yX7_write 2 := ⟨_, rfl, q997, q999, (lw_all_tbl qs24), by decide +kernel⟩
theorem mv_X7_202 : xCv RX7 202 4 yX4_work 2 := ⟨_, rfl, q996, q871, q872, by decide +kernel⟩
theorem mv_X7_208 : xCv RX7 208 4 yX4_thrown 1 := ⟨_, rfl, q1010, q911, q912, by decide +kernel⟩
theorem mv_X7_220 : xCv RX7 220 3 yX3_hold 1 := ⟨_, rfl, q1053, q862, q863, by decide +kernel⟩
theorem mv_X7_224 : xCv RX7 224 3 yX3_holds 2 := ⟨_, rfl, q1054, q866, q867, by decide +kernel⟩
theorem mv_X7_228 : xCv RX7 228 3 yX3_write 2 := ⟨_, rfl, q1060, q1061, q1062, by decide +kernel⟩
theorem mi_X10_7 : xCi RX10 7 yJ11_init 0 := ⟨Or.inl q388, q117, by decide +kernel⟩
theorem mv_X10_13 : xCv RX10 13 7 yX7_sees 1 := ⟨_, rfl, q894, q895, q896, by decide +kernel⟩
theorem mi_X9_3 : xCi RX9 3 yJ11_init 0 := ⟨Or.inl q360, q117, by decide +kernel⟩
theorem ms_X9_22 : xCs RX9 22 yJ10_fill 2 := ⟨q965, q966, by decide +kernel⟩
theorem mi_X15_1 : xCi RX15 1 yJ11_init 0 := ⟨Or.inl q693, q117, by decide +kernel⟩
theorem mi_X3_3 : xCi RX3 3 yJ11_init 0 := ⟨Or.inl q235, q117, by decide +kernel⟩
theorem mi_X3_27 : xCi RX3 27 yX4_init 0 := ⟨Or.inr ⟨_, q240⟩, q241, by decide +kernel⟩
theorem ms_X3_32 : xCs RX3 32 yJ10_fill 2 := ⟨q1120, q966, by decide +kernel⟩
theorem ms_X3_38 : xCs RX3 38 yJ10_fill_2 2 := ⟨q1121, q1122, by decide +kernel⟩
theorem mv_X3_45 : xCv RX3 45 3 yX3_holds 2 := ⟨_, rfl, q865, q866, q867, by decide +kernel⟩
theorem mv_X3_49 : xCv RX3 49 4 yX4_work 2 := ⟨_, rfl, q870, q871, q872, by decide +kernel⟩
theorem mi_X5_3 : xCi RX5 3 yJ2_init 4 := ⟨Or.inl q257, q171, by decide +kernel⟩
theorem mi_X4_3 : xCi RX4 3 yJ11_init 0 := ⟨Or.inl q243, q117, by decide +kernel⟩
theorem mi_X4_11 : xCi RX4 11 yX5_init 0 := ⟨Or.inl q253, q254, by decide +kernel⟩
theorem mv_X4_47 : xCv RX4 47 4 yX4_work 2 := ⟨_, rfl, q904, q871, q872, by decide +kernel⟩
theorem mv_X4_54 : xCv RX4 54 4 yX4_divided 3 := ⟨_, rfl, q905, q907, (lw_all_tbl qs20), by decide +kernel⟩
theorem mv_X4_60 : xCv RX4 60 4 yX4_thrown 1 := ⟨_, rfl, q910, q911, q912, by decide +kernel⟩
theorem mi_X13_1 : xCi RX13 1 yJ11_init 0 := ⟨Or.inl q1147, q117, by decide +kernel⟩
theorem mv_X13_202 : xCv RX13 202 13 yX13_byteAt 1 := ⟨_, rfl, q1398, q1400, (lw_all_tbl qs33), by decide +kernel⟩
theorem ms_X13_212 : xCs RX13 212 yX13_isSmall 1 := ⟨q1402, q1403, by decide +kernel⟩
theorem ms_X13_219 : xCs RX13 219 yX13_wordOf 1 := ⟨q1405, q1406, by decide +kernel⟩
theorem ms_X13_223 : xCs RX13 223 yX13_isFigure 1 := ⟨q1418, q1419, by decide +kernel⟩
theorem ms_X13_237 : xCs RX13 237 yX13_isSignByte 1 := ⟨q1423, q1424, by decide +kernel⟩
theorem mv_X13_244 : xCv RX13 244 13 yX13_isSign 1 := ⟨_, rfl, q1426, q1428, (lw_all_tbl qs34), by decide +kernel⟩
theorem mv_X13_247 : xCv RX13 247 13 yX13_misplaced 0 := ⟨_, rfl, q1430, q1432, (lw_all_tbl qs35), by decide +kernel⟩
theorem mv_X13_250 : xCv RX13 250 13 yX13_next 0 := ⟨_, rfl, q1394, q1396, (lw_all_tbl qs32), by decide +kernel⟩
theorem ms_X13_259 : xCs RX13 259 yX13_strength 1 := ⟨q1478, q1479, by decide +kernel⟩
theorem mv_X13_262 : xCv RX13 262 13 yX13_act 3 := ⟨_, rfl, q1466, q1468, (lw_all_tbl qs44), by decide +kernel⟩
theorem mv_X13_272 : xCv RX13 272 13 yX13_readUnary 1 := ⟨_, rfl, q1462, q1464, (lw_all_tbl qs43), by decide +kernel⟩
theorem mv_X13_276 : xCv RX13 276 13 yX13_reduce 1 := ⟨_, rfl, q1474, q1476, (lw_all_tbl qs46), by decide +kernel⟩
theorem mv_X13_280 : xCv RX13 280 13 yX13_operandIsThere 0 := ⟨_, rfl, q1470, q1472, (lw_all_tbl qs45), by decide +kernel⟩
theorem mv_X13_286 : xCv RX13 286 13 yX13_closeBody 0 := ⟨_, rfl, q1434, q1436, (lw_all_tbl qs36), by decide +kernel⟩
theorem mv_X13_289 : xCv RX13 289 13 yX13_readStatement 0 := ⟨_, rfl, q1446, q1448, (lw_all_tbl qs39), by decide +kernel⟩
theorem mv_X13_292 : xCv RX13 292 13 yX13_openBody 2 := ⟨_, rfl, q1438, q1440, (lw_all_tbl qs37), by decide +kernel⟩
theorem mv_X13_296 : xCv RX13 296 13 yX13_takeWord 1 := ⟨_, rfl, q1442, q1444, (lw_all_tbl qs38), by decide +kernel⟩
theorem mv_X13_299 : xCv RX13 299 13 yX13_newStatement 0 := ⟨_, rfl, q1450, q1452, (lw_all_tbl qs40), by decide +kernel⟩
theorem mv_X13_303 : xCv RX13 303 13 yX13_take 1 := ⟨_, rfl, q1454, q1456, (lw_all_tbl qs41), by decide +kernel⟩
theorem mv_X13_306 : xCv RX13 306 13 yX13_exp 1 := ⟨_, rfl, q1458, q1460, (lw_all_tbl qs42), by decide +kernel⟩
theorem mv_X13_313 : xCv RX13 313 13 yX13_readText 0 := ⟨_, rfl, q1390, q1392, (lw_all_tbl qs31), by decide +kernel⟩
theorem mv_X13_325 : xCv RX13 325 13 yX13_isChanged 0 := ⟨_, rfl, q1505, q1507, (lw_all_tbl qs50), by decide +kernel⟩
theorem mv_X13_332 : xCv RX13 332 13 yX13_valueOf 1 := ⟨_, rfl, q1529, q1531, (lw_all_tbl qs56), by decide +kernel⟩
theorem mv_X13_336 : xCv RX13 336 13 yX13_two 3 := ⟨_, rfl, q1533, q1535, (lw_all_tbl qs57), by decide +kernel⟩
theorem mv_X13_345 : xCv RX13 345 13 yX13_beginWalk 1 := ⟨_, rfl, q1517, q1519, (lw_all_tbl qs53), by decide +kernel⟩
theorem mv_X13_354 : xCv RX13 354 13 yX13_behind 1 := ⟨_, rfl, q1554, q1556, (lw_all_tbl qs62), by decide +kernel⟩
theorem mv_X13_357 : xCv RX13 357 13 yX13_work 2 := ⟨_, rfl, q1525, q1527, (lw_all_tbl qs55), by decide +kernel⟩
theorem mv_X13_361 : xCv RX13 361 13 yX13_throwFrom 1 := ⟨_, rfl, q1538, q1540, (lw_all_tbl qs58), by decide +kernel⟩
theorem mv_X13_364 : xCv RX13 364 13 yX13_goIn 2 := ⟨_, rfl, q1550, q1552, (lw_all_tbl qs61), by decide +kernel⟩
theorem mv_X13_367 : xCv RX13 367 13 yX13_retryFrom 1 := ⟨_, rfl, q1558, q1560, (lw_all_tbl qs63), by decide +kernel⟩
theorem mv_X13_370 : xCv RX13 370 13 yX13_keep 1 := ⟨_, rfl, q1562, q1564, (lw_all_tbl qs64), by decide +kernel⟩
theorem mv_X13_373 : xCv RX13 373 13 yX13_around 2 := ⟨_, rfl, q1542, q1544, (lw_all_tbl qs59), by decide +kernel⟩
theorem mv_X13_377 : xCv RX13 377 13 yX13_bringBack 1 := ⟨_, rfl, q1546, q1548, (lw_all_tbl qs60), by decide +kernel⟩
theorem mv_X13_380 : xCv RX13 380 13 yX13_holds 1 := ⟨_, rfl, q1599, q1601, (lw_all_tbl qs73), by decide +kernel⟩
theorem mv_X13_383 : xCv RX13 383 13 yX13_rulesHold 0 := ⟨_, rfl, q1595, q1597, (lw_all_tbl qs72), by decide +kernel⟩
theorem mv_X13_389 : xCv RX13 389 13 yX13_bringRead 1 := ⟨_, rfl, q1501, q1503, (lw_all_tbl qs49), by decide +kernel⟩
theorem mv_X13_392 : xCv RX13 392 13 yX13_firstOf 1 := ⟨_, rfl, q1513, q1515, (lw_all_tbl qs52), by decide +kernel⟩
theorem mv_X13_395 : xCv RX13 395 13 yX13_step 0 := ⟨_, rfl, q1521, q1523, (lw_all_tbl qs54), by decide +kernel⟩
theorem mv_X13_398 : xCv RX13 398 13 yX13_addRow 6 := ⟨_, rfl, q1583, q1585, (lw_all_tbl qs69), by decide +kernel⟩
theorem mv_X13_402 : xCv RX13 402 13 yX13_over 1 := ⟨_, rfl, q1587, q1589, (lw_all_tbl qs70), by decide +kernel⟩
theorem mv_X13_405 : xCv RX13 405 13 yX13_walkAnew 1 := ⟨_, rfl, q1509, q1511, (lw_all_tbl qs51), by decide +kernel⟩
theorem mv_X13_410 : xCv RX13 410 13 yX13_keepRead 1 := ⟨_, rfl, q1567, q1569, (lw_all_tbl qs65), by decide +kernel⟩
theorem mv_X13_413 : xCv RX13 413 13 yX13_cutRun 1 := ⟨_, rfl, q1571, q1573, (lw_all_tbl qs66), by decide +kernel⟩
theorem mv_X13_416 : xCv RX13 416 13 yX13_isHeld 1 := ⟨_, rfl, q1575, q1577, (lw_all_tbl qs67), by decide +kernel⟩
theorem mv_X13_419 : xCv RX13 419 13 yX13_endThrown 2 := ⟨_, rfl, q1579, q1581, (lw_all_tbl qs68), by decide +kernel⟩
theorem mv_X13_423 : xCv RX13 423 13 yX13_isWell 0 := ⟨_, rfl, q1591, q1593, (lw_all_tbl qs71), by decide +kernel⟩
theorem mv_X13_428 : xCv RX13 428 13 yX13_bringIn 0 := ⟨_, rfl, q1604, q1606, (lw_all_tbl qs74), by decide +kernel⟩
theorem mv_X13_431 : xCv RX13 431 13 yX13_isClient 1 := ⟨_, rfl, q1493, q1495, (lw_all_tbl qs47), by decide +kernel⟩
theorem mv_X13_434 : xCv RX13 434 13 yX13_turnOf 1 := ⟨_, rfl, q1497, q1499, (lw_all_tbl qs48), by decide +kernel⟩
theorem mv_X13_441 : xCv RX13 441 13 yX13_beginRun 1 := ⟨_, rfl, q1662, q1664, (lw_all_tbl qs76), by decide +kernel⟩
theorem mv_X13_444 : xCv RX13 444 13 yX13_comesToSame 1 := ⟨_, rfl, q1658, q1660, (lw_all_tbl qs75), by decide +kernel⟩
theorem mi_J1_16 : xCi RJ1 16 yJ0_init_2 4 := ⟨Or.inl q176, q177, by decide +kernel⟩
theorem mi_J2_16 : xCi RJ2 16 yJ1_init 4 := ⟨Or.inl q173, q174, by decide +kernel⟩
-- other: java/lang/String 335 java/lang/String.coder()B host None inst q609
-- other: java/lang/String 492 java/lang/String.isLatin1()Z host None inst q599
theorem ms_J4_495 : xCs RJ4 495 yJ5_charAt 2 := ⟨q786, q787, by decide +kernel⟩
theorem ms_J4_498 : xCs RJ4 498 yJ7_charAt 2 := ⟨q795, q796, by decide +kernel⟩
-- other: java/lang/String 505 java/lang/String.length()I host None inst q605
-- other: java/lang/String 633 java/lang/String.indexOf(II)I host None inst q595
theorem ms_J4_637 : xCs RJ4 637 yJ5_indexOf 4 := ⟨q612, q613, by decide +kernel⟩
theorem ms_J4_640 : xCs RJ4 640 yJ7_indexOf 4 := ⟨q627, q628, by decide +kernel⟩
theorem ms_J4_1059 : xCs RJ4 1059 yJ8_checkIndex 3 := ⟨q792, q793, by decide +kernel⟩
theorem ms_J4_1062 : xCs RJ4 1062 yJ8_checkFromToIndex 4 := ⟨q647, q648, by decide +kernel⟩
theorem ms_J5_9 : xCs RJ5 9 yJ4_checkIndex 2 := ⟨q789, q790, by decide +kernel⟩
theorem ms_J5_38 : xCs RJ5 38 yJ6_min 2 := ⟨q621, q622, by decide +kernel⟩
theorem ms_J5_88 : xCs RJ5 88 yJ5_canEncode 1 := ⟨q615, q616, by decide +kernel⟩
theorem ms_J5_92 : xCs RJ5 92 yJ6_max 2 := ⟨q618, q619, by decide +kernel⟩
theorem ms_J5_95 : xCs RJ5 95 yJ5_indexOfChar 4 := ⟨q624, q625, by decide +kernel⟩
theorem ms_J7_48 : xCs RJ7 48 yJ7_length 1 := ⟨q639, q640, by decide +kernel⟩
theorem ms_J7_67 : xCs RJ7 67 yJ7_checkIndex 2 := ⟨q798, q799, by decide +kernel⟩
theorem ms_J7_71 : xCs RJ7 71 yJ7_getChar 2 := ⟨q653, q654, by decide +kernel⟩
theorem ms_J7_96 : xCs RJ7 96 yJ7_checkBoundsBeginEnd 3 := ⟨q636, q637, by decide +kernel⟩
theorem ms_J7_157 : xCs RJ7 157 yJ9_highSurrogate 1 := ⟨q668, q669, by decide +kernel⟩
theorem ms_J7_161 : xCs RJ7 161 yJ9_lowSurrogate 1 := ⟨q672, q673, by decide +kernel⟩
theorem ms_J7_164 : xCs RJ7 164 yJ9_isValidCodePoint 1 := ⟨q665, q666, by decide +kernel⟩
theorem ms_J7_183 : xCs RJ7 183 yJ6_min 2 := ⟨q631, q622, by decide +kernel⟩
theorem ms_J7_224 : xCs RJ7 224 yJ6_max 2 := ⟨q630, q619, by decide +kernel⟩
theorem ms_J7_228 : xCs RJ7 228 yJ7_indexOfChar 4 := ⟨q633, q634, by decide +kernel⟩
theorem ms_J7_232 : xCs RJ7 232 yJ7_indexOfSupplementary 4 := ⟨q662, q663, by decide +kernel⟩
theorem ms_J7_241 : xCs RJ7 241 yJ4_checkBoundsBeginEnd 3 := ⟨q642, q643, by decide +kernel⟩
theorem ms_J7_244 : xCs RJ7 244 yJ7_indexOfCharUnsafe 4 := ⟨q650, q651, by decide +kernel⟩
theorem ms_J7_414 : xCs RJ7 414 yJ4_checkIndex 2 := ⟨q801, q790, by decide +kernel⟩
theorem mi_J0_1 : xCi RJ0 1 yJ11_init 0 := ⟨Or.inl q150, q117, by decide +kernel⟩
theorem nw_X0_13 : xNw RX0 13 1 11 := ⟨RX1, TX1, rfl, q119, q120, q79⟩
theorem nw_X0_20 : xNw RX0 20 14 4 := ⟨RX14, TX14, rfl, q228, q551, q98⟩
theorem nw_X0_26 : xNw RX0 26 3 5 := ⟨RX3, TX3, rfl, q230, q231, q84⟩
theorem nw_X0_33 : xNw RX0 33 12 6 := ⟨RX12, TX12, rfl, q294, q462, q93⟩
theorem nw_X0_39 : xNw RX0 39 6 7 := ⟨RX6, TX6, rfl, q296, q297, q87⟩
theorem nw_X0_49 : xNw RX0 49 7 15 := ⟨RX7, TX7, rfl, q333, q334, q88⟩
theorem nw_X12_15 : xNw RX12 15 7 15 := ⟨RX7, TX7, rfl, q467, q334, q88⟩
theorem nw_X11_7 : xNw RX11 7 9 4 := ⟨RX9, TX9, rfl, q398, q356, q90⟩
theorem nw_X1_9 : xNw RX1 9 2 6 := ⟨RX2, TX2, rfl, q125, q126, q83⟩
theorem nw_X1_97 : xNw RX1 97 14 4 := ⟨RX14, TX14, rfl, q550, q551, q98⟩
theorem nw_X1_117 : xNw RX1 117 15 6 := ⟨RX15, TX15, rfl, q688, q689, q105⟩
theorem nw_X1_216 : xNw RX1 216 16 5 := ⟨RX16, TX16, rfl, q741, q742, q107⟩
theorem nw_X7_9 : xNw RX7 9 8 6 := ⟨RX8, TX8, rfl, q339, q340, q89⟩
theorem nw_X7_18 : xNw RX7 18 9 4 := ⟨RX9, TX9, rfl, q355, q356, q90⟩
theorem nw_X7_25 : xNw RX7 25 16 5 := ⟨RX16, TX16, rfl, q380, q742, q107⟩
theorem nw_X7_39 : xNw RX7 39 11 3 := ⟨RX11, TX11, rfl, q381, q393, q92⟩
theorem nw_X7_45 : xNw RX7 45 10 1 := ⟨RX10, TX10, rfl, q383, q384, q91⟩
theorem nw_X7_164 : xNw RX7 164 5 7 := ⟨RX5, TX5, rfl, q972, q245, q86⟩
theorem nw_X3_19 : xNw RX3 19 16 5 := ⟨RX16, TX16, rfl, q236, q742, q107⟩
theorem nw_X3_25 : xNw RX3 25 4 1 := ⟨RX4, TX4, rfl, q238, q239, q85⟩
theorem nw_X3_53 : xNw RX3 53 5 7 := ⟨RX5, TX5, rfl, q869, q245, q86⟩
theorem nw_X4_9 : xNw RX4 9 5 7 := ⟨RX5, TX5, rfl, q244, q245, q86⟩

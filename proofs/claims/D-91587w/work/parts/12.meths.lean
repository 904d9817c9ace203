/-! the methods -/
set_option maxRecDepth 100000
def mi_J0_init : ma_M := (⟨"java/lang/Throwable", "<init>", "()V"⟩, prog_40_method_1_code, 1, none, [])
def mi_J0_init_2 : ma_M := (⟨"java/lang/Throwable", "<init>", "(Ljava/lang/String;Ljava/lang/Throwable;ZZ)V"⟩, prog_40_method_5_code, 5, none, [])
def mi_J0_init_3 : ma_M := (⟨"java/lang/Throwable", "<init>", "(Ljava/lang/String;)V"⟩, prog_40_method_2_code, 2, none, [])
def mi_J1_init : ma_M := (⟨"java/lang/Exception", "<init>", "(Ljava/lang/String;Ljava/lang/Throwable;ZZ)V"⟩, prog_29_method_5_code, 5, none, [])
def mi_J1_init_2 : ma_M := (⟨"java/lang/Exception", "<init>", "(Ljava/lang/String;)V"⟩, prog_29_method_2_code, 2, none, [])
def mi_J1_init_3 : ma_M := (⟨"java/lang/Exception", "<init>", "()V"⟩, prog_29_method_1_code, 1, none, [])
def mi_J10_checkIndex : ma_M := (⟨"jdk/internal/util/Preconditions", "checkIndex", "(IILjava/util/function/BiFunction;)I"⟩, prog_41_method_11_code, 3, (some FieldType.int), [])
def mi_J11_charAt : ma_M := (⟨"java/lang/StringUTF16", "charAt", "([BI)C"⟩, prog_38_method_83_code, 2, (some FieldType.char), [])
def mi_J11_checkIndex : ma_M := (⟨"java/lang/StringUTF16", "checkIndex", "(I[B)V"⟩, prog_38_method_91_code, 2, none, [])
def mi_J11_length : ma_M := (⟨"java/lang/StringUTF16", "length", "([B)I"⟩, prog_38_method_6_code, 1, (some FieldType.int), [])
def mi_J11_getChar : ma_M := (⟨"java/lang/StringUTF16", "getChar", "([BI)C"⟩, prog_38_method_5_code, 2, (some FieldType.char), [])
def mi_J12_bitCount : ma_M := (⟨"java/lang/Integer", "bitCount", "(I)I"⟩, prog_31_method_49_code, 1, (some FieldType.int), [])
def mi_J2_init : ma_M := (⟨"java/lang/RuntimeException", "<init>", "(Ljava/lang/String;Ljava/lang/Throwable;ZZ)V"⟩, prog_35_method_5_code, 5, none, [])
def mi_J2_init_2 : ma_M := (⟨"java/lang/RuntimeException", "<init>", "(Ljava/lang/String;)V"⟩, prog_35_method_2_code, 2, none, [])
def mi_J2_init_3 : ma_M := (⟨"java/lang/RuntimeException", "<init>", "()V"⟩, prog_35_method_1_code, 1, none, [])
def mi_J3_init : ma_M := (⟨"java/lang/NegativeArraySizeException", "<init>", "(Ljava/lang/String;)V"⟩, prog_33_method_2_code, 2, none, [])
def mi_J4_length : ma_M := (⟨"java/lang/String", "length", "()I"⟩, prog_36_method_54_code, 1, (some FieldType.int), [])
def mi_J4_coder : ma_M := (⟨"java/lang/String", "coder", "()B"⟩, prog_36_method_152_code, 1, (some FieldType.byte), [])
def mi_J4_charAt : ma_M := (⟨"java/lang/String", "charAt", "(I)C"⟩, prog_36_method_56_code, 2, (some FieldType.char), [])
def mi_J4_isLatin1 : ma_M := (⟨"java/lang/String", "isLatin1", "()Z"⟩, prog_36_method_154_code, 1, (some FieldType.boolean), [])
def mi_J4_checkIndex : ma_M := (⟨"java/lang/String", "checkIndex", "(II)V"⟩, prog_36_method_155_code, 2, none, [])
def mi_J5_init : ma_M := (⟨"java/lang/NullPointerException", "<init>", "()V"⟩, prog_34_method_1_code, 1, none, [])
def mi_J6_init : ma_M := (⟨"java/lang/IndexOutOfBoundsException", "<init>", "(Ljava/lang/String;)V"⟩, prog_30_method_2_code, 2, none, [])
def mi_J7_init : ma_M := (⟨"java/lang/ArrayIndexOutOfBoundsException", "<init>", "(Ljava/lang/String;)V"⟩, prog_28_method_2_code, 2, none, [])
def mi_J8_max : ma_M := (⟨"java/lang/Math", "max", "(JJ)J"⟩, prog_32_method_66_code, 4, (some FieldType.long), [])
def mi_J8_min : ma_M := (⟨"java/lang/Math", "min", "(JJ)J"⟩, prog_32_method_70_code, 4, (some FieldType.long), [])
def mi_J8_min_2 : ma_M := (⟨"java/lang/Math", "min", "(II)I"⟩, prog_32_method_69_code, 2, (some FieldType.int), [])
def mi_J8_max_2 : ma_M := (⟨"java/lang/Math", "max", "(II)I"⟩, prog_32_method_65_code, 2, (some FieldType.int), [])
def mi_J9_charAt : ma_M := (⟨"java/lang/StringLatin1", "charAt", "([BI)C"⟩, prog_37_method_2_code, 2, (some FieldType.char), [])
def mi_X0_init : ma_M := (⟨"PrairiePool", "<init>", "()V"⟩, prog_1_method_1_code, 2, none, [])
def mi_X0_status : ma_M := (⟨"PrairiePool", "status", "()I"⟩, prog_1_method_2_code, 1, (some FieldType.int), [])
def mi_X0_tray : ma_M := (⟨"PrairiePool", "tray", "(III)Z"⟩, prog_1_method_8_code, 5, (some FieldType.boolean), [(34, 45, 48, 195)])
def mi_X0_isTray : ma_M := (⟨"PrairiePool", "isTray", "(I)Z"⟩, prog_1_method_7_code, 1, (some FieldType.boolean), [])
def mi_X0_is : ma_M := (⟨"PrairiePool", "is", "(I)Z"⟩, prog_1_method_3_code, 2, (some FieldType.boolean), [])
def mi_X0_write : ma_M := (⟨"PrairiePool", "write", "(IIJ)Z"⟩, prog_1_method_9_code, 6, (some FieldType.boolean), [(13, 24, 27, 201), (13, 24, 35, 203)])
def mi_X0_read : ma_M := (⟨"PrairiePool", "read", "(II)J"⟩, prog_1_method_10_code, 4, (some FieldType.long), [(19, 29, 30, 201), (19, 29, 39, 203)])
def mi_X0_none : ma_M := (⟨"PrairiePool", "none", "(I)I"⟩, prog_1_method_4_code, 2, (some FieldType.int), [])
def mi_X0_pour : ma_M := (⟨"PrairiePool", "pour", "(IIIII)Z"⟩, prog_1_method_11_code, 9, (some FieldType.boolean), [(80, 92, 95, 201), (80, 92, 103, 228)])
def mi_X0_farm : ma_M := (⟨"PrairiePool", "farm", "(III)I"⟩, prog_1_method_20_code, 4, (some FieldType.int), [])
def mi_X0_isDistrict : ma_M := (⟨"PrairiePool", "isDistrict", "(I)Z"⟩, prog_1_method_16_code, 1, (some FieldType.boolean), [])
def mi_X0_isFrom : ma_M := (⟨"PrairiePool", "isFrom", "(JJJ)Z"⟩, prog_1_method_12_code, 6, (some FieldType.boolean), [])
def mi_X0_gives : ma_M := (⟨"PrairiePool", "gives", "(I)I"⟩, prog_1_method_5_code, 2, (some FieldType.int), [])
def mi_X0_elevator : ma_M := (⟨"PrairiePool", "elevator", "(II)I"⟩, prog_1_method_21_code, 3, (some FieldType.int), [])
def mi_X0_load : ma_M := (⟨"PrairiePool", "load", "(IIIIII)I"⟩, prog_1_method_24_code, 8, (some FieldType.int), [])
def mi_X0_isFarm : ma_M := (⟨"PrairiePool", "isFarm", "(I)Z"⟩, prog_1_method_18_code, 2, (some FieldType.boolean), [])
def mi_X0_isElevator : ma_M := (⟨"PrairiePool", "isElevator", "(I)Z"⟩, prog_1_method_19_code, 2, (some FieldType.boolean), [])
def mi_X0_wrongEvent : ma_M := (⟨"PrairiePool", "wrongEvent", "(ZII)I"⟩, prog_1_method_22_code, 4, (some FieldType.int), [])
def mi_X0_isWeek : ma_M := (⟨"PrairiePool", "isWeek", "(I)Z"⟩, prog_1_method_13_code, 1, (some FieldType.boolean), [])
def mi_X0_adds : ma_M := (⟨"PrairiePool", "adds", "(LPrairiePool$Event;)I"⟩, prog_1_method_23_code, 2, (some FieldType.int), [])
def mi_X0_car : ma_M := (⟨"PrairiePool", "car", "(IIIIIII)I"⟩, prog_1_method_25_code, 9, (some FieldType.int), [])
def mi_X0_isPort : ma_M := (⟨"PrairiePool", "isPort", "(I)Z"⟩, prog_1_method_17_code, 1, (some FieldType.boolean), [])
def mi_X0_isGrade : ma_M := (⟨"PrairiePool", "isGrade", "(I)Z"⟩, prog_1_method_15_code, 1, (some FieldType.boolean), [])
def mi_X0_isYear : ma_M := (⟨"PrairiePool", "isYear", "(I)Z"⟩, prog_1_method_14_code, 1, (some FieldType.boolean), [])
def mi_X0_sale : ma_M := (⟨"PrairiePool", "sale", "(IIIIIII)I"⟩, prog_1_method_26_code, 9, (some FieldType.int), [])
def mi_X0_spoil : ma_M := (⟨"PrairiePool", "spoil", "(IIIIII)I"⟩, prog_1_method_27_code, 8, (some FieldType.int), [])
def mi_X0_grading : ma_M := (⟨"PrairiePool", "grading", "(IIII)Z"⟩, prog_1_method_29_code, 5, (some FieldType.boolean), [])
def mi_X0_isLoad : ma_M := (⟨"PrairiePool", "isLoad", "(I)Z"⟩, prog_1_method_28_code, 2, (some FieldType.boolean), [])
def mi_X0_grade : ma_M := (⟨"PrairiePool", "grade", "(II)I"⟩, prog_1_method_31_code, 3, (some FieldType.int), [])
def mi_X0_gradeOf : ma_M := (⟨"PrairiePool", "gradeOf", "(II)I"⟩, prog_1_method_30_code, 11, (some FieldType.int), [])
def mi_X0_lawOf : ma_M := (⟨"PrairiePool", "lawOf", "(I)LPrairiePool$Law;"⟩, prog_1_method_37_code, 4, (some (FieldType.object "PrairiePool$Law")), [])
def mi_X0_clear : ma_M := (⟨"PrairiePool", "clear", "()[J"⟩, prog_1_method_38_code, 2, (some (FieldType.array FieldType.long)), [])
def mi_X0_asks : ma_M := (⟨"PrairiePool", "asks", "(JJJJ)J"⟩, prog_1_method_39_code, 10, (some FieldType.long), [])
def mi_X0_bin : ma_M := (⟨"PrairiePool", "bin", "(IIIII)I"⟩, prog_1_method_34_code, 6, (some FieldType.int), [])
def mi_X0_plays : ma_M := (⟨"PrairiePool", "plays", "(I)V"⟩, prog_1_method_32_code, 3, none, [])
def mi_X0_told : ma_M := (⟨"PrairiePool", "told", "(LPrairiePool$Heap;I)I"⟩, prog_1_method_33_code, 3, (some FieldType.int), [])
def mi_X0_port : ma_M := (⟨"PrairiePool", "port", "(IIIII)I"⟩, prog_1_method_35_code, 6, (some FieldType.int), [])
def mi_X0_sum : ma_M := (⟨"PrairiePool", "sum", "(III)I"⟩, prog_1_method_36_code, 7, (some FieldType.int), [])
def mi_X0_feed : ma_M := (⟨"PrairiePool", "feed", "(IIIII)I"⟩, prog_1_method_40_code, 6, (some FieldType.int), [])
def mi_X0_four : ma_M := (⟨"PrairiePool", "four", "(I)V"⟩, prog_1_method_41_code, 3, none, [])
def mi_X0_acts : ma_M := (⟨"PrairiePool", "acts", "(II)I"⟩, prog_1_method_42_code, 5, (some FieldType.int), [(61, 70, 73, 60)])
def mi_X0_fault : ma_M := (⟨"PrairiePool", "fault", "(I)I"⟩, prog_1_method_43_code, 2, (some FieldType.int), [])
def mi_X0_paid : ma_M := (⟨"PrairiePool", "paid", "(IIII)J"⟩, prog_1_method_47_code, 5, (some FieldType.long), [])
def mi_X0_heldOf : ma_M := (⟨"PrairiePool", "heldOf", "(II)J"⟩, prog_1_method_44_code, 4, (some FieldType.long), [])
def mi_X0_givesLong : ma_M := (⟨"PrairiePool", "givesLong", "(J)J"⟩, prog_1_method_6_code, 3, (some FieldType.long), [])
def mi_X0_last : ma_M := (⟨"PrairiePool", "last", "(III)J"⟩, prog_1_method_49_code, 5, (some FieldType.long), [])
def mi_X0_wrongYear : ma_M := (⟨"PrairiePool", "wrongYear", "(III)I"⟩, prog_1_method_48_code, 4, (some FieldType.int), [])
def mi_X0_settle : ma_M := (⟨"PrairiePool", "settle", "(II)V"⟩, prog_1_method_46_code, 8, none, [])
def mi_X0_firstOf : ma_M := (⟨"PrairiePool", "firstOf", "(II)J"⟩, prog_1_method_45_code, 4, (some FieldType.long), [])
def mi_X0_first : ma_M := (⟨"PrairiePool", "first", "(III)J"⟩, prog_1_method_50_code, 5, (some FieldType.long), [])
def mi_X0_below : ma_M := (⟨"PrairiePool", "below", "(III)J"⟩, prog_1_method_51_code, 4, (some FieldType.long), [])
def mi_X0_owed : ma_M := (⟨"PrairiePool", "owed", "(III)J"⟩, prog_1_method_52_code, 5, (some FieldType.long), [])
def mi_X0_turns : ma_M := (⟨"PrairiePool", "turns", "(III)I"⟩, prog_1_method_53_code, 12, (some FieldType.int), [])
def mi_X0_sign : ma_M := (⟨"PrairiePool", "sign", "(III)Z"⟩, prog_1_method_54_code, 4, (some FieldType.boolean), [])
def mi_X0_let : ma_M := (⟨"PrairiePool", "let", "(IIZ)Z"⟩, prog_1_method_55_code, 4, (some FieldType.boolean), [])
def mi_X0_outside : ma_M := (⟨"PrairiePool", "outside", "(IIII)I"⟩, prog_1_method_56_code, 5, (some FieldType.int), [])
def mi_X0_breach : ma_M := (⟨"PrairiePool", "breach", "(I)I"⟩, prog_1_method_58_code, 2, (some FieldType.int), [])
def mi_X0_breachOf : ma_M := (⟨"PrairiePool", "breachOf", "(I)J"⟩, prog_1_method_57_code, 5, (some FieldType.long), [])
def mi_X0_cost : ma_M := (⟨"PrairiePool", "cost", "(II)J"⟩, prog_1_method_59_code, 6, (some FieldType.long), [])
def mi_X0_price : ma_M := (⟨"PrairiePool", "price", "(II)Z"⟩, prog_1_method_60_code, 3, (some FieldType.boolean), [])
def mi_X0_rules : ma_M := (⟨"PrairiePool", "rules", "(II)Z"⟩, prog_1_method_61_code, 3, (some FieldType.boolean), [])
def mi_X0_alone : ma_M := (⟨"PrairiePool", "alone", "(III)J"⟩, prog_1_method_64_code, 5, (some FieldType.long), [])
def mi_X0_playsLoads : ma_M := (⟨"PrairiePool", "playsLoads", "(I)V"⟩, prog_1_method_63_code, 5, none, [])
def mi_X0_aloneOf : ma_M := (⟨"PrairiePool", "aloneOf", "(III)J"⟩, prog_1_method_62_code, 9, (some FieldType.long), [])
def mi_X0_more : ma_M := (⟨"PrairiePool", "more", "(II)I"⟩, prog_1_method_65_code, 7, (some FieldType.int), [])
def mi_X0_vote : ma_M := (⟨"PrairiePool", "vote", "(II)Z"⟩, prog_1_method_66_code, 3, (some FieldType.boolean), [])
def mi_X0_result : ma_M := (⟨"PrairiePool", "result", "(II)I"⟩, prog_1_method_69_code, 4, (some FieldType.int), [])
def mi_X0_weigh : ma_M := (⟨"PrairiePool", "weigh", "(I)V"⟩, prog_1_method_67_code, 4, none, [])
def mi_X0_wholeFor : ma_M := (⟨"PrairiePool", "wholeFor", "(II)I"⟩, prog_1_method_68_code, 5, (some FieldType.int), [])
def mi_X0_hangs : ma_M := (⟨"PrairiePool", "hangs", "(I)I"⟩, prog_1_method_70_code, 6, (some FieldType.int), [])
def mi_X0_warm : ma_M := (⟨"PrairiePool", "warm", "(III)I"⟩, prog_1_method_72_code, 8, (some FieldType.int), [])
def mi_X0_areFrom : ma_M := (⟨"PrairiePool", "areFrom", "(IIJJ)Z"⟩, prog_1_method_71_code, 8, (some FieldType.boolean), [])
def mi_X0_turned : ma_M := (⟨"PrairiePool", "turned", "(I)I"⟩, prog_1_method_73_code, 2, (some FieldType.int), [])
def mi_X0_send : ma_M := (⟨"PrairiePool", "send", "(IIIII)I"⟩, prog_1_method_75_code, 13, (some FieldType.int), [])
def mi_X0_find : ma_M := (⟨"PrairiePool", "find", "(II)V"⟩, prog_1_method_74_code, 6, none, [])
def mi_X1_init : ma_M := (⟨"PrairiePool$Play", "<init>", "()V"⟩, prog_16_method_1_code, 4, none, [])
def mi_X1_begin : ma_M := (⟨"PrairiePool$Play", "begin", "()V"⟩, prog_16_method_2_code, 4, none, [])
def mi_X10_init : ma_M := (⟨"PrairiePool$Elevator", "<init>", "(II)V"⟩, prog_6_method_1_code, 3, none, [])
def mi_X11_init : ma_M := (⟨"PrairiePool$Event", "<init>", "(III)V"⟩, prog_7_method_1_code, 4, none, [])
def mi_X11_bushels : ma_M := (⟨"PrairiePool$Event", "bushels", "()I"⟩, prog_7_method_2_code, 1, (some FieldType.int), [])
def mi_X12_init : ma_M := (⟨"PrairiePool$Load", "<init>", "(LPrairiePool$Farm;IIIII)V"⟩, prog_13_method_1_code, 7, none, [])
def mi_X12_year : ma_M := (⟨"PrairiePool$Load", "year", "()I"⟩, prog_13_method_3_code, 1, (some FieldType.int), [])
def mi_X12_bushels : ma_M := (⟨"PrairiePool$Load", "bushels", "()I"⟩, prog_13_method_2_code, 1, (some FieldType.int), [])
def mi_X12_plays : ma_M := (⟨"PrairiePool$Load", "plays", "(LPrairiePool$Play;)V"⟩, prog_13_method_4_code, 4, none, [])
def mi_X13_init : ma_M := (⟨"PrairiePool$Taking", "<init>", "(IIIIII)V"⟩, prog_21_method_1_code, 7, none, [])
def mi_X13_some : ma_M := (⟨"PrairiePool$Taking", "some", "(LPrairiePool$Play;LPrairiePool$Heap;)I"⟩, prog_21_method_2_code, 4, (some FieldType.int), [])
def mi_X14_init : ma_M := (⟨"PrairiePool$Spoil", "<init>", "(IIIIII)V"⟩, prog_20_method_1_code, 7, none, [])
def mi_X14_plays : ma_M := (⟨"PrairiePool$Spoil", "plays", "(LPrairiePool$Play;)V"⟩, prog_20_method_4_code, 4, none, [])
def mi_X14_goal : ma_M := (⟨"PrairiePool$Spoil", "goal", "(LPrairiePool$Play;)LPrairiePool$Heap;"⟩, prog_20_method_2_code, 2, (some (FieldType.object "PrairiePool$Heap")), [])
def mi_X14_row : ma_M := (⟨"PrairiePool$Spoil", "row", "(LPrairiePool$Play;)[I"⟩, prog_20_method_3_code, 2, (some (FieldType.array FieldType.int)), [])
def mi_X15_init : ma_M := (⟨"PrairiePool$Car", "<init>", "(IIIIIII)V"⟩, prog_3_method_1_code, 8, none, [])
def mi_X15_goal : ma_M := (⟨"PrairiePool$Car", "goal", "(LPrairiePool$Play;)LPrairiePool$Heap;"⟩, prog_3_method_2_code, 2, (some (FieldType.object "PrairiePool$Heap")), [])
def mi_X15_row : ma_M := (⟨"PrairiePool$Car", "row", "(LPrairiePool$Play;)[I"⟩, prog_3_method_3_code, 2, (some (FieldType.array FieldType.int)), [])
def mi_X16_init : ma_M := (⟨"PrairiePool$Sale", "<init>", "(IIIIIII)V"⟩, prog_19_method_1_code, 8, none, [])
def mi_X16_plays : ma_M := (⟨"PrairiePool$Sale", "plays", "(LPrairiePool$Play;)V"⟩, prog_19_method_2_code, 4, none, [])
def mi_X17_find : ma_M := (⟨"PrairiePool$Law", "find", "(J)I"⟩, prog_11_method_2_code, 4, (some FieldType.int), [])
def mi_X17_works : ma_M := (⟨"PrairiePool$Law", "works", "(LPrairiePool$Asked;I)Z"⟩, prog_11_method_3_code, 5, (some FieldType.boolean), [(14, 30, 33, 37)])
def mi_X17_init : ma_M := (⟨"PrairiePool$Law", "<init>", "()V"⟩, prog_11_method_1_code, 1, none, [])
def mi_X18_init : ma_M := (⟨"PrairiePool$Term", "<init>", "()V"⟩, prog_22_method_1_code, 1, none, [])
def mi_X19_value : ma_M := (⟨"PrairiePool$Chain", "value", "(LPrairiePool$Asked;)J"⟩, prog_4_method_3_code, 7, (some FieldType.long), [])
def mi_X19_init : ma_M := (⟨"PrairiePool$Chain", "<init>", "()V"⟩, prog_4_method_1_code, 1, none, [])
def mi_X19_add : ma_M := (⟨"PrairiePool$Chain", "add", "(ILPrairiePool$Term;)V"⟩, prog_4_method_2_code, 3, none, [])
def mi_X2_init : ma_M := (⟨"PrairiePool$Parts", "<init>", "()V"⟩, prog_14_method_1_code, 1, none, [])
def mi_X2_split : ma_M := (⟨"PrairiePool$Parts", "split", "([IJJ)V"⟩, prog_14_method_2_code, 7, none, [])
def mi_X2_split_2 : ma_M := (⟨"PrairiePool$Parts", "split", "(JJ)V"⟩, prog_14_method_3_code, 9, none, [])
def mi_X20_value : ma_M := (⟨"PrairiePool$Pick", "value", "(LPrairiePool$Asked;)J"⟩, prog_15_method_2_code, 6, (some FieldType.long), [])
def mi_X20_init : ma_M := (⟨"PrairiePool$Pick", "<init>", "(ZLPrairiePool$Term;LPrairiePool$Term;)V"⟩, prog_15_method_1_code, 4, none, [])
def mi_X21_value : ma_M := (⟨"PrairiePool$Leaf", "value", "(LPrairiePool$Asked;)J"⟩, prog_12_method_2_code, 2, (some FieldType.long), [])
def mi_X21_init : ma_M := (⟨"PrairiePool$Leaf", "<init>", "(IJ)V"⟩, prog_12_method_1_code, 4, none, [])
def mi_X22_value : ma_M := (⟨"PrairiePool$If", "value", "(LPrairiePool$Asked;)J"⟩, prog_10_method_4_code, 2, (some FieldType.long), [])
def mi_X22_taken : ma_M := (⟨"PrairiePool$If", "taken", "(LPrairiePool$Asked;)LPrairiePool$Term;"⟩, prog_10_method_3_code, 3, (some (FieldType.object "PrairiePool$Term")), [])
def mi_X22_init : ma_M := (⟨"PrairiePool$If", "<init>", "()V"⟩, prog_10_method_1_code, 1, none, [])
def mi_X22_add : ma_M := (⟨"PrairiePool$If", "add", "(LPrairiePool$Compare;)V"⟩, prog_10_method_2_code, 2, none, [])
def mi_X23_holds : ma_M := (⟨"PrairiePool$Compare", "holds", "(LPrairiePool$Asked;)Z"⟩, prog_5_method_2_code, 7, (some FieldType.boolean), [(0, 19, 22, 30)])
def mi_X23_init : ma_M := (⟨"PrairiePool$Compare", "<init>", "(ZLPrairiePool$Term;ILPrairiePool$Term;)V"⟩, prog_5_method_1_code, 5, none, [])
def mi_X3_init : ma_M := (⟨"PrairiePool$Heap", "<init>", "()V"⟩, prog_9_method_1_code, 1, none, [])
def mi_X3_clear : ma_M := (⟨"PrairiePool$Heap", "clear", "()V"⟩, prog_9_method_2_code, 2, none, [])
def mi_X3_takes : ma_M := (⟨"PrairiePool$Heap", "takes", "(ILPrairiePool$Parts;LPrairiePool$Heap;[I)V"⟩, prog_9_method_4_code, 7, none, [])
def mi_X3_comes : ma_M := (⟨"PrairiePool$Heap", "comes", "(II)V"⟩, prog_9_method_3_code, 3, none, [])
def mi_X4_init : ma_M := (⟨"PrairiePool$Wrong", "<init>", "()V"⟩, prog_25_method_1_code, 1, none, [])
def mi_X4_of : ma_M := (⟨"PrairiePool$Wrong", "of", "(II)LPrairiePool$Wrong;"⟩, prog_25_method_2_code, 3, (some (FieldType.object "PrairiePool$Wrong")), [])
def mi_X5_init : ma_M := (⟨"PrairiePool$Reader", "<init>", "(LPrairiePool$Wrong;)V"⟩, prog_18_method_1_code, 2, none, [])
def mi_X5_read : ma_M := (⟨"PrairiePool$Reader", "read", "(I)LPrairiePool$Law;"⟩, prog_18_method_14_code, 2, (some (FieldType.object "PrairiePool$Law")), [])
def mi_X5_next : ma_M := (⟨"PrairiePool$Reader", "next", "()V"⟩, prog_18_method_6_code, 2, none, [])
def mi_X5_at : ma_M := (⟨"PrairiePool$Reader", "at", "(I)I"⟩, prog_18_method_2_code, 2, (some FieldType.int), [])
def mi_X5_isSmall : ma_M := (⟨"PrairiePool$Reader", "isSmall", "(I)Z"⟩, prog_18_method_4_code, 1, (some FieldType.boolean), [])
def mi_X5_isDigit : ma_M := (⟨"PrairiePool$Reader", "isDigit", "(I)Z"⟩, prog_18_method_3_code, 1, (some FieldType.boolean), [])
def mi_X5_isSign : ma_M := (⟨"PrairiePool$Reader", "isSign", "(I)Z"⟩, prog_18_method_5_code, 1, (some FieldType.boolean), [])
def mi_X5_def : ma_M := (⟨"PrairiePool$Reader", "def", "()V"⟩, prog_18_method_15_code, 4, none, [])
def mi_X5_name : ma_M := (⟨"PrairiePool$Reader", "name", "()J"⟩, prog_18_method_13_code, 4, (some FieldType.long), [])
def mi_X5_in : ma_M := (⟨"PrairiePool$Reader", "in", "(Ljava/lang/String;)I"⟩, prog_18_method_10_code, 5, (some FieldType.int), [])
def mi_X5_isWord : ma_M := (⟨"PrairiePool$Reader", "isWord", "(Ljava/lang/String;II)Z"⟩, prog_18_method_11_code, 5, (some FieldType.boolean), [])
def mi_X5_need : ma_M := (⟨"PrairiePool$Reader", "need", "(Z)V"⟩, prog_18_method_9_code, 2, none, [])
def mi_X5_fail : ma_M := (⟨"PrairiePool$Reader", "fail", "(I)LPrairiePool$Wrong;"⟩, prog_18_method_8_code, 2, (some (FieldType.object "PrairiePool$Wrong")), [])
def mi_X5_is : ma_M := (⟨"PrairiePool$Reader", "is", "(I)Z"⟩, prog_18_method_7_code, 2, (some FieldType.boolean), [])
def mi_X5_whole : ma_M := (⟨"PrairiePool$Reader", "whole", "(I)LPrairiePool$Term;"⟩, prog_18_method_17_code, 4, (some (FieldType.object "PrairiePool$Term")), [])
def mi_X5_isKey : ma_M := (⟨"PrairiePool$Reader", "isKey", "(I)Z"⟩, prog_18_method_12_code, 2, (some FieldType.boolean), [])
def mi_X5_begins : ma_M := (⟨"PrairiePool$Reader", "begins", "()Z"⟩, prog_18_method_16_code, 1, (some FieldType.boolean), [])
def mi_X5_sum : ma_M := (⟨"PrairiePool$Reader", "sum", "(I)LPrairiePool$Term;"⟩, prog_18_method_19_code, 4, (some (FieldType.object "PrairiePool$Term")), [])
def mi_X5_item : ma_M := (⟨"PrairiePool$Reader", "item", "(I)LPrairiePool$Term;"⟩, prog_18_method_20_code, 4, (some (FieldType.object "PrairiePool$Term")), [])
def mi_X5_atom : ma_M := (⟨"PrairiePool$Reader", "atom", "(I)LPrairiePool$Term;"⟩, prog_18_method_23_code, 4, (some (FieldType.object "PrairiePool$Term")), [])
def mi_X5_few : ma_M := (⟨"PrairiePool$Reader", "few", "(I)LPrairiePool$Term;"⟩, prog_18_method_21_code, 5, (some (FieldType.object "PrairiePool$Term")), [])
def mi_X5_inner : ma_M := (⟨"PrairiePool$Reader", "inner", "(I)LPrairiePool$Term;"⟩, prog_18_method_22_code, 2, (some (FieldType.object "PrairiePool$Term")), [])
def mi_X5_one : ma_M := (⟨"PrairiePool$Reader", "one", "(I)LPrairiePool$Compare;"⟩, prog_18_method_18_code, 5, (some (FieldType.object "PrairiePool$Compare")), [])
def mi_X6_init : ma_M := (⟨"PrairiePool$Asked", "<init>", "(LPrairiePool$Wrong;)V"⟩, prog_2_method_1_code, 2, none, [])
def mi_X7_init : ma_M := (⟨"PrairiePool$Tray", "<init>", "()V"⟩, prog_23_method_1_code, 1, none, [])
def mi_X7_make : ma_M := (⟨"PrairiePool$Tray", "make", "(II)V"⟩, prog_23_method_2_code, 4, none, [])
def mi_X7_set : ma_M := (⟨"PrairiePool$Tray", "set", "(IJ)V"⟩, prog_23_method_5_code, 4, none, [])
def mi_X7_get : ma_M := (⟨"PrairiePool$Tray", "get", "(I)J"⟩, prog_23_method_4_code, 2, (some FieldType.long), [])
def mi_X7_many : ma_M := (⟨"PrairiePool$Tray", "many", "()I"⟩, prog_23_method_3_code, 1, (some FieldType.int), [])
def mi_X8_init : ma_M := (⟨"PrairiePoolModel", "<init>", "()V"⟩, prog_27_method_1_code, 2, none, [])
def mi_X8_status : ma_M := (⟨"PrairiePoolModel", "status", "()I"⟩, prog_27_method_3_code, 1, (some FieldType.int), [])
def mi_X8_tray : ma_M := (⟨"PrairiePoolModel", "tray", "(III)Z"⟩, prog_27_method_11_code, 5, (some FieldType.boolean), [])
def mi_X8_no : ma_M := (⟨"PrairiePoolModel", "no", "(I)Z"⟩, prog_27_method_5_code, 2, (some FieldType.boolean), [])
def mi_X8_write : ma_M := (⟨"PrairiePoolModel", "write", "(IIJ)Z"⟩, prog_27_method_14_code, 5, (some FieldType.boolean), [])
def mi_X8_placed : ma_M := (⟨"PrairiePoolModel", "placed", "(II)I"⟩, prog_27_method_13_code, 4, (some FieldType.int), [])
def mi_X8_trayed : ma_M := (⟨"PrairiePoolModel", "trayed", "(I)I"⟩, prog_27_method_12_code, 2, (some FieldType.int), [])
def mi_X8_cut : ma_M := (⟨"PrairiePoolModel", "cut", "(IJ)J"⟩, prog_27_method_10_code, 3, (some FieldType.long), [])
def mi_X8_read : ma_M := (⟨"PrairiePoolModel", "read", "(II)J"⟩, prog_27_method_15_code, 3, (some FieldType.long), [])
def mi_X8_pour : ma_M := (⟨"PrairiePoolModel", "pour", "(IIIII)Z"⟩, prog_27_method_16_code, 9, (some FieldType.boolean), [])
def mi_X8_farm : ma_M := (⟨"PrairiePoolModel", "farm", "(III)I"⟩, prog_27_method_20_code, 4, (some FieldType.int), [])
def mi_X8_isIn : ma_M := (⟨"PrairiePoolModel", "isIn", "(JJJ)Z"⟩, prog_27_method_6_code, 6, (some FieldType.boolean), [])
def mi_X8_refuse : ma_M := (⟨"PrairiePoolModel", "refuse", "(I)I"⟩, prog_27_method_4_code, 2, (some FieldType.int), [])
def mi_X8_elevator : ma_M := (⟨"PrairiePoolModel", "elevator", "(II)I"⟩, prog_27_method_21_code, 3, (some FieldType.int), [])
def mi_X8_load : ma_M := (⟨"PrairiePoolModel", "load", "(IIIIII)I"⟩, prog_27_method_23_code, 7, (some FieldType.int), [])
def mi_X8_isFarm : ma_M := (⟨"PrairiePoolModel", "isFarm", "(I)Z"⟩, prog_27_method_18_code, 2, (some FieldType.boolean), [])
def mi_X8_isElevator : ma_M := (⟨"PrairiePoolModel", "isElevator", "(I)Z"⟩, prog_27_method_19_code, 2, (some FieldType.boolean), [])
def mi_X8_event : ma_M := (⟨"PrairiePoolModel", "event", "(IIIIIIIIII)I"⟩, prog_27_method_22_code, 11, (some FieldType.int), [])
def mi_X8_isDay : ma_M := (⟨"PrairiePoolModel", "isDay", "(I)Z"⟩, prog_27_method_7_code, 1, (some FieldType.boolean), [])
def mi_X8_car : ma_M := (⟨"PrairiePoolModel", "car", "(IIIIIII)I"⟩, prog_27_method_24_code, 8, (some FieldType.int), [])
def mi_X8_isGrade : ma_M := (⟨"PrairiePoolModel", "isGrade", "(I)Z"⟩, prog_27_method_9_code, 1, (some FieldType.boolean), [])
def mi_X8_isYear : ma_M := (⟨"PrairiePoolModel", "isYear", "(I)Z"⟩, prog_27_method_8_code, 1, (some FieldType.boolean), [])
def mi_X8_sale : ma_M := (⟨"PrairiePoolModel", "sale", "(IIIIIII)I"⟩, prog_27_method_25_code, 8, (some FieldType.int), [])
def mi_X8_spoil : ma_M := (⟨"PrairiePoolModel", "spoil", "(IIIIII)I"⟩, prog_27_method_26_code, 7, (some FieldType.int), [])
def mi_X8_grading : ma_M := (⟨"PrairiePoolModel", "grading", "(IIII)Z"⟩, prog_27_method_28_code, 5, (some FieldType.boolean), [])
def mi_X8_isLoad : ma_M := (⟨"PrairiePoolModel", "isLoad", "(I)Z"⟩, prog_27_method_27_code, 2, (some FieldType.boolean), [])
def mi_X8_grade : ma_M := (⟨"PrairiePoolModel", "grade", "(II)I"⟩, prog_27_method_31_code, 3, (some FieldType.int), [])
def mi_X8_gradeOf : ma_M := (⟨"PrairiePoolModel", "gradeOf", "(II)I"⟩, prog_27_method_30_code, 10, (some FieldType.int), [])
def mi_X8_letNothing : ma_M := (⟨"PrairiePoolModel", "letNothing", "()V"⟩, prog_27_method_80_code, 2, none, [])
def mi_X8_net : ma_M := (⟨"PrairiePoolModel", "net", "(I)I"⟩, prog_27_method_29_code, 2, (some FieldType.int), [])
def mi_X8_spelled : ma_M := (⟨"PrairiePoolModel", "spelled", "(IIIIII)J"⟩, prog_27_method_47_code, 8, (some FieldType.long), [])
def mi_X8_told : ma_M := (⟨"PrairiePoolModel", "told", "(JIJ)J"⟩, prog_27_method_81_code, 9, (some FieldType.long), [])
def mi_X8_force : ma_M := (⟨"PrairiePoolModel", "force", "(I)I"⟩, prog_27_method_79_code, 4, (some FieldType.int), [])
def mi_X8_work : ma_M := (⟨"PrairiePoolModel", "work", "(II)V"⟩, prog_27_method_82_code, 6, none, [])
def mi_X8_does : ma_M := (⟨"PrairiePoolModel", "does", "(II)I"⟩, prog_27_method_84_code, 5, (some FieldType.int), [])
def mi_X8_push : ma_M := (⟨"PrairiePoolModel", "push", "(JZ)V"⟩, prog_27_method_83_code, 4, none, [])
def mi_X8_both : ma_M := (⟨"PrairiePoolModel", "both", "(II)V"⟩, prog_27_method_85_code, 9, none, [])
def mi_X8_cut_2 : ma_M := (⟨"PrairiePoolModel", "cut", "(JJJ)J"⟩, prog_27_method_86_code, 6, (some FieldType.long), [])
def mi_X8_bin : ma_M := (⟨"PrairiePoolModel", "bin", "(IIIII)I"⟩, prog_27_method_40_code, 8, (some FieldType.int), [])
def mi_X8_isWho : ma_M := (⟨"PrairiePoolModel", "isWho", "(I)Z"⟩, prog_27_method_39_code, 2, (some FieldType.boolean), [])
def mi_X8_play : ma_M := (⟨"PrairiePoolModel", "play", "(I)V"⟩, prog_27_method_36_code, 3, none, [])
def mi_X8_playLoad : ma_M := (⟨"PrairiePoolModel", "playLoad", "(II)V"⟩, prog_27_method_37_code, 4, none, [])
def mi_X8_inElevator : ma_M := (⟨"PrairiePoolModel", "inElevator", "(I)I"⟩, prog_27_method_35_code, 4, (some FieldType.int), [])
def mi_X8_binAt : ma_M := (⟨"PrairiePoolModel", "binAt", "(III)I"⟩, prog_27_method_32_code, 3, (some FieldType.int), [])
def mi_X8_playOther : ma_M := (⟨"PrairiePoolModel", "playOther", "(I)V"⟩, prog_27_method_38_code, 6, none, [])
def mi_X8_takeBin : ma_M := (⟨"PrairiePoolModel", "takeBin", "(IIZ)I"⟩, prog_27_method_34_code, 6, (some FieldType.int), [])
def mi_X8_parts : ma_M := (⟨"PrairiePoolModel", "parts", "(J)V"⟩, prog_27_method_33_code, 9, none, [])
def mi_X8_port : ma_M := (⟨"PrairiePoolModel", "port", "(IIIII)I"⟩, prog_27_method_41_code, 8, (some FieldType.int), [])
def mi_X8_sum : ma_M := (⟨"PrairiePoolModel", "sum", "(III)I"⟩, prog_27_method_42_code, 6, (some FieldType.int), [])
def mi_X8_feed : ma_M := (⟨"PrairiePoolModel", "feed", "(IIIII)I"⟩, prog_27_method_75_code, 6, (some FieldType.int), [])
def mi_X8_lay : ma_M := (⟨"PrairiePoolModel", "lay", "(I)V"⟩, prog_27_method_76_code, 3, none, [])
def mi_X8_acts : ma_M := (⟨"PrairiePoolModel", "acts", "(II)I"⟩, prog_27_method_77_code, 4, (some FieldType.int), [])
def mi_X8_next : ma_M := (⟨"PrairiePoolModel", "next", "()V"⟩, prog_27_method_46_code, 2, none, [])
def mi_X8_look : ma_M := (⟨"PrairiePoolModel", "look", "(I)I"⟩, prog_27_method_43_code, 2, (some FieldType.int), [])
def mi_X8_isLetter : ma_M := (⟨"PrairiePoolModel", "isLetter", "(I)Z"⟩, prog_27_method_44_code, 1, (some FieldType.boolean), [])
def mi_X8_isDigit : ma_M := (⟨"PrairiePoolModel", "isDigit", "(I)Z"⟩, prog_27_method_45_code, 1, (some FieldType.boolean), [])
def mi_X8_readDef : ma_M := (⟨"PrairiePoolModel", "readDef", "()V"⟩, prog_27_method_74_code, 3, none, [])
def mi_X8_variable : ma_M := (⟨"PrairiePoolModel", "variable", "()I"⟩, prog_27_method_52_code, 1, (some FieldType.int), [])
def mi_X8_isWord : ma_M := (⟨"PrairiePoolModel", "isWord", "(J)Z"⟩, prog_27_method_48_code, 3, (some FieldType.boolean), [])
def mi_X8_isKept : ma_M := (⟨"PrairiePoolModel", "isKept", "()Z"⟩, prog_27_method_61_code, 1, (some FieldType.boolean), [])
def mi_X8_isIf : ma_M := (⟨"PrairiePoolModel", "isIf", "()Z"⟩, prog_27_method_53_code, 1, (some FieldType.boolean), [])
def mi_X8_isThen : ma_M := (⟨"PrairiePoolModel", "isThen", "()Z"⟩, prog_27_method_54_code, 1, (some FieldType.boolean), [])
def mi_X8_isElse : ma_M := (⟨"PrairiePoolModel", "isElse", "()Z"⟩, prog_27_method_55_code, 1, (some FieldType.boolean), [])
def mi_X8_isAnd : ma_M := (⟨"PrairiePoolModel", "isAnd", "()Z"⟩, prog_27_method_56_code, 1, (some FieldType.boolean), [])
def mi_X8_isOr : ma_M := (⟨"PrairiePoolModel", "isOr", "()Z"⟩, prog_27_method_57_code, 1, (some FieldType.boolean), [])
def mi_X8_isNot : ma_M := (⟨"PrairiePoolModel", "isNot", "()Z"⟩, prog_27_method_58_code, 1, (some FieldType.boolean), [])
def mi_X8_isLeast : ma_M := (⟨"PrairiePoolModel", "isLeast", "()Z"⟩, prog_27_method_59_code, 1, (some FieldType.boolean), [])
def mi_X8_isMost : ma_M := (⟨"PrairiePoolModel", "isMost", "()Z"⟩, prog_27_method_60_code, 1, (some FieldType.boolean), [])
def mi_X8_wrong : ma_M := (⟨"PrairiePoolModel", "wrong", "()V"⟩, prog_27_method_51_code, 1, none, [])
def mi_X8_fail : ma_M := (⟨"PrairiePoolModel", "fail", "(II)V"⟩, prog_27_method_50_code, 3, none, [])
def mi_X8_named : ma_M := (⟨"PrairiePoolModel", "named", "()I"⟩, prog_27_method_62_code, 2, (some FieldType.int), [])
def mi_X8_isSign : ma_M := (⟨"PrairiePoolModel", "isSign", "(I)Z"⟩, prog_27_method_49_code, 2, (some FieldType.boolean), [])
def mi_X8_readWhole : ma_M := (⟨"PrairiePoolModel", "readWhole", "(I)V"⟩, prog_27_method_66_code, 4, none, [])
def mi_X8_canBegin : ma_M := (⟨"PrairiePoolModel", "canBegin", "()Z"⟩, prog_27_method_64_code, 1, (some FieldType.boolean), [])
def mi_X8_canBeginSum : ma_M := (⟨"PrairiePoolModel", "canBeginSum", "()Z"⟩, prog_27_method_65_code, 1, (some FieldType.boolean), [])
def mi_X8_readSum : ma_M := (⟨"PrairiePoolModel", "readSum", "(I)V"⟩, prog_27_method_69_code, 3, none, [])
def mi_X8_readItem : ma_M := (⟨"PrairiePoolModel", "readItem", "(I)V"⟩, prog_27_method_70_code, 3, none, [])
def mi_X8_readAtom : ma_M := (⟨"PrairiePoolModel", "readAtom", "(I)V"⟩, prog_27_method_71_code, 4, none, [])
def mi_X8_mark : ma_M := (⟨"PrairiePoolModel", "mark", "(II)V"⟩, prog_27_method_63_code, 3, none, [])
def mi_X8_readFew : ma_M := (⟨"PrairiePoolModel", "readFew", "(II)V"⟩, prog_27_method_72_code, 3, none, [])
def mi_X8_readDeeper : ma_M := (⟨"PrairiePoolModel", "readDeeper", "(I)V"⟩, prog_27_method_73_code, 2, none, [])
def mi_X8_readTest : ma_M := (⟨"PrairiePoolModel", "readTest", "(I)V"⟩, prog_27_method_67_code, 3, none, [])
def mi_X8_readOne : ma_M := (⟨"PrairiePoolModel", "readOne", "(I)V"⟩, prog_27_method_68_code, 4, none, [])
def mi_X8_fault : ma_M := (⟨"PrairiePoolModel", "fault", "(I)I"⟩, prog_27_method_78_code, 2, (some FieldType.int), [])
def mi_X8_paid : ma_M := (⟨"PrairiePoolModel", "paid", "(IIII)J"⟩, prog_27_method_91_code, 5, (some FieldType.long), [])
def mi_X8_came : ma_M := (⟨"PrairiePoolModel", "came", "(III)J"⟩, prog_27_method_88_code, 7, (some FieldType.long), [])
def mi_X8_kept : ma_M := (⟨"PrairiePoolModel", "kept", "(III)J"⟩, prog_27_method_90_code, 4, (some FieldType.long), [])
def mi_X8_ofYear : ma_M := (⟨"PrairiePoolModel", "ofYear", "(JII)J"⟩, prog_27_method_87_code, 5, (some FieldType.long), [])
def mi_X8_bring : ma_M := (⟨"PrairiePoolModel", "bring", "(III)J"⟩, prog_27_method_89_code, 7, (some FieldType.long), [])
def mi_X8_last : ma_M := (⟨"PrairiePoolModel", "last", "(III)J"⟩, prog_27_method_94_code, 4, (some FieldType.long), [])
def mi_X8_asksFarm : ma_M := (⟨"PrairiePoolModel", "asksFarm", "(III)I"⟩, prog_27_method_93_code, 4, (some FieldType.int), [])
def mi_X8_pay : ma_M := (⟨"PrairiePoolModel", "pay", "(II)V"⟩, prog_27_method_92_code, 9, none, [])
def mi_X8_first : ma_M := (⟨"PrairiePoolModel", "first", "(III)J"⟩, prog_27_method_95_code, 4, (some FieldType.long), [])
def mi_X8_below : ma_M := (⟨"PrairiePoolModel", "below", "(III)J"⟩, prog_27_method_96_code, 4, (some FieldType.long), [])
def mi_X8_owed : ma_M := (⟨"PrairiePoolModel", "owed", "(III)J"⟩, prog_27_method_97_code, 4, (some FieldType.long), [])
def mi_X8_turns : ma_M := (⟨"PrairiePoolModel", "turns", "(III)I"⟩, prog_27_method_99_code, 12, (some FieldType.int), [])
def mi_X8_turnOf : ma_M := (⟨"PrairiePoolModel", "turnOf", "(III)J"⟩, prog_27_method_98_code, 4, (some FieldType.long), [])
def mi_X8_sign : ma_M := (⟨"PrairiePoolModel", "sign", "(III)Z"⟩, prog_27_method_100_code, 4, (some FieldType.boolean), [])
def mi_X8_let : ma_M := (⟨"PrairiePoolModel", "let", "(IIZ)Z"⟩, prog_27_method_101_code, 4, (some FieldType.boolean), [])
def mi_X8_outside : ma_M := (⟨"PrairiePoolModel", "outside", "(IIII)I"⟩, prog_27_method_102_code, 5, (some FieldType.int), [])
def mi_X8_breach : ma_M := (⟨"PrairiePoolModel", "breach", "(I)I"⟩, prog_27_method_104_code, 2, (some FieldType.int), [])
def mi_X8_breachOf : ma_M := (⟨"PrairiePoolModel", "breachOf", "(I)J"⟩, prog_27_method_103_code, 4, (some FieldType.long), [])
def mi_X8_cost : ma_M := (⟨"PrairiePoolModel", "cost", "(II)J"⟩, prog_27_method_105_code, 6, (some FieldType.long), [])
def mi_X8_price : ma_M := (⟨"PrairiePoolModel", "price", "(II)Z"⟩, prog_27_method_106_code, 3, (some FieldType.boolean), [])
def mi_X8_rules : ma_M := (⟨"PrairiePoolModel", "rules", "(II)Z"⟩, prog_27_method_107_code, 3, (some FieldType.boolean), [])
def mi_X8_alone : ma_M := (⟨"PrairiePoolModel", "alone", "(III)J"⟩, prog_27_method_109_code, 4, (some FieldType.long), [])
def mi_X8_aloneOf : ma_M := (⟨"PrairiePoolModel", "aloneOf", "(III)J"⟩, prog_27_method_108_code, 8, (some FieldType.long), [])
def mi_X8_more : ma_M := (⟨"PrairiePoolModel", "more", "(II)I"⟩, prog_27_method_110_code, 8, (some FieldType.int), [])
def mi_X8_vote : ma_M := (⟨"PrairiePoolModel", "vote", "(II)Z"⟩, prog_27_method_111_code, 3, (some FieldType.boolean), [])
def mi_X8_result : ma_M := (⟨"PrairiePoolModel", "result", "(II)I"⟩, prog_27_method_114_code, 3, (some FieldType.int), [])
def mi_X8_findVotes : ma_M := (⟨"PrairiePoolModel", "findVotes", "(I)V"⟩, prog_27_method_112_code, 3, none, [])
def mi_X8_isFor : ma_M := (⟨"PrairiePoolModel", "isFor", "()Z"⟩, prog_27_method_113_code, 3, (some FieldType.boolean), [])
def mi_X8_hangs : ma_M := (⟨"PrairiePoolModel", "hangs", "(I)I"⟩, prog_27_method_115_code, 8, (some FieldType.int), [])
def mi_X8_add : ma_M := (⟨"PrairiePoolModel", "add", "(IIZI)V"⟩, prog_27_method_116_code, 7, none, [])
def mi_X8_warm : ma_M := (⟨"PrairiePoolModel", "warm", "(III)I"⟩, prog_27_method_117_code, 8, (some FieldType.int), [])
def mi_X8_numberOf : ma_M := (⟨"PrairiePoolModel", "numberOf", "(II)J"⟩, prog_27_method_17_code, 3, (some FieldType.long), [])
def mi_X8_canTurn : ma_M := (⟨"PrairiePoolModel", "canTurn", "(III)Z"⟩, prog_27_method_118_code, 4, (some FieldType.boolean), [])
def mi_X8_turned : ma_M := (⟨"PrairiePoolModel", "turned", "(I)I"⟩, prog_27_method_119_code, 2, (some FieldType.int), [])
def mi_X8_send : ma_M := (⟨"PrairiePoolModel", "send", "(IIIII)I"⟩, prog_27_method_121_code, 9, (some FieldType.int), [])
def mi_X8_asksSend : ma_M := (⟨"PrairiePoolModel", "asksSend", "(IIIII)I"⟩, prog_27_method_120_code, 9, (some FieldType.int), [])
def mi_X8_bushel : ma_M := (⟨"PrairiePoolModel", "bushel", "(II)I"⟩, prog_27_method_122_code, 8, (some FieldType.int), [])
def mi_X9_init : ma_M := (⟨"PrairiePool$Farm", "<init>", "(IIII)V"⟩, prog_8_method_1_code, 5, none, [])
def mi_X9_isSigned : ma_M := (⟨"PrairiePool$Farm", "isSigned", "(I)Z"⟩, prog_8_method_2_code, 2, (some FieldType.boolean), [])
theorem ca_J0_init : ma_cal mi_J0_init := ⟨by decide +kernel, Or.inl ⟨q313, rfl⟩⟩
theorem I_J0_init : ma_ini mi_J0_init 0 := ⟨ca_J0_init, rfl, q312, q313, ⟨by decide +kernel, by decide +kernel⟩, (by decide +kernel : (parseMethodDescriptor mi_J0_init.1.desc).map (fun d => d.parameters.length) = some 0)⟩
theorem ca_J0_init_2 : ma_cal mi_J0_init_2 := ⟨by decide +kernel, Or.inl ⟨q355, rfl⟩⟩
theorem I_J0_init_2 : ma_ini mi_J0_init_2 4 := ⟨ca_J0_init_2, rfl, q354, q355, ⟨by decide +kernel, by decide +kernel⟩, (by decide +kernel : (parseMethodDescriptor mi_J0_init_2.1.desc).map (fun d => d.parameters.length) = some 4)⟩
theorem ca_J0_init_3 : ma_cal mi_J0_init_3 := ⟨by decide +kernel, Or.inl ⟨q646, rfl⟩⟩
theorem I_J0_init_3 : ma_ini mi_J0_init_3 1 := ⟨ca_J0_init_3, rfl, q645, q646, ⟨by decide +kernel, by decide +kernel⟩, (by decide +kernel : (parseMethodDescriptor mi_J0_init_3.1.desc).map (fun d => d.parameters.length) = some 1)⟩
theorem ca_J1_init : ma_cal mi_J1_init := ⟨by decide +kernel, Or.inl ⟨q352, rfl⟩⟩
theorem I_J1_init : ma_ini mi_J1_init 4 := ⟨ca_J1_init, rfl, q351, q352, ⟨by decide +kernel, by decide +kernel⟩, (by decide +kernel : (parseMethodDescriptor mi_J1_init.1.desc).map (fun d => d.parameters.length) = some 4)⟩
theorem ca_J1_init_2 : ma_cal mi_J1_init_2 := ⟨by decide +kernel, Or.inl ⟨q643, rfl⟩⟩
theorem I_J1_init_2 : ma_ini mi_J1_init_2 1 := ⟨ca_J1_init_2, rfl, q642, q643, ⟨by decide +kernel, by decide +kernel⟩, (by decide +kernel : (parseMethodDescriptor mi_J1_init_2.1.desc).map (fun d => d.parameters.length) = some 1)⟩
theorem ca_J1_init_3 : ma_cal mi_J1_init_3 := ⟨by decide +kernel, Or.inl ⟨q685, rfl⟩⟩
theorem I_J1_init_3 : ma_ini mi_J1_init_3 0 := ⟨ca_J1_init_3, rfl, q684, q685, ⟨by decide +kernel, by decide +kernel⟩, (by decide +kernel : (parseMethodDescriptor mi_J1_init_3.1.desc).map (fun d => d.parameters.length) = some 0)⟩
theorem ca_J10_checkIndex : ma_cal mi_J10_checkIndex := ⟨by decide +kernel, Or.inl ⟨q1269, rfl⟩⟩
theorem S_J10_checkIndex : ma_sta mi_J10_checkIndex 3 := ⟨ca_J10_checkIndex, q1268, q148, ⟨by decide +kernel, by decide +kernel⟩, (by decide +kernel : (parseMethodDescriptor mi_J10_checkIndex.1.desc).map (fun d => d.parameters.length) = some 3)⟩
theorem ca_J11_charAt : ma_cal mi_J11_charAt := ⟨by decide +kernel, Or.inl ⟨q1272, rfl⟩⟩
theorem S_J11_charAt : ma_sta mi_J11_charAt 2 := ⟨ca_J11_charAt, q1271, q149, ⟨by decide +kernel, by decide +kernel⟩, (by decide +kernel : (parseMethodDescriptor mi_J11_charAt.1.desc).map (fun d => d.parameters.length) = some 2)⟩
theorem ca_J11_checkIndex : ma_cal mi_J11_checkIndex := ⟨by decide +kernel, Or.inl ⟨q1275, rfl⟩⟩
theorem S_J11_checkIndex : ma_sta mi_J11_checkIndex 2 := ⟨ca_J11_checkIndex, q1274, q149, ⟨by decide +kernel, by decide +kernel⟩, (by decide +kernel : (parseMethodDescriptor mi_J11_checkIndex.1.desc).map (fun d => d.parameters.length) = some 2)⟩
theorem ca_J11_length : ma_cal mi_J11_length := ⟨by decide +kernel, Or.inl ⟨q1278, rfl⟩⟩
theorem S_J11_length : ma_sta mi_J11_length 1 := ⟨ca_J11_length, q1277, q149, ⟨by decide +kernel, by decide +kernel⟩, (by decide +kernel : (parseMethodDescriptor mi_J11_length.1.desc).map (fun d => d.parameters.length) = some 1)⟩
theorem ca_J11_getChar : ma_cal mi_J11_getChar := ⟨by decide +kernel, Or.inl ⟨q1282, rfl⟩⟩
theorem S_J11_getChar : ma_sta mi_J11_getChar 2 := ⟨ca_J11_getChar, q1281, q149, ⟨by decide +kernel, by decide +kernel⟩, (by decide +kernel : (parseMethodDescriptor mi_J11_getChar.1.desc).map (fun d => d.parameters.length) = some 2)⟩
theorem ca_J12_bitCount : ma_cal mi_J12_bitCount := ⟨by decide +kernel, Or.inl ⟨q1589, rfl⟩⟩
theorem S_J12_bitCount : ma_sta mi_J12_bitCount 1 := ⟨ca_J12_bitCount, q1588, q156, ⟨by decide +kernel, by decide +kernel⟩, (by decide +kernel : (parseMethodDescriptor mi_J12_bitCount.1.desc).map (fun d => d.parameters.length) = some 1)⟩
theorem ca_J2_init : ma_cal mi_J2_init := ⟨by decide +kernel, Or.inl ⟨q349, rfl⟩⟩
theorem I_J2_init : ma_ini mi_J2_init 4 := ⟨ca_J2_init, rfl, q348, q349, ⟨by decide +kernel, by decide +kernel⟩, (by decide +kernel : (parseMethodDescriptor mi_J2_init.1.desc).map (fun d => d.parameters.length) = some 4)⟩
theorem ca_J2_init_2 : ma_cal mi_J2_init_2 := ⟨by decide +kernel, Or.inl ⟨q640, rfl⟩⟩
theorem I_J2_init_2 : ma_ini mi_J2_init_2 1 := ⟨ca_J2_init_2, rfl, q639, q640, ⟨by decide +kernel, by decide +kernel⟩, (by decide +kernel : (parseMethodDescriptor mi_J2_init_2.1.desc).map (fun d => d.parameters.length) = some 1)⟩
theorem ca_J2_init_3 : ma_cal mi_J2_init_3 := ⟨by decide +kernel, Or.inl ⟨q682, rfl⟩⟩
theorem I_J2_init_3 : ma_ini mi_J2_init_3 0 := ⟨ca_J2_init_3, rfl, q681, q682, ⟨by decide +kernel, by decide +kernel⟩, (by decide +kernel : (parseMethodDescriptor mi_J2_init_3.1.desc).map (fun d => d.parameters.length) = some 0)⟩
theorem ca_J3_init : ma_cal mi_J3_init := ⟨by decide +kernel, Or.inl ⟨q637, rfl⟩⟩
theorem I_J3_init : ma_ini mi_J3_init 1 := ⟨ca_J3_init, rfl, q636, q637, ⟨by decide +kernel, by decide +kernel⟩, (by decide +kernel : (parseMethodDescriptor mi_J3_init.1.desc).map (fun d => d.parameters.length) = some 1)⟩
theorem ca_J4_length : ma_cal mi_J4_length := ⟨by decide +kernel, Or.inl ⟨q1244, rfl⟩⟩
theorem V_J4_length : ma_vir mi_J4_length "java/lang/String" 0 := ⟨ca_J4_length, q1242, q1243, ⟨by decide +kernel, by decide +kernel⟩, (by decide +kernel : (parseMethodDescriptor mi_J4_length.1.desc).map (fun d => d.parameters.length) = some 0)⟩
theorem ca_J4_coder : ma_cal mi_J4_coder := ⟨by decide +kernel, Or.inl ⟨q1248, rfl⟩⟩
theorem V_J4_coder : ma_vir mi_J4_coder "java/lang/String" 0 := ⟨ca_J4_coder, q1246, q1247, ⟨by decide +kernel, by decide +kernel⟩, (by decide +kernel : (parseMethodDescriptor mi_J4_coder.1.desc).map (fun d => d.parameters.length) = some 0)⟩
theorem ca_J4_charAt : ma_cal mi_J4_charAt := ⟨by decide +kernel, Or.inl ⟨q1254, rfl⟩⟩
theorem V_J4_charAt : ma_vir mi_J4_charAt "java/lang/String" 1 := ⟨ca_J4_charAt, q1252, q1253, ⟨by decide +kernel, by decide +kernel⟩, (by decide +kernel : (parseMethodDescriptor mi_J4_charAt.1.desc).map (fun d => d.parameters.length) = some 1)⟩
theorem ca_J4_isLatin1 : ma_cal mi_J4_isLatin1 := ⟨by decide +kernel, Or.inl ⟨q1258, rfl⟩⟩
theorem V_J4_isLatin1 : ma_vir mi_J4_isLatin1 "java/lang/String" 0 := ⟨ca_J4_isLatin1, q1256, q1257, ⟨by decide +kernel, by decide +kernel⟩, (by decide +kernel : (parseMethodDescriptor mi_J4_isLatin1.1.desc).map (fun d => d.parameters.length) = some 0)⟩
theorem ca_J4_checkIndex : ma_cal mi_J4_checkIndex := ⟨by decide +kernel, Or.inl ⟨q1264, rfl⟩⟩
theorem S_J4_checkIndex : ma_sta mi_J4_checkIndex 2 := ⟨ca_J4_checkIndex, q1263, q132, ⟨by decide +kernel, by decide +kernel⟩, (by decide +kernel : (parseMethodDescriptor mi_J4_checkIndex.1.desc).map (fun d => d.parameters.length) = some 2)⟩
theorem ca_J5_init : ma_cal mi_J5_init := ⟨by decide +kernel, Or.inl ⟨q679, rfl⟩⟩
theorem I_J5_init : ma_ini mi_J5_init 0 := ⟨ca_J5_init, rfl, q678, q679, ⟨by decide +kernel, by decide +kernel⟩, (by decide +kernel : (parseMethodDescriptor mi_J5_init.1.desc).map (fun d => d.parameters.length) = some 0)⟩
theorem ca_J6_init : ma_cal mi_J6_init := ⟨by decide +kernel, Or.inl ⟨q708, rfl⟩⟩
theorem I_J6_init : ma_ini mi_J6_init 1 := ⟨ca_J6_init, rfl, q707, q708, ⟨by decide +kernel, by decide +kernel⟩, (by decide +kernel : (parseMethodDescriptor mi_J6_init.1.desc).map (fun d => d.parameters.length) = some 1)⟩
theorem ca_J7_init : ma_cal mi_J7_init := ⟨by decide +kernel, Or.inl ⟨q705, rfl⟩⟩
theorem I_J7_init : ma_ini mi_J7_init 1 := ⟨ca_J7_init, rfl, q704, q705, ⟨by decide +kernel, by decide +kernel⟩, (by decide +kernel : (parseMethodDescriptor mi_J7_init.1.desc).map (fun d => d.parameters.length) = some 1)⟩
theorem ca_J8_max : ma_cal mi_J8_max := ⟨by decide +kernel, Or.inl ⟨q1055, rfl⟩⟩
theorem S_J8_max : ma_sta mi_J8_max 2 := ⟨ca_J8_max, q1054, q145, ⟨by decide +kernel, by decide +kernel⟩, (by decide +kernel : (parseMethodDescriptor mi_J8_max.1.desc).map (fun d => d.parameters.length) = some 2)⟩
theorem ca_J8_min : ma_cal mi_J8_min := ⟨by decide +kernel, Or.inl ⟨q1058, rfl⟩⟩
theorem S_J8_min : ma_sta mi_J8_min 2 := ⟨ca_J8_min, q1057, q145, ⟨by decide +kernel, by decide +kernel⟩, (by decide +kernel : (parseMethodDescriptor mi_J8_min.1.desc).map (fun d => d.parameters.length) = some 2)⟩
theorem ca_J8_min_2 : ma_cal mi_J8_min_2 := ⟨by decide +kernel, Or.inl ⟨q1101, rfl⟩⟩
theorem S_J8_min_2 : ma_sta mi_J8_min_2 2 := ⟨ca_J8_min_2, q1100, q145, ⟨by decide +kernel, by decide +kernel⟩, (by decide +kernel : (parseMethodDescriptor mi_J8_min_2.1.desc).map (fun d => d.parameters.length) = some 2)⟩
theorem ca_J8_max_2 : ma_cal mi_J8_max_2 := ⟨by decide +kernel, Or.inl ⟨q1142, rfl⟩⟩
theorem S_J8_max_2 : ma_sta mi_J8_max_2 2 := ⟨ca_J8_max_2, q1141, q145, ⟨by decide +kernel, by decide +kernel⟩, (by decide +kernel : (parseMethodDescriptor mi_J8_max_2.1.desc).map (fun d => d.parameters.length) = some 2)⟩
theorem ca_J9_charAt : ma_cal mi_J9_charAt := ⟨by decide +kernel, Or.inl ⟨q1261, rfl⟩⟩
theorem S_J9_charAt : ma_sta mi_J9_charAt 2 := ⟨ca_J9_charAt, q1260, q147, ⟨by decide +kernel, by decide +kernel⟩, (by decide +kernel : (parseMethodDescriptor mi_J9_charAt.1.desc).map (fun d => d.parameters.length) = some 2)⟩
theorem ca_X0_init : ma_cal mi_X0_init := ⟨by decide +kernel, Or.inl ⟨q161, rfl⟩⟩
theorem I_X0_init : ma_ini mi_X0_init 0 := ⟨ca_X0_init, rfl, q160, q161, ⟨by decide +kernel, by decide +kernel⟩, (by decide +kernel : (parseMethodDescriptor mi_X0_init.1.desc).map (fun d => d.parameters.length) = some 0)⟩
theorem ca_X0_status : ma_cal mi_X0_status := ⟨by decide +kernel, Or.inl ⟨q629, rfl⟩⟩
theorem V_X0_status : ma_vir mi_X0_status "PrairiePool" 0 := ⟨ca_X0_status, q627, q628, ⟨by decide +kernel, by decide +kernel⟩, (by decide +kernel : (parseMethodDescriptor mi_X0_status.1.desc).map (fun d => d.parameters.length) = some 0)⟩
theorem ca_X0_tray : ma_cal mi_X0_tray := ⟨by decide +kernel, Or.inr q633⟩
theorem V_X0_tray : ma_vir mi_X0_tray "PrairiePool" 3 := ⟨ca_X0_tray, q631, q632, ⟨by decide +kernel, by decide +kernel⟩, (by decide +kernel : (parseMethodDescriptor mi_X0_tray.1.desc).map (fun d => d.parameters.length) = some 3)⟩
theorem ca_X0_isTray : ma_cal mi_X0_isTray := ⟨by decide +kernel, Or.inl ⟨q663, rfl⟩⟩
theorem S_X0_isTray : ma_sta mi_X0_isTray 1 := ⟨ca_X0_isTray, q662, q119, ⟨by decide +kernel, by decide +kernel⟩, (by decide +kernel : (parseMethodDescriptor mi_X0_isTray.1.desc).map (fun d => d.parameters.length) = some 1)⟩
theorem ca_X0_is : ma_cal mi_X0_is := ⟨by decide +kernel, Or.inl ⟨q667, rfl⟩⟩
theorem V_X0_is : ma_vir mi_X0_is "PrairiePool" 1 := ⟨ca_X0_is, q666, qs2, ⟨by decide +kernel, by decide +kernel⟩, (by decide +kernel : (parseMethodDescriptor mi_X0_is.1.desc).map (fun d => d.parameters.length) = some 1)⟩
theorem ca_X0_write : ma_cal mi_X0_write := ⟨by decide +kernel, Or.inr q676⟩
theorem V_X0_write : ma_vir mi_X0_write "PrairiePool" 3 := ⟨ca_X0_write, q674, q675, ⟨by decide +kernel, by decide +kernel⟩, (by decide +kernel : (parseMethodDescriptor mi_X0_write.1.desc).map (fun d => d.parameters.length) = some 3)⟩
theorem ca_X0_read : ma_cal mi_X0_read := ⟨by decide +kernel, Or.inr q732⟩
theorem V_X0_read : ma_vir mi_X0_read "PrairiePool" 2 := ⟨ca_X0_read, q730, q731, ⟨by decide +kernel, by decide +kernel⟩, (by decide +kernel : (parseMethodDescriptor mi_X0_read.1.desc).map (fun d => d.parameters.length) = some 2)⟩
theorem ca_X0_none : ma_cal mi_X0_none := ⟨by decide +kernel, Or.inl ⟨q736, rfl⟩⟩
theorem V_X0_none : ma_vir mi_X0_none "PrairiePool" 1 := ⟨ca_X0_none, q735, qs3, ⟨by decide +kernel, by decide +kernel⟩, (by decide +kernel : (parseMethodDescriptor mi_X0_none.1.desc).map (fun d => d.parameters.length) = some 1)⟩
theorem ca_X0_pour : ma_cal mi_X0_pour := ⟨by decide +kernel, Or.inr q745⟩
theorem V_X0_pour : ma_vir mi_X0_pour "PrairiePool" 5 := ⟨ca_X0_pour, q743, q744, ⟨by decide +kernel, by decide +kernel⟩, (by decide +kernel : (parseMethodDescriptor mi_X0_pour.1.desc).map (fun d => d.parameters.length) = some 5)⟩
theorem ca_X0_farm : ma_cal mi_X0_farm := ⟨by decide +kernel, Or.inl ⟨q753, rfl⟩⟩
theorem V_X0_farm : ma_vir mi_X0_farm "PrairiePool" 3 := ⟨ca_X0_farm, q751, q752, ⟨by decide +kernel, by decide +kernel⟩, (by decide +kernel : (parseMethodDescriptor mi_X0_farm.1.desc).map (fun d => d.parameters.length) = some 3)⟩
theorem ca_X0_isDistrict : ma_cal mi_X0_isDistrict := ⟨by decide +kernel, Or.inl ⟨q756, rfl⟩⟩
theorem S_X0_isDistrict : ma_sta mi_X0_isDistrict 1 := ⟨ca_X0_isDistrict, q755, q119, ⟨by decide +kernel, by decide +kernel⟩, (by decide +kernel : (parseMethodDescriptor mi_X0_isDistrict.1.desc).map (fun d => d.parameters.length) = some 1)⟩
theorem ca_X0_isFrom : ma_cal mi_X0_isFrom := ⟨by decide +kernel, Or.inl ⟨q760, rfl⟩⟩
theorem S_X0_isFrom : ma_sta mi_X0_isFrom 3 := ⟨ca_X0_isFrom, q759, q119, ⟨by decide +kernel, by decide +kernel⟩, (by decide +kernel : (parseMethodDescriptor mi_X0_isFrom.1.desc).map (fun d => d.parameters.length) = some 3)⟩
theorem ca_X0_gives : ma_cal mi_X0_gives := ⟨by decide +kernel, Or.inl ⟨q804, rfl⟩⟩
theorem V_X0_gives : ma_vir mi_X0_gives "PrairiePool" 1 := ⟨ca_X0_gives, q803, qs4, ⟨by decide +kernel, by decide +kernel⟩, (by decide +kernel : (parseMethodDescriptor mi_X0_gives.1.desc).map (fun d => d.parameters.length) = some 1)⟩
theorem ca_X0_elevator : ma_cal mi_X0_elevator := ⟨by decide +kernel, Or.inl ⟨q808, rfl⟩⟩
theorem V_X0_elevator : ma_vir mi_X0_elevator "PrairiePool" 2 := ⟨ca_X0_elevator, q806, q807, ⟨by decide +kernel, by decide +kernel⟩, (by decide +kernel : (parseMethodDescriptor mi_X0_elevator.1.desc).map (fun d => d.parameters.length) = some 2)⟩
theorem ca_X0_load : ma_cal mi_X0_load := ⟨by decide +kernel, Or.inl ⟨q826, rfl⟩⟩
theorem V_X0_load : ma_vir mi_X0_load "PrairiePool" 6 := ⟨ca_X0_load, q824, q825, ⟨by decide +kernel, by decide +kernel⟩, (by decide +kernel : (parseMethodDescriptor mi_X0_load.1.desc).map (fun d => d.parameters.length) = some 6)⟩
theorem ca_X0_isFarm : ma_cal mi_X0_isFarm := ⟨by decide +kernel, Or.inl ⟨q830, rfl⟩⟩
theorem V_X0_isFarm : ma_vir mi_X0_isFarm "PrairiePool" 1 := ⟨ca_X0_isFarm, q829, qs5, ⟨by decide +kernel, by decide +kernel⟩, (by decide +kernel : (parseMethodDescriptor mi_X0_isFarm.1.desc).map (fun d => d.parameters.length) = some 1)⟩
theorem ca_X0_isElevator : ma_cal mi_X0_isElevator := ⟨by decide +kernel, Or.inl ⟨q834, rfl⟩⟩
theorem V_X0_isElevator : ma_vir mi_X0_isElevator "PrairiePool" 1 := ⟨ca_X0_isElevator, q833, qs6, ⟨by decide +kernel, by decide +kernel⟩, (by decide +kernel : (parseMethodDescriptor mi_X0_isElevator.1.desc).map (fun d => d.parameters.length) = some 1)⟩
theorem ca_X0_wrongEvent : ma_cal mi_X0_wrongEvent := ⟨by decide +kernel, Or.inl ⟨q840, rfl⟩⟩
theorem V_X0_wrongEvent : ma_vir mi_X0_wrongEvent "PrairiePool" 3 := ⟨ca_X0_wrongEvent, q839, qs7, ⟨by decide +kernel, by decide +kernel⟩, (by decide +kernel : (parseMethodDescriptor mi_X0_wrongEvent.1.desc).map (fun d => d.parameters.length) = some 3)⟩
theorem ca_X0_isWeek : ma_cal mi_X0_isWeek := ⟨by decide +kernel, Or.inl ⟨q843, rfl⟩⟩
theorem S_X0_isWeek : ma_sta mi_X0_isWeek 1 := ⟨ca_X0_isWeek, q842, q119, ⟨by decide +kernel, by decide +kernel⟩, (by decide +kernel : (parseMethodDescriptor mi_X0_isWeek.1.desc).map (fun d => d.parameters.length) = some 1)⟩
theorem ca_X0_adds : ma_cal mi_X0_adds := ⟨by decide +kernel, Or.inl ⟨q885, rfl⟩⟩
theorem V_X0_adds : ma_vir mi_X0_adds "PrairiePool" 1 := ⟨ca_X0_adds, q884, qs8, ⟨by decide +kernel, by decide +kernel⟩, (by decide +kernel : (parseMethodDescriptor mi_X0_adds.1.desc).map (fun d => d.parameters.length) = some 1)⟩
theorem ca_X0_car : ma_cal mi_X0_car := ⟨by decide +kernel, Or.inl ⟨q889, rfl⟩⟩
theorem V_X0_car : ma_vir mi_X0_car "PrairiePool" 7 := ⟨ca_X0_car, q887, q888, ⟨by decide +kernel, by decide +kernel⟩, (by decide +kernel : (parseMethodDescriptor mi_X0_car.1.desc).map (fun d => d.parameters.length) = some 7)⟩
theorem ca_X0_isPort : ma_cal mi_X0_isPort := ⟨by decide +kernel, Or.inl ⟨q892, rfl⟩⟩
theorem S_X0_isPort : ma_sta mi_X0_isPort 1 := ⟨ca_X0_isPort, q891, q119, ⟨by decide +kernel, by decide +kernel⟩, (by decide +kernel : (parseMethodDescriptor mi_X0_isPort.1.desc).map (fun d => d.parameters.length) = some 1)⟩
theorem ca_X0_isGrade : ma_cal mi_X0_isGrade := ⟨by decide +kernel, Or.inl ⟨q895, rfl⟩⟩
theorem S_X0_isGrade : ma_sta mi_X0_isGrade 1 := ⟨ca_X0_isGrade, q894, q119, ⟨by decide +kernel, by decide +kernel⟩, (by decide +kernel : (parseMethodDescriptor mi_X0_isGrade.1.desc).map (fun d => d.parameters.length) = some 1)⟩
theorem ca_X0_isYear : ma_cal mi_X0_isYear := ⟨by decide +kernel, Or.inl ⟨q898, rfl⟩⟩
theorem S_X0_isYear : ma_sta mi_X0_isYear 1 := ⟨ca_X0_isYear, q897, q119, ⟨by decide +kernel, by decide +kernel⟩, (by decide +kernel : (parseMethodDescriptor mi_X0_isYear.1.desc).map (fun d => d.parameters.length) = some 1)⟩
theorem ca_X0_sale : ma_cal mi_X0_sale := ⟨by decide +kernel, Or.inl ⟨q946, rfl⟩⟩
theorem V_X0_sale : ma_vir mi_X0_sale "PrairiePool" 7 := ⟨ca_X0_sale, q944, q945, ⟨by decide +kernel, by decide +kernel⟩, (by decide +kernel : (parseMethodDescriptor mi_X0_sale.1.desc).map (fun d => d.parameters.length) = some 7)⟩
theorem ca_X0_spoil : ma_cal mi_X0_spoil := ⟨by decide +kernel, Or.inl ⟨q966, rfl⟩⟩
theorem V_X0_spoil : ma_vir mi_X0_spoil "PrairiePool" 6 := ⟨ca_X0_spoil, q964, q965, ⟨by decide +kernel, by decide +kernel⟩, (by decide +kernel : (parseMethodDescriptor mi_X0_spoil.1.desc).map (fun d => d.parameters.length) = some 6)⟩
theorem ca_X0_grading : ma_cal mi_X0_grading := ⟨by decide +kernel, Or.inl ⟨q980, rfl⟩⟩
theorem V_X0_grading : ma_vir mi_X0_grading "PrairiePool" 4 := ⟨ca_X0_grading, q978, q979, ⟨by decide +kernel, by decide +kernel⟩, (by decide +kernel : (parseMethodDescriptor mi_X0_grading.1.desc).map (fun d => d.parameters.length) = some 4)⟩
theorem ca_X0_isLoad : ma_cal mi_X0_isLoad := ⟨by decide +kernel, Or.inl ⟨q984, rfl⟩⟩
theorem V_X0_isLoad : ma_vir mi_X0_isLoad "PrairiePool" 1 := ⟨ca_X0_isLoad, q983, qs9, ⟨by decide +kernel, by decide +kernel⟩, (by decide +kernel : (parseMethodDescriptor mi_X0_isLoad.1.desc).map (fun d => d.parameters.length) = some 1)⟩
theorem ca_X0_grade : ma_cal mi_X0_grade := ⟨by decide +kernel, Or.inl ⟨q988, rfl⟩⟩
theorem V_X0_grade : ma_vir mi_X0_grade "PrairiePool" 2 := ⟨ca_X0_grade, q986, q987, ⟨by decide +kernel, by decide +kernel⟩, (by decide +kernel : (parseMethodDescriptor mi_X0_grade.1.desc).map (fun d => d.parameters.length) = some 2)⟩
theorem ca_X0_gradeOf : ma_cal mi_X0_gradeOf := ⟨by decide +kernel, Or.inl ⟨q992, rfl⟩⟩
theorem V_X0_gradeOf : ma_vir mi_X0_gradeOf "PrairiePool" 2 := ⟨ca_X0_gradeOf, q991, qs10, ⟨by decide +kernel, by decide +kernel⟩, (by decide +kernel : (parseMethodDescriptor mi_X0_gradeOf.1.desc).map (fun d => d.parameters.length) = some 2)⟩
theorem ca_X0_lawOf : ma_cal mi_X0_lawOf := ⟨by decide +kernel, Or.inl ⟨q997, rfl⟩⟩
theorem V_X0_lawOf : ma_vir mi_X0_lawOf "PrairiePool" 1 := ⟨ca_X0_lawOf, q996, qs11, ⟨by decide +kernel, by decide +kernel⟩, (by decide +kernel : (parseMethodDescriptor mi_X0_lawOf.1.desc).map (fun d => d.parameters.length) = some 1)⟩
theorem ca_X0_clear : ma_cal mi_X0_clear := ⟨by decide +kernel, Or.inl ⟨q1001, rfl⟩⟩
theorem V_X0_clear : ma_vir mi_X0_clear "PrairiePool" 0 := ⟨ca_X0_clear, q1000, qs12, ⟨by decide +kernel, by decide +kernel⟩, (by decide +kernel : (parseMethodDescriptor mi_X0_clear.1.desc).map (fun d => d.parameters.length) = some 0)⟩
theorem ca_X0_asks : ma_cal mi_X0_asks := ⟨by decide +kernel, Or.inl ⟨q1018, rfl⟩⟩
theorem V_X0_asks : ma_vir mi_X0_asks "PrairiePool" 4 := ⟨ca_X0_asks, q1017, qs13, ⟨by decide +kernel, by decide +kernel⟩, (by decide +kernel : (parseMethodDescriptor mi_X0_asks.1.desc).map (fun d => d.parameters.length) = some 4)⟩
theorem ca_X0_bin : ma_cal mi_X0_bin := ⟨by decide +kernel, Or.inl ⟨q1068, rfl⟩⟩
theorem V_X0_bin : ma_vir mi_X0_bin "PrairiePool" 5 := ⟨ca_X0_bin, q1066, q1067, ⟨by decide +kernel, by decide +kernel⟩, (by decide +kernel : (parseMethodDescriptor mi_X0_bin.1.desc).map (fun d => d.parameters.length) = some 5)⟩
theorem ca_X0_plays : ma_cal mi_X0_plays := ⟨by decide +kernel, Or.inl ⟨q1072, rfl⟩⟩
theorem V_X0_plays : ma_vir mi_X0_plays "PrairiePool" 1 := ⟨ca_X0_plays, q1071, qs15, ⟨by decide +kernel, by decide +kernel⟩, (by decide +kernel : (parseMethodDescriptor mi_X0_plays.1.desc).map (fun d => d.parameters.length) = some 1)⟩
theorem ca_X0_told : ma_cal mi_X0_told := ⟨by decide +kernel, Or.inl ⟨q1156, rfl⟩⟩
theorem V_X0_told : ma_vir mi_X0_told "PrairiePool" 2 := ⟨ca_X0_told, q1155, qs16, ⟨by decide +kernel, by decide +kernel⟩, (by decide +kernel : (parseMethodDescriptor mi_X0_told.1.desc).map (fun d => d.parameters.length) = some 2)⟩
theorem ca_X0_port : ma_cal mi_X0_port := ⟨by decide +kernel, Or.inl ⟨q1160, rfl⟩⟩
theorem V_X0_port : ma_vir mi_X0_port "PrairiePool" 5 := ⟨ca_X0_port, q1158, q1159, ⟨by decide +kernel, by decide +kernel⟩, (by decide +kernel : (parseMethodDescriptor mi_X0_port.1.desc).map (fun d => d.parameters.length) = some 5)⟩
theorem ca_X0_sum : ma_cal mi_X0_sum := ⟨by decide +kernel, Or.inl ⟨q1164, rfl⟩⟩
theorem V_X0_sum : ma_vir mi_X0_sum "PrairiePool" 3 := ⟨ca_X0_sum, q1162, q1163, ⟨by decide +kernel, by decide +kernel⟩, (by decide +kernel : (parseMethodDescriptor mi_X0_sum.1.desc).map (fun d => d.parameters.length) = some 3)⟩
theorem ca_X0_feed : ma_cal mi_X0_feed := ⟨by decide +kernel, Or.inl ⟨q1168, rfl⟩⟩
theorem V_X0_feed : ma_vir mi_X0_feed "PrairiePool" 5 := ⟨ca_X0_feed, q1166, q1167, ⟨by decide +kernel, by decide +kernel⟩, (by decide +kernel : (parseMethodDescriptor mi_X0_feed.1.desc).map (fun d => d.parameters.length) = some 5)⟩
theorem ca_X0_four : ma_cal mi_X0_four := ⟨by decide +kernel, Or.inl ⟨q1172, rfl⟩⟩
theorem V_X0_four : ma_vir mi_X0_four "PrairiePool" 1 := ⟨ca_X0_four, q1171, qs17, ⟨by decide +kernel, by decide +kernel⟩, (by decide +kernel : (parseMethodDescriptor mi_X0_four.1.desc).map (fun d => d.parameters.length) = some 1)⟩
theorem ca_X0_acts : ma_cal mi_X0_acts := ⟨by decide +kernel, Or.inr q1176⟩
theorem V_X0_acts : ma_vir mi_X0_acts "PrairiePool" 2 := ⟨ca_X0_acts, q1174, q1175, ⟨by decide +kernel, by decide +kernel⟩, (by decide +kernel : (parseMethodDescriptor mi_X0_acts.1.desc).map (fun d => d.parameters.length) = some 2)⟩
theorem ca_X0_fault : ma_cal mi_X0_fault := ⟨by decide +kernel, Or.inl ⟨q1461, rfl⟩⟩
theorem V_X0_fault : ma_vir mi_X0_fault "PrairiePool" 1 := ⟨ca_X0_fault, q1459, q1460, ⟨by decide +kernel, by decide +kernel⟩, (by decide +kernel : (parseMethodDescriptor mi_X0_fault.1.desc).map (fun d => d.parameters.length) = some 1)⟩
theorem ca_X0_paid : ma_cal mi_X0_paid := ⟨by decide +kernel, Or.inl ⟨q1465, rfl⟩⟩
theorem V_X0_paid : ma_vir mi_X0_paid "PrairiePool" 4 := ⟨ca_X0_paid, q1463, q1464, ⟨by decide +kernel, by decide +kernel⟩, (by decide +kernel : (parseMethodDescriptor mi_X0_paid.1.desc).map (fun d => d.parameters.length) = some 4)⟩
theorem ca_X0_heldOf : ma_cal mi_X0_heldOf := ⟨by decide +kernel, Or.inl ⟨q1469, rfl⟩⟩
theorem V_X0_heldOf : ma_vir mi_X0_heldOf "PrairiePool" 2 := ⟨ca_X0_heldOf, q1468, qs36, ⟨by decide +kernel, by decide +kernel⟩, (by decide +kernel : (parseMethodDescriptor mi_X0_heldOf.1.desc).map (fun d => d.parameters.length) = some 2)⟩
theorem ca_X0_givesLong : ma_cal mi_X0_givesLong := ⟨by decide +kernel, Or.inl ⟨q1474, rfl⟩⟩
theorem V_X0_givesLong : ma_vir mi_X0_givesLong "PrairiePool" 1 := ⟨ca_X0_givesLong, q1473, qs37, ⟨by decide +kernel, by decide +kernel⟩, (by decide +kernel : (parseMethodDescriptor mi_X0_givesLong.1.desc).map (fun d => d.parameters.length) = some 1)⟩
theorem ca_X0_last : ma_cal mi_X0_last := ⟨by decide +kernel, Or.inl ⟨q1478, rfl⟩⟩
theorem V_X0_last : ma_vir mi_X0_last "PrairiePool" 3 := ⟨ca_X0_last, q1476, q1477, ⟨by decide +kernel, by decide +kernel⟩, (by decide +kernel : (parseMethodDescriptor mi_X0_last.1.desc).map (fun d => d.parameters.length) = some 3)⟩
theorem ca_X0_wrongYear : ma_cal mi_X0_wrongYear := ⟨by decide +kernel, Or.inl ⟨q1482, rfl⟩⟩
theorem V_X0_wrongYear : ma_vir mi_X0_wrongYear "PrairiePool" 3 := ⟨ca_X0_wrongYear, q1481, qs38, ⟨by decide +kernel, by decide +kernel⟩, (by decide +kernel : (parseMethodDescriptor mi_X0_wrongYear.1.desc).map (fun d => d.parameters.length) = some 3)⟩
theorem ca_X0_settle : ma_cal mi_X0_settle := ⟨by decide +kernel, Or.inl ⟨q1486, rfl⟩⟩
theorem V_X0_settle : ma_vir mi_X0_settle "PrairiePool" 2 := ⟨ca_X0_settle, q1485, qs39, ⟨by decide +kernel, by decide +kernel⟩, (by decide +kernel : (parseMethodDescriptor mi_X0_settle.1.desc).map (fun d => d.parameters.length) = some 2)⟩
theorem ca_X0_firstOf : ma_cal mi_X0_firstOf := ⟨by decide +kernel, Or.inl ⟨q1490, rfl⟩⟩
theorem V_X0_firstOf : ma_vir mi_X0_firstOf "PrairiePool" 2 := ⟨ca_X0_firstOf, q1489, qs40, ⟨by decide +kernel, by decide +kernel⟩, (by decide +kernel : (parseMethodDescriptor mi_X0_firstOf.1.desc).map (fun d => d.parameters.length) = some 2)⟩
theorem ca_X0_first : ma_cal mi_X0_first := ⟨by decide +kernel, Or.inl ⟨q1498, rfl⟩⟩
theorem V_X0_first : ma_vir mi_X0_first "PrairiePool" 3 := ⟨ca_X0_first, q1496, q1497, ⟨by decide +kernel, by decide +kernel⟩, (by decide +kernel : (parseMethodDescriptor mi_X0_first.1.desc).map (fun d => d.parameters.length) = some 3)⟩
theorem ca_X0_below : ma_cal mi_X0_below := ⟨by decide +kernel, Or.inl ⟨q1502, rfl⟩⟩
theorem V_X0_below : ma_vir mi_X0_below "PrairiePool" 3 := ⟨ca_X0_below, q1500, q1501, ⟨by decide +kernel, by decide +kernel⟩, (by decide +kernel : (parseMethodDescriptor mi_X0_below.1.desc).map (fun d => d.parameters.length) = some 3)⟩
theorem ca_X0_owed : ma_cal mi_X0_owed := ⟨by decide +kernel, Or.inl ⟨q1506, rfl⟩⟩
theorem V_X0_owed : ma_vir mi_X0_owed "PrairiePool" 3 := ⟨ca_X0_owed, q1504, q1505, ⟨by decide +kernel, by decide +kernel⟩, (by decide +kernel : (parseMethodDescriptor mi_X0_owed.1.desc).map (fun d => d.parameters.length) = some 3)⟩
theorem ca_X0_turns : ma_cal mi_X0_turns := ⟨by decide +kernel, Or.inl ⟨q1510, rfl⟩⟩
theorem V_X0_turns : ma_vir mi_X0_turns "PrairiePool" 3 := ⟨ca_X0_turns, q1508, q1509, ⟨by decide +kernel, by decide +kernel⟩, (by decide +kernel : (parseMethodDescriptor mi_X0_turns.1.desc).map (fun d => d.parameters.length) = some 3)⟩
theorem ca_X0_sign : ma_cal mi_X0_sign := ⟨by decide +kernel, Or.inl ⟨q1516, rfl⟩⟩
theorem V_X0_sign : ma_vir mi_X0_sign "PrairiePool" 3 := ⟨ca_X0_sign, q1514, q1515, ⟨by decide +kernel, by decide +kernel⟩, (by decide +kernel : (parseMethodDescriptor mi_X0_sign.1.desc).map (fun d => d.parameters.length) = some 3)⟩
theorem ca_X0_let : ma_cal mi_X0_let := ⟨by decide +kernel, Or.inl ⟨q1520, rfl⟩⟩
theorem V_X0_let : ma_vir mi_X0_let "PrairiePool" 3 := ⟨ca_X0_let, q1518, q1519, ⟨by decide +kernel, by decide +kernel⟩, (by decide +kernel : (parseMethodDescriptor mi_X0_let.1.desc).map (fun d => d.parameters.length) = some 3)⟩
theorem ca_X0_outside : ma_cal mi_X0_outside := ⟨by decide +kernel, Or.inl ⟨q1524, rfl⟩⟩
theorem V_X0_outside : ma_vir mi_X0_outside "PrairiePool" 4 := ⟨ca_X0_outside, q1522, q1523, ⟨by decide +kernel, by decide +kernel⟩, (by decide +kernel : (parseMethodDescriptor mi_X0_outside.1.desc).map (fun d => d.parameters.length) = some 4)⟩
theorem ca_X0_breach : ma_cal mi_X0_breach := ⟨by decide +kernel, Or.inl ⟨q1528, rfl⟩⟩
theorem V_X0_breach : ma_vir mi_X0_breach "PrairiePool" 1 := ⟨ca_X0_breach, q1526, q1527, ⟨by decide +kernel, by decide +kernel⟩, (by decide +kernel : (parseMethodDescriptor mi_X0_breach.1.desc).map (fun d => d.parameters.length) = some 1)⟩
theorem ca_X0_breachOf : ma_cal mi_X0_breachOf := ⟨by decide +kernel, Or.inl ⟨q1532, rfl⟩⟩
theorem V_X0_breachOf : ma_vir mi_X0_breachOf "PrairiePool" 1 := ⟨ca_X0_breachOf, q1531, qs41, ⟨by decide +kernel, by decide +kernel⟩, (by decide +kernel : (parseMethodDescriptor mi_X0_breachOf.1.desc).map (fun d => d.parameters.length) = some 1)⟩
theorem ca_X0_cost : ma_cal mi_X0_cost := ⟨by decide +kernel, Or.inl ⟨q1541, rfl⟩⟩
theorem V_X0_cost : ma_vir mi_X0_cost "PrairiePool" 2 := ⟨ca_X0_cost, q1539, q1540, ⟨by decide +kernel, by decide +kernel⟩, (by decide +kernel : (parseMethodDescriptor mi_X0_cost.1.desc).map (fun d => d.parameters.length) = some 2)⟩
theorem ca_X0_price : ma_cal mi_X0_price := ⟨by decide +kernel, Or.inl ⟨q1545, rfl⟩⟩
theorem V_X0_price : ma_vir mi_X0_price "PrairiePool" 2 := ⟨ca_X0_price, q1543, q1544, ⟨by decide +kernel, by decide +kernel⟩, (by decide +kernel : (parseMethodDescriptor mi_X0_price.1.desc).map (fun d => d.parameters.length) = some 2)⟩
theorem ca_X0_rules : ma_cal mi_X0_rules := ⟨by decide +kernel, Or.inl ⟨q1549, rfl⟩⟩
theorem V_X0_rules : ma_vir mi_X0_rules "PrairiePool" 2 := ⟨ca_X0_rules, q1547, q1548, ⟨by decide +kernel, by decide +kernel⟩, (by decide +kernel : (parseMethodDescriptor mi_X0_rules.1.desc).map (fun d => d.parameters.length) = some 2)⟩
theorem ca_X0_alone : ma_cal mi_X0_alone := ⟨by decide +kernel, Or.inl ⟨q1553, rfl⟩⟩
theorem V_X0_alone : ma_vir mi_X0_alone "PrairiePool" 3 := ⟨ca_X0_alone, q1551, q1552, ⟨by decide +kernel, by decide +kernel⟩, (by decide +kernel : (parseMethodDescriptor mi_X0_alone.1.desc).map (fun d => d.parameters.length) = some 3)⟩
theorem ca_X0_playsLoads : ma_cal mi_X0_playsLoads := ⟨by decide +kernel, Or.inl ⟨q1557, rfl⟩⟩
theorem V_X0_playsLoads : ma_vir mi_X0_playsLoads "PrairiePool" 1 := ⟨ca_X0_playsLoads, q1556, qs42, ⟨by decide +kernel, by decide +kernel⟩, (by decide +kernel : (parseMethodDescriptor mi_X0_playsLoads.1.desc).map (fun d => d.parameters.length) = some 1)⟩
theorem ca_X0_aloneOf : ma_cal mi_X0_aloneOf := ⟨by decide +kernel, Or.inl ⟨q1561, rfl⟩⟩
theorem V_X0_aloneOf : ma_vir mi_X0_aloneOf "PrairiePool" 3 := ⟨ca_X0_aloneOf, q1560, qs43, ⟨by decide +kernel, by decide +kernel⟩, (by decide +kernel : (parseMethodDescriptor mi_X0_aloneOf.1.desc).map (fun d => d.parameters.length) = some 3)⟩
theorem ca_X0_more : ma_cal mi_X0_more := ⟨by decide +kernel, Or.inl ⟨q1565, rfl⟩⟩
theorem V_X0_more : ma_vir mi_X0_more "PrairiePool" 2 := ⟨ca_X0_more, q1563, q1564, ⟨by decide +kernel, by decide +kernel⟩, (by decide +kernel : (parseMethodDescriptor mi_X0_more.1.desc).map (fun d => d.parameters.length) = some 2)⟩
theorem ca_X0_vote : ma_cal mi_X0_vote := ⟨by decide +kernel, Or.inl ⟨q1569, rfl⟩⟩
theorem V_X0_vote : ma_vir mi_X0_vote "PrairiePool" 2 := ⟨ca_X0_vote, q1567, q1568, ⟨by decide +kernel, by decide +kernel⟩, (by decide +kernel : (parseMethodDescriptor mi_X0_vote.1.desc).map (fun d => d.parameters.length) = some 2)⟩
theorem ca_X0_result : ma_cal mi_X0_result := ⟨by decide +kernel, Or.inl ⟨q1573, rfl⟩⟩
theorem V_X0_result : ma_vir mi_X0_result "PrairiePool" 2 := ⟨ca_X0_result, q1571, q1572, ⟨by decide +kernel, by decide +kernel⟩, (by decide +kernel : (parseMethodDescriptor mi_X0_result.1.desc).map (fun d => d.parameters.length) = some 2)⟩
theorem ca_X0_weigh : ma_cal mi_X0_weigh := ⟨by decide +kernel, Or.inl ⟨q1577, rfl⟩⟩
theorem V_X0_weigh : ma_vir mi_X0_weigh "PrairiePool" 1 := ⟨ca_X0_weigh, q1576, qs44, ⟨by decide +kernel, by decide +kernel⟩, (by decide +kernel : (parseMethodDescriptor mi_X0_weigh.1.desc).map (fun d => d.parameters.length) = some 1)⟩
theorem ca_X0_wholeFor : ma_cal mi_X0_wholeFor := ⟨by decide +kernel, Or.inl ⟨q1582, rfl⟩⟩
theorem V_X0_wholeFor : ma_vir mi_X0_wholeFor "PrairiePool" 2 := ⟨ca_X0_wholeFor, q1581, qs45, ⟨by decide +kernel, by decide +kernel⟩, (by decide +kernel : (parseMethodDescriptor mi_X0_wholeFor.1.desc).map (fun d => d.parameters.length) = some 2)⟩
theorem ca_X0_hangs : ma_cal mi_X0_hangs := ⟨by decide +kernel, Or.inl ⟨q1586, rfl⟩⟩
theorem V_X0_hangs : ma_vir mi_X0_hangs "PrairiePool" 1 := ⟨ca_X0_hangs, q1584, q1585, ⟨by decide +kernel, by decide +kernel⟩, (by decide +kernel : (parseMethodDescriptor mi_X0_hangs.1.desc).map (fun d => d.parameters.length) = some 1)⟩
theorem ca_X0_warm : ma_cal mi_X0_warm := ⟨by decide +kernel, Or.inl ⟨q1596, rfl⟩⟩
theorem V_X0_warm : ma_vir mi_X0_warm "PrairiePool" 3 := ⟨ca_X0_warm, q1594, q1595, ⟨by decide +kernel, by decide +kernel⟩, (by decide +kernel : (parseMethodDescriptor mi_X0_warm.1.desc).map (fun d => d.parameters.length) = some 3)⟩
theorem ca_X0_areFrom : ma_cal mi_X0_areFrom := ⟨by decide +kernel, Or.inl ⟨q1605, rfl⟩⟩
theorem V_X0_areFrom : ma_vir mi_X0_areFrom "PrairiePool" 4 := ⟨ca_X0_areFrom, q1604, qs46, ⟨by decide +kernel, by decide +kernel⟩, (by decide +kernel : (parseMethodDescriptor mi_X0_areFrom.1.desc).map (fun d => d.parameters.length) = some 4)⟩
theorem ca_X0_turned : ma_cal mi_X0_turned := ⟨by decide +kernel, Or.inl ⟨q1609, rfl⟩⟩
theorem V_X0_turned : ma_vir mi_X0_turned "PrairiePool" 1 := ⟨ca_X0_turned, q1607, q1608, ⟨by decide +kernel, by decide +kernel⟩, (by decide +kernel : (parseMethodDescriptor mi_X0_turned.1.desc).map (fun d => d.parameters.length) = some 1)⟩
theorem ca_X0_send : ma_cal mi_X0_send := ⟨by decide +kernel, Or.inl ⟨q1613, rfl⟩⟩
theorem V_X0_send : ma_vir mi_X0_send "PrairiePool" 5 := ⟨ca_X0_send, q1611, q1612, ⟨by decide +kernel, by decide +kernel⟩, (by decide +kernel : (parseMethodDescriptor mi_X0_send.1.desc).map (fun d => d.parameters.length) = some 5)⟩
theorem ca_X0_find : ma_cal mi_X0_find := ⟨by decide +kernel, Or.inl ⟨q1619, rfl⟩⟩
theorem V_X0_find : ma_vir mi_X0_find "PrairiePool" 2 := ⟨ca_X0_find, q1618, qs47, ⟨by decide +kernel, by decide +kernel⟩, (by decide +kernel : (parseMethodDescriptor mi_X0_find.1.desc).map (fun d => d.parameters.length) = some 2)⟩
theorem ca_X1_init : ma_cal mi_X1_init := ⟨by decide +kernel, Or.inl ⟨q177, rfl⟩⟩
theorem I_X1_init : ma_ini mi_X1_init 0 := ⟨ca_X1_init, rfl, q176, q177, ⟨by decide +kernel, by decide +kernel⟩, (by decide +kernel : (parseMethodDescriptor mi_X1_init.1.desc).map (fun d => d.parameters.length) = some 0)⟩
theorem ca_X1_begin : ma_cal mi_X1_begin := ⟨by decide +kernel, Or.inl ⟨q1076, rfl⟩⟩
theorem V_X1_begin : ma_vir mi_X1_begin "PrairiePool$Play" 0 := ⟨ca_X1_begin, q1074, q1075, ⟨by decide +kernel, by decide +kernel⟩, (by decide +kernel : (parseMethodDescriptor mi_X1_begin.1.desc).map (fun d => d.parameters.length) = some 0)⟩
theorem ca_X10_init : ma_cal mi_X10_init := ⟨by decide +kernel, Or.inl ⟨q813, rfl⟩⟩
theorem I_X10_init : ma_ini mi_X10_init 2 := ⟨ca_X10_init, rfl, q812, q813, ⟨by decide +kernel, by decide +kernel⟩, (by decide +kernel : (parseMethodDescriptor mi_X10_init.1.desc).map (fun d => d.parameters.length) = some 2)⟩
theorem ca_X11_init : ma_cal mi_X11_init := ⟨by decide +kernel, Or.inl ⟨q851, rfl⟩⟩
theorem I_X11_init : ma_ini mi_X11_init 3 := ⟨ca_X11_init, rfl, q850, q851, ⟨by decide +kernel, by decide +kernel⟩, (by decide +kernel : (parseMethodDescriptor mi_X11_init.1.desc).map (fun d => d.parameters.length) = some 3)⟩
theorem ca_X11_bushels : ma_cal mi_X11_bushels := ⟨by decide +kernel, Or.inl ⟨q1012, rfl⟩⟩
theorem ca_X12_init : ma_cal mi_X12_init := ⟨by decide +kernel, Or.inl ⟨q848, rfl⟩⟩
theorem I_X12_init : ma_ini mi_X12_init 6 := ⟨ca_X12_init, rfl, q847, q848, ⟨by decide +kernel, by decide +kernel⟩, (by decide +kernel : (parseMethodDescriptor mi_X12_init.1.desc).map (fun d => d.parameters.length) = some 6)⟩
theorem ca_X12_year : ma_cal mi_X12_year := ⟨by decide +kernel, Or.inl ⟨q1005, rfl⟩⟩
theorem V_X12_year : ma_vir mi_X12_year "PrairiePool$Load" 0 := ⟨ca_X12_year, q1003, q1004, ⟨by decide +kernel, by decide +kernel⟩, (by decide +kernel : (parseMethodDescriptor mi_X12_year.1.desc).map (fun d => d.parameters.length) = some 0)⟩
theorem ca_X12_bushels : ma_cal mi_X12_bushels := ⟨by decide +kernel, Or.inl ⟨q1009, rfl⟩⟩
theorem V_X12_bushels : ma_vir mi_X12_bushels "PrairiePool$Load" 0 := ⟨ca_X12_bushels, q1007, q1008, ⟨by decide +kernel, by decide +kernel⟩, (by decide +kernel : (parseMethodDescriptor mi_X12_bushels.1.desc).map (fun d => d.parameters.length) = some 0)⟩
theorem ca_X12_plays : ma_cal mi_X12_plays := ⟨by decide +kernel, Or.inl ⟨q1137, rfl⟩⟩
theorem ca_X13_init : ma_cal mi_X13_init := ⟨by decide +kernel, Or.inl ⟨q909, rfl⟩⟩
theorem I_X13_init : ma_ini mi_X13_init 6 := ⟨ca_X13_init, rfl, q908, q909, ⟨by decide +kernel, by decide +kernel⟩, (by decide +kernel : (parseMethodDescriptor mi_X13_init.1.desc).map (fun d => d.parameters.length) = some 6)⟩
theorem ca_X13_some : ma_cal mi_X13_some := ⟨by decide +kernel, Or.inl ⟨q1092, rfl⟩⟩
theorem ca_X14_init : ma_cal mi_X14_init := ⟨by decide +kernel, Or.inl ⟨q906, rfl⟩⟩
theorem I_X14_init : ma_ini mi_X14_init 6 := ⟨ca_X14_init, rfl, q905, q906, ⟨by decide +kernel, by decide +kernel⟩, (by decide +kernel : (parseMethodDescriptor mi_X14_init.1.desc).map (fun d => d.parameters.length) = some 6)⟩
theorem ca_X14_plays : ma_cal mi_X14_plays := ⟨by decide +kernel, Or.inl ⟨q1085, rfl⟩⟩
theorem ca_X14_goal : ma_cal mi_X14_goal := ⟨by decide +kernel, Or.inl ⟨q1109, rfl⟩⟩
theorem V_X14_goal : ma_vir mi_X14_goal "PrairiePool$Spoil" 1 := ⟨ca_X14_goal, q1103, q1104, ⟨by decide +kernel, by decide +kernel⟩, (by decide +kernel : (parseMethodDescriptor mi_X14_goal.1.desc).map (fun d => d.parameters.length) = some 1)⟩
theorem ca_X14_row : ma_cal mi_X14_row := ⟨by decide +kernel, Or.inl ⟨q1117, rfl⟩⟩
theorem V_X14_row : ma_vir mi_X14_row "PrairiePool$Spoil" 1 := ⟨ca_X14_row, q1111, q1112, ⟨by decide +kernel, by decide +kernel⟩, (by decide +kernel : (parseMethodDescriptor mi_X14_row.1.desc).map (fun d => d.parameters.length) = some 1)⟩
theorem ca_X15_init : ma_cal mi_X15_init := ⟨by decide +kernel, Or.inl ⟨q903, rfl⟩⟩
theorem I_X15_init : ma_ini mi_X15_init 7 := ⟨ca_X15_init, rfl, q902, q903, ⟨by decide +kernel, by decide +kernel⟩, (by decide +kernel : (parseMethodDescriptor mi_X15_init.1.desc).map (fun d => d.parameters.length) = some 7)⟩
theorem ca_X15_goal : ma_cal mi_X15_goal := ⟨by decide +kernel, Or.inl ⟨q1108, rfl⟩⟩
theorem ca_X15_row : ma_cal mi_X15_row := ⟨by decide +kernel, Or.inl ⟨q1116, rfl⟩⟩
theorem ca_X16_init : ma_cal mi_X16_init := ⟨by decide +kernel, Or.inl ⟨q951, rfl⟩⟩
theorem I_X16_init : ma_ini mi_X16_init 7 := ⟨ca_X16_init, rfl, q950, q951, ⟨by decide +kernel, by decide +kernel⟩, (by decide +kernel : (parseMethodDescriptor mi_X16_init.1.desc).map (fun d => d.parameters.length) = some 7)⟩
theorem ca_X16_plays : ma_cal mi_X16_plays := ⟨by decide +kernel, Or.inl ⟨q1147, rfl⟩⟩
theorem ca_X17_find : ma_cal mi_X17_find := ⟨by decide +kernel, Or.inl ⟨q1022, rfl⟩⟩
theorem V_X17_find : ma_vir mi_X17_find "PrairiePool$Law" 1 := ⟨ca_X17_find, q1020, q1021, ⟨by decide +kernel, by decide +kernel⟩, (by decide +kernel : (parseMethodDescriptor mi_X17_find.1.desc).map (fun d => d.parameters.length) = some 1)⟩
theorem ca_X17_works : ma_cal mi_X17_works := ⟨by decide +kernel, Or.inr q1026⟩
theorem V_X17_works : ma_vir mi_X17_works "PrairiePool$Law" 2 := ⟨ca_X17_works, q1024, q1025, ⟨by decide +kernel, by decide +kernel⟩, (by decide +kernel : (parseMethodDescriptor mi_X17_works.1.desc).map (fun d => d.parameters.length) = some 2)⟩
theorem ca_X17_init : ma_cal mi_X17_init := ⟨by decide +kernel, Or.inl ⟨q1185, rfl⟩⟩
theorem I_X17_init : ma_ini mi_X17_init 0 := ⟨ca_X17_init, rfl, q1184, q1185, ⟨by decide +kernel, by decide +kernel⟩, (by decide +kernel : (parseMethodDescriptor mi_X17_init.1.desc).map (fun d => d.parameters.length) = some 0)⟩
theorem ca_X18_init : ma_cal mi_X18_init := ⟨by decide +kernel, Or.inl ⟨q1334, rfl⟩⟩
theorem I_X18_init : ma_ini mi_X18_init 0 := ⟨ca_X18_init, rfl, q1333, q1334, ⟨by decide +kernel, by decide +kernel⟩, (by decide +kernel : (parseMethodDescriptor mi_X18_init.1.desc).map (fun d => d.parameters.length) = some 0)⟩
theorem ca_X19_value : ma_cal mi_X19_value := ⟨by decide +kernel, Or.inl ⟨q1033, rfl⟩⟩
theorem ca_X19_init : ma_cal mi_X19_init := ⟨by decide +kernel, Or.inl ⟨q1331, rfl⟩⟩
theorem I_X19_init : ma_ini mi_X19_init 0 := ⟨ca_X19_init, rfl, q1330, q1331, ⟨by decide +kernel, by decide +kernel⟩, (by decide +kernel : (parseMethodDescriptor mi_X19_init.1.desc).map (fun d => d.parameters.length) = some 0)⟩
theorem ca_X19_add : ma_cal mi_X19_add := ⟨by decide +kernel, Or.inl ⟨q1360, rfl⟩⟩
theorem V_X19_add : ma_vir mi_X19_add "PrairiePool$Chain" 2 := ⟨ca_X19_add, q1358, q1359, ⟨by decide +kernel, by decide +kernel⟩, (by decide +kernel : (parseMethodDescriptor mi_X19_add.1.desc).map (fun d => d.parameters.length) = some 2)⟩
theorem ca_X2_init : ma_cal mi_X2_init := ⟨by decide +kernel, Or.inl ⟨q190, rfl⟩⟩
theorem I_X2_init : ma_ini mi_X2_init 0 := ⟨ca_X2_init, rfl, q189, q190, ⟨by decide +kernel, by decide +kernel⟩, (by decide +kernel : (parseMethodDescriptor mi_X2_init.1.desc).map (fun d => d.parameters.length) = some 0)⟩
theorem ca_X2_split : ma_cal mi_X2_split := ⟨by decide +kernel, Or.inl ⟨q1125, rfl⟩⟩
theorem V_X2_split : ma_vir mi_X2_split "PrairiePool$Parts" 3 := ⟨ca_X2_split, q1123, q1124, ⟨by decide +kernel, by decide +kernel⟩, (by decide +kernel : (parseMethodDescriptor mi_X2_split.1.desc).map (fun d => d.parameters.length) = some 3)⟩
theorem ca_X2_split_2 : ma_cal mi_X2_split_2 := ⟨by decide +kernel, Or.inl ⟨q1129, rfl⟩⟩
theorem V_X2_split_2 : ma_vir mi_X2_split_2 "PrairiePool$Parts" 2 := ⟨ca_X2_split_2, q1127, q1128, ⟨by decide +kernel, by decide +kernel⟩, (by decide +kernel : (parseMethodDescriptor mi_X2_split_2.1.desc).map (fun d => d.parameters.length) = some 2)⟩
theorem ca_X20_value : ma_cal mi_X20_value := ⟨by decide +kernel, Or.inl ⟨q1051, rfl⟩⟩
theorem ca_X20_init : ma_cal mi_X20_init := ⟨by decide +kernel, Or.inl ⟨q1373, rfl⟩⟩
theorem I_X20_init : ma_ini mi_X20_init 3 := ⟨ca_X20_init, rfl, q1372, q1373, ⟨by decide +kernel, by decide +kernel⟩, (by decide +kernel : (parseMethodDescriptor mi_X20_init.1.desc).map (fun d => d.parameters.length) = some 3)⟩
theorem ca_X21_value : ma_cal mi_X21_value := ⟨by decide +kernel, Or.inl ⟨q1049, rfl⟩⟩
theorem ca_X21_init : ma_cal mi_X21_init := ⟨by decide +kernel, Or.inl ⟨q1391, rfl⟩⟩
theorem I_X21_init : ma_ini mi_X21_init 2 := ⟨ca_X21_init, rfl, q1390, q1391, ⟨by decide +kernel, by decide +kernel⟩, (by decide +kernel : (parseMethodDescriptor mi_X21_init.1.desc).map (fun d => d.parameters.length) = some 2)⟩
theorem ca_X22_value : ma_cal mi_X22_value := ⟨by decide +kernel, Or.inl ⟨q1036, rfl⟩⟩
theorem ca_X22_taken : ma_cal mi_X22_taken := ⟨by decide +kernel, Or.inl ⟨q1041, rfl⟩⟩
theorem V_X22_taken : ma_vir mi_X22_taken "PrairiePool$If" 1 := ⟨ca_X22_taken, q1039, qs14, ⟨by decide +kernel, by decide +kernel⟩, (by decide +kernel : (parseMethodDescriptor mi_X22_taken.1.desc).map (fun d => d.parameters.length) = some 1)⟩
theorem ca_X22_init : ma_cal mi_X22_init := ⟨by decide +kernel, Or.inl ⟨q1405, rfl⟩⟩
theorem I_X22_init : ma_ini mi_X22_init 0 := ⟨ca_X22_init, rfl, q1404, q1405, ⟨by decide +kernel, by decide +kernel⟩, (by decide +kernel : (parseMethodDescriptor mi_X22_init.1.desc).map (fun d => d.parameters.length) = some 0)⟩
theorem ca_X22_add : ma_cal mi_X22_add := ⟨by decide +kernel, Or.inl ⟨q1457, rfl⟩⟩
theorem V_X22_add : ma_vir mi_X22_add "PrairiePool$If" 1 := ⟨ca_X22_add, q1455, q1456, ⟨by decide +kernel, by decide +kernel⟩, (by decide +kernel : (parseMethodDescriptor mi_X22_add.1.desc).map (fun d => d.parameters.length) = some 1)⟩
theorem ca_X23_holds : ma_cal mi_X23_holds := ⟨by decide +kernel, Or.inr q1045⟩
theorem V_X23_holds : ma_vir mi_X23_holds "PrairiePool$Compare" 1 := ⟨ca_X23_holds, q1043, q1044, ⟨by decide +kernel, by decide +kernel⟩, (by decide +kernel : (parseMethodDescriptor mi_X23_holds.1.desc).map (fun d => d.parameters.length) = some 1)⟩
theorem ca_X23_init : ma_cal mi_X23_init := ⟨by decide +kernel, Or.inl ⟨q1436, rfl⟩⟩
theorem I_X23_init : ma_ini mi_X23_init 4 := ⟨ca_X23_init, rfl, q1435, q1436, ⟨by decide +kernel, by decide +kernel⟩, (by decide +kernel : (parseMethodDescriptor mi_X23_init.1.desc).map (fun d => d.parameters.length) = some 4)⟩
theorem ca_X3_init : ma_cal mi_X3_init := ⟨by decide +kernel, Or.inl ⟨q211, rfl⟩⟩
theorem I_X3_init : ma_ini mi_X3_init 0 := ⟨ca_X3_init, rfl, q210, q211, ⟨by decide +kernel, by decide +kernel⟩, (by decide +kernel : (parseMethodDescriptor mi_X3_init.1.desc).map (fun d => d.parameters.length) = some 0)⟩
theorem ca_X3_clear : ma_cal mi_X3_clear := ⟨by decide +kernel, Or.inl ⟨q1080, rfl⟩⟩
theorem V_X3_clear : ma_vir mi_X3_clear "PrairiePool$Heap" 0 := ⟨ca_X3_clear, q1078, q1079, ⟨by decide +kernel, by decide +kernel⟩, (by decide +kernel : (parseMethodDescriptor mi_X3_clear.1.desc).map (fun d => d.parameters.length) = some 0)⟩
theorem ca_X3_takes : ma_cal mi_X3_takes := ⟨by decide +kernel, Or.inl ⟨q1121, rfl⟩⟩
theorem V_X3_takes : ma_vir mi_X3_takes "PrairiePool$Heap" 4 := ⟨ca_X3_takes, q1119, q1120, ⟨by decide +kernel, by decide +kernel⟩, (by decide +kernel : (parseMethodDescriptor mi_X3_takes.1.desc).map (fun d => d.parameters.length) = some 4)⟩
theorem ca_X3_comes : ma_cal mi_X3_comes := ⟨by decide +kernel, Or.inl ⟨q1134, rfl⟩⟩
theorem V_X3_comes : ma_vir mi_X3_comes "PrairiePool$Heap" 2 := ⟨ca_X3_comes, q1132, q1133, ⟨by decide +kernel, by decide +kernel⟩, (by decide +kernel : (parseMethodDescriptor mi_X3_comes.1.desc).map (fun d => d.parameters.length) = some 2)⟩
theorem ca_X4_init : ma_cal mi_X4_init := ⟨by decide +kernel, Or.inl ⟨q346, rfl⟩⟩
theorem I_X4_init : ma_ini mi_X4_init 0 := ⟨ca_X4_init, rfl, q345, q346, ⟨by decide +kernel, by decide +kernel⟩, (by decide +kernel : (parseMethodDescriptor mi_X4_init.1.desc).map (fun d => d.parameters.length) = some 0)⟩
theorem ca_X4_of : ma_cal mi_X4_of := ⟨by decide +kernel, Or.inl ⟨q1305, rfl⟩⟩
theorem V_X4_of : ma_vir mi_X4_of "PrairiePool$Wrong" 2 := ⟨ca_X4_of, q1303, q1304, ⟨by decide +kernel, by decide +kernel⟩, (by decide +kernel : (parseMethodDescriptor mi_X4_of.1.desc).map (fun d => d.parameters.length) = some 2)⟩
theorem ca_X5_init : ma_cal mi_X5_init := ⟨by decide +kernel, Or.inl ⟨q381, rfl⟩⟩
theorem I_X5_init : ma_ini mi_X5_init 1 := ⟨ca_X5_init, rfl, q380, q381, ⟨by decide +kernel, by decide +kernel⟩, (by decide +kernel : (parseMethodDescriptor mi_X5_init.1.desc).map (fun d => d.parameters.length) = some 1)⟩
theorem ca_X5_read : ma_cal mi_X5_read := ⟨by decide +kernel, Or.inl ⟨q1180, rfl⟩⟩
theorem V_X5_read : ma_vir mi_X5_read "PrairiePool$Reader" 1 := ⟨ca_X5_read, q1178, q1179, ⟨by decide +kernel, by decide +kernel⟩, (by decide +kernel : (parseMethodDescriptor mi_X5_read.1.desc).map (fun d => d.parameters.length) = some 1)⟩
theorem ca_X5_next : ma_cal mi_X5_next := ⟨by decide +kernel, Or.inl ⟨q1209, rfl⟩⟩
theorem V_X5_next : ma_vir mi_X5_next "PrairiePool$Reader" 0 := ⟨ca_X5_next, q1208, qs18, ⟨by decide +kernel, by decide +kernel⟩, (by decide +kernel : (parseMethodDescriptor mi_X5_next.1.desc).map (fun d => d.parameters.length) = some 0)⟩
theorem ca_X5_at : ma_cal mi_X5_at := ⟨by decide +kernel, Or.inl ⟨q1213, rfl⟩⟩
theorem V_X5_at : ma_vir mi_X5_at "PrairiePool$Reader" 1 := ⟨ca_X5_at, q1212, qs19, ⟨by decide +kernel, by decide +kernel⟩, (by decide +kernel : (parseMethodDescriptor mi_X5_at.1.desc).map (fun d => d.parameters.length) = some 1)⟩
theorem ca_X5_isSmall : ma_cal mi_X5_isSmall := ⟨by decide +kernel, Or.inl ⟨q1216, rfl⟩⟩
theorem S_X5_isSmall : ma_sta mi_X5_isSmall 1 := ⟨ca_X5_isSmall, q1215, q127, ⟨by decide +kernel, by decide +kernel⟩, (by decide +kernel : (parseMethodDescriptor mi_X5_isSmall.1.desc).map (fun d => d.parameters.length) = some 1)⟩
theorem ca_X5_isDigit : ma_cal mi_X5_isDigit := ⟨by decide +kernel, Or.inl ⟨q1219, rfl⟩⟩
theorem S_X5_isDigit : ma_sta mi_X5_isDigit 1 := ⟨ca_X5_isDigit, q1218, q127, ⟨by decide +kernel, by decide +kernel⟩, (by decide +kernel : (parseMethodDescriptor mi_X5_isDigit.1.desc).map (fun d => d.parameters.length) = some 1)⟩
theorem ca_X5_isSign : ma_cal mi_X5_isSign := ⟨by decide +kernel, Or.inl ⟨q1226, rfl⟩⟩
theorem S_X5_isSign : ma_sta mi_X5_isSign 1 := ⟨ca_X5_isSign, q1225, q127, ⟨by decide +kernel, by decide +kernel⟩, (by decide +kernel : (parseMethodDescriptor mi_X5_isSign.1.desc).map (fun d => d.parameters.length) = some 1)⟩
theorem ca_X5_def : ma_cal mi_X5_def := ⟨by decide +kernel, Or.inl ⟨q1230, rfl⟩⟩
theorem V_X5_def : ma_vir mi_X5_def "PrairiePool$Reader" 0 := ⟨ca_X5_def, q1229, qs20, ⟨by decide +kernel, by decide +kernel⟩, (by decide +kernel : (parseMethodDescriptor mi_X5_def.1.desc).map (fun d => d.parameters.length) = some 0)⟩
theorem ca_X5_name : ma_cal mi_X5_name := ⟨by decide +kernel, Or.inl ⟨q1234, rfl⟩⟩
theorem V_X5_name : ma_vir mi_X5_name "PrairiePool$Reader" 0 := ⟨ca_X5_name, q1233, qs21, ⟨by decide +kernel, by decide +kernel⟩, (by decide +kernel : (parseMethodDescriptor mi_X5_name.1.desc).map (fun d => d.parameters.length) = some 0)⟩
theorem ca_X5_in : ma_cal mi_X5_in := ⟨by decide +kernel, Or.inl ⟨q1240, rfl⟩⟩
theorem V_X5_in : ma_vir mi_X5_in "PrairiePool$Reader" 1 := ⟨ca_X5_in, q1239, qs22, ⟨by decide +kernel, by decide +kernel⟩, (by decide +kernel : (parseMethodDescriptor mi_X5_in.1.desc).map (fun d => d.parameters.length) = some 1)⟩
theorem ca_X5_isWord : ma_cal mi_X5_isWord := ⟨by decide +kernel, Or.inl ⟨q1292, rfl⟩⟩
theorem V_X5_isWord : ma_vir mi_X5_isWord "PrairiePool$Reader" 3 := ⟨ca_X5_isWord, q1291, qs23, ⟨by decide +kernel, by decide +kernel⟩, (by decide +kernel : (parseMethodDescriptor mi_X5_isWord.1.desc).map (fun d => d.parameters.length) = some 3)⟩
theorem ca_X5_need : ma_cal mi_X5_need := ⟨by decide +kernel, Or.inl ⟨q1297, rfl⟩⟩
theorem V_X5_need : ma_vir mi_X5_need "PrairiePool$Reader" 1 := ⟨ca_X5_need, q1296, qs24, ⟨by decide +kernel, by decide +kernel⟩, (by decide +kernel : (parseMethodDescriptor mi_X5_need.1.desc).map (fun d => d.parameters.length) = some 1)⟩
theorem ca_X5_fail : ma_cal mi_X5_fail := ⟨by decide +kernel, Or.inl ⟨q1301, rfl⟩⟩
theorem V_X5_fail : ma_vir mi_X5_fail "PrairiePool$Reader" 1 := ⟨ca_X5_fail, q1300, qs25, ⟨by decide +kernel, by decide +kernel⟩, (by decide +kernel : (parseMethodDescriptor mi_X5_fail.1.desc).map (fun d => d.parameters.length) = some 1)⟩
theorem ca_X5_is : ma_cal mi_X5_is := ⟨by decide +kernel, Or.inl ⟨q1310, rfl⟩⟩
theorem V_X5_is : ma_vir mi_X5_is "PrairiePool$Reader" 1 := ⟨ca_X5_is, q1309, qs26, ⟨by decide +kernel, by decide +kernel⟩, (by decide +kernel : (parseMethodDescriptor mi_X5_is.1.desc).map (fun d => d.parameters.length) = some 1)⟩
theorem ca_X5_whole : ma_cal mi_X5_whole := ⟨by decide +kernel, Or.inl ⟨q1314, rfl⟩⟩
theorem V_X5_whole : ma_vir mi_X5_whole "PrairiePool$Reader" 1 := ⟨ca_X5_whole, q1313, qs27, ⟨by decide +kernel, by decide +kernel⟩, (by decide +kernel : (parseMethodDescriptor mi_X5_whole.1.desc).map (fun d => d.parameters.length) = some 1)⟩
theorem ca_X5_isKey : ma_cal mi_X5_isKey := ⟨by decide +kernel, Or.inl ⟨q1318, rfl⟩⟩
theorem V_X5_isKey : ma_vir mi_X5_isKey "PrairiePool$Reader" 1 := ⟨ca_X5_isKey, q1317, qs28, ⟨by decide +kernel, by decide +kernel⟩, (by decide +kernel : (parseMethodDescriptor mi_X5_isKey.1.desc).map (fun d => d.parameters.length) = some 1)⟩
theorem ca_X5_begins : ma_cal mi_X5_begins := ⟨by decide +kernel, Or.inl ⟨q1322, rfl⟩⟩
theorem V_X5_begins : ma_vir mi_X5_begins "PrairiePool$Reader" 0 := ⟨ca_X5_begins, q1321, qs29, ⟨by decide +kernel, by decide +kernel⟩, (by decide +kernel : (parseMethodDescriptor mi_X5_begins.1.desc).map (fun d => d.parameters.length) = some 0)⟩
theorem ca_X5_sum : ma_cal mi_X5_sum := ⟨by decide +kernel, Or.inl ⟨q1326, rfl⟩⟩
theorem V_X5_sum : ma_vir mi_X5_sum "PrairiePool$Reader" 1 := ⟨ca_X5_sum, q1325, qs30, ⟨by decide +kernel, by decide +kernel⟩, (by decide +kernel : (parseMethodDescriptor mi_X5_sum.1.desc).map (fun d => d.parameters.length) = some 1)⟩
theorem ca_X5_item : ma_cal mi_X5_item := ⟨by decide +kernel, Or.inl ⟨q1352, rfl⟩⟩
theorem V_X5_item : ma_vir mi_X5_item "PrairiePool$Reader" 1 := ⟨ca_X5_item, q1351, qs31, ⟨by decide +kernel, by decide +kernel⟩, (by decide +kernel : (parseMethodDescriptor mi_X5_item.1.desc).map (fun d => d.parameters.length) = some 1)⟩
theorem ca_X5_atom : ma_cal mi_X5_atom := ⟨by decide +kernel, Or.inl ⟨q1356, rfl⟩⟩
theorem V_X5_atom : ma_vir mi_X5_atom "PrairiePool$Reader" 1 := ⟨ca_X5_atom, q1355, qs32, ⟨by decide +kernel, by decide +kernel⟩, (by decide +kernel : (parseMethodDescriptor mi_X5_atom.1.desc).map (fun d => d.parameters.length) = some 1)⟩
theorem ca_X5_few : ma_cal mi_X5_few := ⟨by decide +kernel, Or.inl ⟨q1364, rfl⟩⟩
theorem V_X5_few : ma_vir mi_X5_few "PrairiePool$Reader" 1 := ⟨ca_X5_few, q1363, qs33, ⟨by decide +kernel, by decide +kernel⟩, (by decide +kernel : (parseMethodDescriptor mi_X5_few.1.desc).map (fun d => d.parameters.length) = some 1)⟩
theorem ca_X5_inner : ma_cal mi_X5_inner := ⟨by decide +kernel, Or.inl ⟨q1368, rfl⟩⟩
theorem V_X5_inner : ma_vir mi_X5_inner "PrairiePool$Reader" 1 := ⟨ca_X5_inner, q1367, qs34, ⟨by decide +kernel, by decide +kernel⟩, (by decide +kernel : (parseMethodDescriptor mi_X5_inner.1.desc).map (fun d => d.parameters.length) = some 1)⟩
theorem ca_X5_one : ma_cal mi_X5_one := ⟨by decide +kernel, Or.inl ⟨q1431, rfl⟩⟩
theorem V_X5_one : ma_vir mi_X5_one "PrairiePool$Reader" 1 := ⟨ca_X5_one, q1430, qs35, ⟨by decide +kernel, by decide +kernel⟩, (by decide +kernel : (parseMethodDescriptor mi_X5_one.1.desc).map (fun d => d.parameters.length) = some 1)⟩
theorem ca_X6_init : ma_cal mi_X6_init := ⟨by decide +kernel, Or.inl ⟨q417, rfl⟩⟩
theorem I_X6_init : ma_ini mi_X6_init 1 := ⟨ca_X6_init, rfl, q416, q417, ⟨by decide +kernel, by decide +kernel⟩, (by decide +kernel : (parseMethodDescriptor mi_X6_init.1.desc).map (fun d => d.parameters.length) = some 1)⟩
theorem ca_X7_init : ma_cal mi_X7_init := ⟨by decide +kernel, Or.inl ⟨q449, rfl⟩⟩
theorem I_X7_init : ma_ini mi_X7_init 0 := ⟨ca_X7_init, rfl, q448, q449, ⟨by decide +kernel, by decide +kernel⟩, (by decide +kernel : (parseMethodDescriptor mi_X7_init.1.desc).map (fun d => d.parameters.length) = some 0)⟩
theorem ca_X7_make : ma_cal mi_X7_make := ⟨by decide +kernel, Or.inl ⟨q671, rfl⟩⟩
theorem V_X7_make : ma_vir mi_X7_make "PrairiePool$Tray" 2 := ⟨ca_X7_make, q669, q670, ⟨by decide +kernel, by decide +kernel⟩, (by decide +kernel : (parseMethodDescriptor mi_X7_make.1.desc).map (fun d => d.parameters.length) = some 2)⟩
theorem ca_X7_set : ma_cal mi_X7_set := ⟨by decide +kernel, Or.inl ⟨q724, rfl⟩⟩
theorem V_X7_set : ma_vir mi_X7_set "PrairiePool$Tray" 2 := ⟨ca_X7_set, q722, q723, ⟨by decide +kernel, by decide +kernel⟩, (by decide +kernel : (parseMethodDescriptor mi_X7_set.1.desc).map (fun d => d.parameters.length) = some 2)⟩
theorem ca_X7_get : ma_cal mi_X7_get := ⟨by decide +kernel, Or.inl ⟨q740, rfl⟩⟩
theorem V_X7_get : ma_vir mi_X7_get "PrairiePool$Tray" 1 := ⟨ca_X7_get, q738, q739, ⟨by decide +kernel, by decide +kernel⟩, (by decide +kernel : (parseMethodDescriptor mi_X7_get.1.desc).map (fun d => d.parameters.length) = some 1)⟩
theorem ca_X7_many : ma_cal mi_X7_many := ⟨by decide +kernel, Or.inl ⟨q1600, rfl⟩⟩
theorem V_X7_many : ma_vir mi_X7_many "PrairiePool$Tray" 0 := ⟨ca_X7_many, q1598, q1599, ⟨by decide +kernel, by decide +kernel⟩, (by decide +kernel : (parseMethodDescriptor mi_X7_many.1.desc).map (fun d => d.parameters.length) = some 0)⟩
theorem ca_X8_init : ma_cal mi_X8_init := ⟨by decide +kernel, Or.inl ⟨q1625, rfl⟩⟩
theorem I_X8_init : ma_ini mi_X8_init 0 := ⟨ca_X8_init, rfl, q1624, q1625, ⟨by decide +kernel, by decide +kernel⟩, (by decide +kernel : (parseMethodDescriptor mi_X8_init.1.desc).map (fun d => d.parameters.length) = some 0)⟩
theorem ca_X8_status : ma_cal mi_X8_status := ⟨by decide +kernel, Or.inl ⟨q1958, rfl⟩⟩
theorem V_X8_status : ma_vir mi_X8_status "PrairiePoolModel" 0 := ⟨ca_X8_status, q1956, q1957, ⟨by decide +kernel, by decide +kernel⟩, (by decide +kernel : (parseMethodDescriptor mi_X8_status.1.desc).map (fun d => d.parameters.length) = some 0)⟩
theorem ca_X8_tray : ma_cal mi_X8_tray := ⟨by decide +kernel, Or.inl ⟨q1962, rfl⟩⟩
theorem V_X8_tray : ma_vir mi_X8_tray "PrairiePoolModel" 3 := ⟨ca_X8_tray, q1960, q1961, ⟨by decide +kernel, by decide +kernel⟩, (by decide +kernel : (parseMethodDescriptor mi_X8_tray.1.desc).map (fun d => d.parameters.length) = some 3)⟩
theorem ca_X8_no : ma_cal mi_X8_no := ⟨by decide +kernel, Or.inl ⟨q1966, rfl⟩⟩
theorem V_X8_no : ma_vir mi_X8_no "PrairiePoolModel" 1 := ⟨ca_X8_no, q1965, qs48, ⟨by decide +kernel, by decide +kernel⟩, (by decide +kernel : (parseMethodDescriptor mi_X8_no.1.desc).map (fun d => d.parameters.length) = some 1)⟩
theorem ca_X8_write : ma_cal mi_X8_write := ⟨by decide +kernel, Or.inl ⟨q1970, rfl⟩⟩
theorem V_X8_write : ma_vir mi_X8_write "PrairiePoolModel" 3 := ⟨ca_X8_write, q1968, q1969, ⟨by decide +kernel, by decide +kernel⟩, (by decide +kernel : (parseMethodDescriptor mi_X8_write.1.desc).map (fun d => d.parameters.length) = some 3)⟩
theorem ca_X8_placed : ma_cal mi_X8_placed := ⟨by decide +kernel, Or.inl ⟨q1974, rfl⟩⟩
theorem V_X8_placed : ma_vir mi_X8_placed "PrairiePoolModel" 2 := ⟨ca_X8_placed, q1973, qs49, ⟨by decide +kernel, by decide +kernel⟩, (by decide +kernel : (parseMethodDescriptor mi_X8_placed.1.desc).map (fun d => d.parameters.length) = some 2)⟩
theorem ca_X8_trayed : ma_cal mi_X8_trayed := ⟨by decide +kernel, Or.inl ⟨q1978, rfl⟩⟩
theorem V_X8_trayed : ma_vir mi_X8_trayed "PrairiePoolModel" 1 := ⟨ca_X8_trayed, q1977, qs50, ⟨by decide +kernel, by decide +kernel⟩, (by decide +kernel : (parseMethodDescriptor mi_X8_trayed.1.desc).map (fun d => d.parameters.length) = some 1)⟩
theorem ca_X8_cut : ma_cal mi_X8_cut := ⟨by decide +kernel, Or.inl ⟨q1981, rfl⟩⟩
theorem S_X8_cut : ma_sta mi_X8_cut 2 := ⟨ca_X8_cut, q1980, q130, ⟨by decide +kernel, by decide +kernel⟩, (by decide +kernel : (parseMethodDescriptor mi_X8_cut.1.desc).map (fun d => d.parameters.length) = some 2)⟩
theorem ca_X8_read : ma_cal mi_X8_read := ⟨by decide +kernel, Or.inl ⟨q1985, rfl⟩⟩
theorem V_X8_read : ma_vir mi_X8_read "PrairiePoolModel" 2 := ⟨ca_X8_read, q1983, q1984, ⟨by decide +kernel, by decide +kernel⟩, (by decide +kernel : (parseMethodDescriptor mi_X8_read.1.desc).map (fun d => d.parameters.length) = some 2)⟩
theorem ca_X8_pour : ma_cal mi_X8_pour := ⟨by decide +kernel, Or.inl ⟨q1990, rfl⟩⟩
theorem V_X8_pour : ma_vir mi_X8_pour "PrairiePoolModel" 5 := ⟨ca_X8_pour, q1988, q1989, ⟨by decide +kernel, by decide +kernel⟩, (by decide +kernel : (parseMethodDescriptor mi_X8_pour.1.desc).map (fun d => d.parameters.length) = some 5)⟩
theorem ca_X8_farm : ma_cal mi_X8_farm := ⟨by decide +kernel, Or.inl ⟨q1994, rfl⟩⟩
theorem V_X8_farm : ma_vir mi_X8_farm "PrairiePoolModel" 3 := ⟨ca_X8_farm, q1992, q1993, ⟨by decide +kernel, by decide +kernel⟩, (by decide +kernel : (parseMethodDescriptor mi_X8_farm.1.desc).map (fun d => d.parameters.length) = some 3)⟩
theorem ca_X8_isIn : ma_cal mi_X8_isIn := ⟨by decide +kernel, Or.inl ⟨q1998, rfl⟩⟩
theorem S_X8_isIn : ma_sta mi_X8_isIn 3 := ⟨ca_X8_isIn, q1997, q130, ⟨by decide +kernel, by decide +kernel⟩, (by decide +kernel : (parseMethodDescriptor mi_X8_isIn.1.desc).map (fun d => d.parameters.length) = some 3)⟩
theorem ca_X8_refuse : ma_cal mi_X8_refuse := ⟨by decide +kernel, Or.inl ⟨q2002, rfl⟩⟩
theorem V_X8_refuse : ma_vir mi_X8_refuse "PrairiePoolModel" 1 := ⟨ca_X8_refuse, q2001, qs51, ⟨by decide +kernel, by decide +kernel⟩, (by decide +kernel : (parseMethodDescriptor mi_X8_refuse.1.desc).map (fun d => d.parameters.length) = some 1)⟩
theorem ca_X8_elevator : ma_cal mi_X8_elevator := ⟨by decide +kernel, Or.inl ⟨q2008, rfl⟩⟩
theorem V_X8_elevator : ma_vir mi_X8_elevator "PrairiePoolModel" 2 := ⟨ca_X8_elevator, q2006, q2007, ⟨by decide +kernel, by decide +kernel⟩, (by decide +kernel : (parseMethodDescriptor mi_X8_elevator.1.desc).map (fun d => d.parameters.length) = some 2)⟩
theorem ca_X8_load : ma_cal mi_X8_load := ⟨by decide +kernel, Or.inl ⟨q2013, rfl⟩⟩
theorem V_X8_load : ma_vir mi_X8_load "PrairiePoolModel" 6 := ⟨ca_X8_load, q2011, q2012, ⟨by decide +kernel, by decide +kernel⟩, (by decide +kernel : (parseMethodDescriptor mi_X8_load.1.desc).map (fun d => d.parameters.length) = some 6)⟩
theorem ca_X8_isFarm : ma_cal mi_X8_isFarm := ⟨by decide +kernel, Or.inl ⟨q2017, rfl⟩⟩
theorem V_X8_isFarm : ma_vir mi_X8_isFarm "PrairiePoolModel" 1 := ⟨ca_X8_isFarm, q2016, qs52, ⟨by decide +kernel, by decide +kernel⟩, (by decide +kernel : (parseMethodDescriptor mi_X8_isFarm.1.desc).map (fun d => d.parameters.length) = some 1)⟩
theorem ca_X8_isElevator : ma_cal mi_X8_isElevator := ⟨by decide +kernel, Or.inl ⟨q2021, rfl⟩⟩
theorem V_X8_isElevator : ma_vir mi_X8_isElevator "PrairiePoolModel" 1 := ⟨ca_X8_isElevator, q2020, qs53, ⟨by decide +kernel, by decide +kernel⟩, (by decide +kernel : (parseMethodDescriptor mi_X8_isElevator.1.desc).map (fun d => d.parameters.length) = some 1)⟩
theorem ca_X8_event : ma_cal mi_X8_event := ⟨by decide +kernel, Or.inl ⟨q2027, rfl⟩⟩
theorem V_X8_event : ma_vir mi_X8_event "PrairiePoolModel" 10 := ⟨ca_X8_event, q2026, qs54, ⟨by decide +kernel, by decide +kernel⟩, (by decide +kernel : (parseMethodDescriptor mi_X8_event.1.desc).map (fun d => d.parameters.length) = some 10)⟩
theorem ca_X8_isDay : ma_cal mi_X8_isDay := ⟨by decide +kernel, Or.inl ⟨q2030, rfl⟩⟩
theorem S_X8_isDay : ma_sta mi_X8_isDay 1 := ⟨ca_X8_isDay, q2029, q130, ⟨by decide +kernel, by decide +kernel⟩, (by decide +kernel : (parseMethodDescriptor mi_X8_isDay.1.desc).map (fun d => d.parameters.length) = some 1)⟩
theorem ca_X8_car : ma_cal mi_X8_car := ⟨by decide +kernel, Or.inl ⟨q2035, rfl⟩⟩
theorem V_X8_car : ma_vir mi_X8_car "PrairiePoolModel" 7 := ⟨ca_X8_car, q2033, q2034, ⟨by decide +kernel, by decide +kernel⟩, (by decide +kernel : (parseMethodDescriptor mi_X8_car.1.desc).map (fun d => d.parameters.length) = some 7)⟩
theorem ca_X8_isGrade : ma_cal mi_X8_isGrade := ⟨by decide +kernel, Or.inl ⟨q2038, rfl⟩⟩
theorem S_X8_isGrade : ma_sta mi_X8_isGrade 1 := ⟨ca_X8_isGrade, q2037, q130, ⟨by decide +kernel, by decide +kernel⟩, (by decide +kernel : (parseMethodDescriptor mi_X8_isGrade.1.desc).map (fun d => d.parameters.length) = some 1)⟩
theorem ca_X8_isYear : ma_cal mi_X8_isYear := ⟨by decide +kernel, Or.inl ⟨q2041, rfl⟩⟩
theorem S_X8_isYear : ma_sta mi_X8_isYear 1 := ⟨ca_X8_isYear, q2040, q130, ⟨by decide +kernel, by decide +kernel⟩, (by decide +kernel : (parseMethodDescriptor mi_X8_isYear.1.desc).map (fun d => d.parameters.length) = some 1)⟩
theorem ca_X8_sale : ma_cal mi_X8_sale := ⟨by decide +kernel, Or.inl ⟨q2046, rfl⟩⟩
theorem V_X8_sale : ma_vir mi_X8_sale "PrairiePoolModel" 7 := ⟨ca_X8_sale, q2044, q2045, ⟨by decide +kernel, by decide +kernel⟩, (by decide +kernel : (parseMethodDescriptor mi_X8_sale.1.desc).map (fun d => d.parameters.length) = some 7)⟩
theorem ca_X8_spoil : ma_cal mi_X8_spoil := ⟨by decide +kernel, Or.inl ⟨q2050, rfl⟩⟩
theorem V_X8_spoil : ma_vir mi_X8_spoil "PrairiePoolModel" 6 := ⟨ca_X8_spoil, q2048, q2049, ⟨by decide +kernel, by decide +kernel⟩, (by decide +kernel : (parseMethodDescriptor mi_X8_spoil.1.desc).map (fun d => d.parameters.length) = some 6)⟩
theorem ca_X8_grading : ma_cal mi_X8_grading := ⟨by decide +kernel, Or.inl ⟨q2054, rfl⟩⟩
theorem V_X8_grading : ma_vir mi_X8_grading "PrairiePoolModel" 4 := ⟨ca_X8_grading, q2052, q2053, ⟨by decide +kernel, by decide +kernel⟩, (by decide +kernel : (parseMethodDescriptor mi_X8_grading.1.desc).map (fun d => d.parameters.length) = some 4)⟩
theorem ca_X8_isLoad : ma_cal mi_X8_isLoad := ⟨by decide +kernel, Or.inl ⟨q2058, rfl⟩⟩
theorem V_X8_isLoad : ma_vir mi_X8_isLoad "PrairiePoolModel" 1 := ⟨ca_X8_isLoad, q2057, qs55, ⟨by decide +kernel, by decide +kernel⟩, (by decide +kernel : (parseMethodDescriptor mi_X8_isLoad.1.desc).map (fun d => d.parameters.length) = some 1)⟩
theorem ca_X8_grade : ma_cal mi_X8_grade := ⟨by decide +kernel, Or.inl ⟨q2062, rfl⟩⟩
theorem V_X8_grade : ma_vir mi_X8_grade "PrairiePoolModel" 2 := ⟨ca_X8_grade, q2060, q2061, ⟨by decide +kernel, by decide +kernel⟩, (by decide +kernel : (parseMethodDescriptor mi_X8_grade.1.desc).map (fun d => d.parameters.length) = some 2)⟩
theorem ca_X8_gradeOf : ma_cal mi_X8_gradeOf := ⟨by decide +kernel, Or.inl ⟨q2066, rfl⟩⟩
theorem V_X8_gradeOf : ma_vir mi_X8_gradeOf "PrairiePoolModel" 2 := ⟨ca_X8_gradeOf, q2065, qs56, ⟨by decide +kernel, by decide +kernel⟩, (by decide +kernel : (parseMethodDescriptor mi_X8_gradeOf.1.desc).map (fun d => d.parameters.length) = some 2)⟩
theorem ca_X8_letNothing : ma_cal mi_X8_letNothing := ⟨by decide +kernel, Or.inl ⟨q2070, rfl⟩⟩
theorem V_X8_letNothing : ma_vir mi_X8_letNothing "PrairiePoolModel" 0 := ⟨ca_X8_letNothing, q2069, qs57, ⟨by decide +kernel, by decide +kernel⟩, (by decide +kernel : (parseMethodDescriptor mi_X8_letNothing.1.desc).map (fun d => d.parameters.length) = some 0)⟩
theorem ca_X8_net : ma_cal mi_X8_net := ⟨by decide +kernel, Or.inl ⟨q2074, rfl⟩⟩
theorem V_X8_net : ma_vir mi_X8_net "PrairiePoolModel" 1 := ⟨ca_X8_net, q2073, qs58, ⟨by decide +kernel, by decide +kernel⟩, (by decide +kernel : (parseMethodDescriptor mi_X8_net.1.desc).map (fun d => d.parameters.length) = some 1)⟩
theorem ca_X8_spelled : ma_cal mi_X8_spelled := ⟨by decide +kernel, Or.inl ⟨q2077, rfl⟩⟩
theorem S_X8_spelled : ma_sta mi_X8_spelled 6 := ⟨ca_X8_spelled, q2076, q130, ⟨by decide +kernel, by decide +kernel⟩, (by decide +kernel : (parseMethodDescriptor mi_X8_spelled.1.desc).map (fun d => d.parameters.length) = some 6)⟩
theorem ca_X8_told : ma_cal mi_X8_told := ⟨by decide +kernel, Or.inl ⟨q2083, rfl⟩⟩
theorem V_X8_told : ma_vir mi_X8_told "PrairiePoolModel" 3 := ⟨ca_X8_told, q2082, qs59, ⟨by decide +kernel, by decide +kernel⟩, (by decide +kernel : (parseMethodDescriptor mi_X8_told.1.desc).map (fun d => d.parameters.length) = some 3)⟩
theorem ca_X8_force : ma_cal mi_X8_force := ⟨by decide +kernel, Or.inl ⟨q2087, rfl⟩⟩
theorem V_X8_force : ma_vir mi_X8_force "PrairiePoolModel" 1 := ⟨ca_X8_force, q2086, qs60, ⟨by decide +kernel, by decide +kernel⟩, (by decide +kernel : (parseMethodDescriptor mi_X8_force.1.desc).map (fun d => d.parameters.length) = some 1)⟩
theorem ca_X8_work : ma_cal mi_X8_work := ⟨by decide +kernel, Or.inl ⟨q2091, rfl⟩⟩
theorem V_X8_work : ma_vir mi_X8_work "PrairiePoolModel" 2 := ⟨ca_X8_work, q2090, qs61, ⟨by decide +kernel, by decide +kernel⟩, (by decide +kernel : (parseMethodDescriptor mi_X8_work.1.desc).map (fun d => d.parameters.length) = some 2)⟩
theorem ca_X8_does : ma_cal mi_X8_does := ⟨by decide +kernel, Or.inl ⟨q2095, rfl⟩⟩
theorem V_X8_does : ma_vir mi_X8_does "PrairiePoolModel" 2 := ⟨ca_X8_does, q2094, qs62, ⟨by decide +kernel, by decide +kernel⟩, (by decide +kernel : (parseMethodDescriptor mi_X8_does.1.desc).map (fun d => d.parameters.length) = some 2)⟩
theorem ca_X8_push : ma_cal mi_X8_push := ⟨by decide +kernel, Or.inl ⟨q2100, rfl⟩⟩
theorem V_X8_push : ma_vir mi_X8_push "PrairiePoolModel" 2 := ⟨ca_X8_push, q2099, qs63, ⟨by decide +kernel, by decide +kernel⟩, (by decide +kernel : (parseMethodDescriptor mi_X8_push.1.desc).map (fun d => d.parameters.length) = some 2)⟩
theorem ca_X8_both : ma_cal mi_X8_both := ⟨by decide +kernel, Or.inl ⟨q2104, rfl⟩⟩
theorem V_X8_both : ma_vir mi_X8_both "PrairiePoolModel" 2 := ⟨ca_X8_both, q2103, qs64, ⟨by decide +kernel, by decide +kernel⟩, (by decide +kernel : (parseMethodDescriptor mi_X8_both.1.desc).map (fun d => d.parameters.length) = some 2)⟩
theorem ca_X8_cut_2 : ma_cal mi_X8_cut_2 := ⟨by decide +kernel, Or.inl ⟨q2110, rfl⟩⟩
theorem S_X8_cut_2 : ma_sta mi_X8_cut_2 3 := ⟨ca_X8_cut_2, q2109, q130, ⟨by decide +kernel, by decide +kernel⟩, (by decide +kernel : (parseMethodDescriptor mi_X8_cut_2.1.desc).map (fun d => d.parameters.length) = some 3)⟩
theorem ca_X8_bin : ma_cal mi_X8_bin := ⟨by decide +kernel, Or.inl ⟨q2114, rfl⟩⟩
theorem V_X8_bin : ma_vir mi_X8_bin "PrairiePoolModel" 5 := ⟨ca_X8_bin, q2112, q2113, ⟨by decide +kernel, by decide +kernel⟩, (by decide +kernel : (parseMethodDescriptor mi_X8_bin.1.desc).map (fun d => d.parameters.length) = some 5)⟩
theorem ca_X8_isWho : ma_cal mi_X8_isWho := ⟨by decide +kernel, Or.inl ⟨q2118, rfl⟩⟩
theorem V_X8_isWho : ma_vir mi_X8_isWho "PrairiePoolModel" 1 := ⟨ca_X8_isWho, q2117, qs65, ⟨by decide +kernel, by decide +kernel⟩, (by decide +kernel : (parseMethodDescriptor mi_X8_isWho.1.desc).map (fun d => d.parameters.length) = some 1)⟩
theorem ca_X8_play : ma_cal mi_X8_play := ⟨by decide +kernel, Or.inl ⟨q2122, rfl⟩⟩
theorem V_X8_play : ma_vir mi_X8_play "PrairiePoolModel" 1 := ⟨ca_X8_play, q2121, qs66, ⟨by decide +kernel, by decide +kernel⟩, (by decide +kernel : (parseMethodDescriptor mi_X8_play.1.desc).map (fun d => d.parameters.length) = some 1)⟩
theorem ca_X8_playLoad : ma_cal mi_X8_playLoad := ⟨by decide +kernel, Or.inl ⟨q2126, rfl⟩⟩
theorem V_X8_playLoad : ma_vir mi_X8_playLoad "PrairiePoolModel" 2 := ⟨ca_X8_playLoad, q2125, qs67, ⟨by decide +kernel, by decide +kernel⟩, (by decide +kernel : (parseMethodDescriptor mi_X8_playLoad.1.desc).map (fun d => d.parameters.length) = some 2)⟩
theorem ca_X8_inElevator : ma_cal mi_X8_inElevator := ⟨by decide +kernel, Or.inl ⟨q2130, rfl⟩⟩
theorem V_X8_inElevator : ma_vir mi_X8_inElevator "PrairiePoolModel" 1 := ⟨ca_X8_inElevator, q2129, qs68, ⟨by decide +kernel, by decide +kernel⟩, (by decide +kernel : (parseMethodDescriptor mi_X8_inElevator.1.desc).map (fun d => d.parameters.length) = some 1)⟩
theorem ca_X8_binAt : ma_cal mi_X8_binAt := ⟨by decide +kernel, Or.inl ⟨q2133, rfl⟩⟩
theorem S_X8_binAt : ma_sta mi_X8_binAt 3 := ⟨ca_X8_binAt, q2132, q130, ⟨by decide +kernel, by decide +kernel⟩, (by decide +kernel : (parseMethodDescriptor mi_X8_binAt.1.desc).map (fun d => d.parameters.length) = some 3)⟩
theorem ca_X8_playOther : ma_cal mi_X8_playOther := ⟨by decide +kernel, Or.inl ⟨q2138, rfl⟩⟩
theorem V_X8_playOther : ma_vir mi_X8_playOther "PrairiePoolModel" 1 := ⟨ca_X8_playOther, q2137, qs69, ⟨by decide +kernel, by decide +kernel⟩, (by decide +kernel : (parseMethodDescriptor mi_X8_playOther.1.desc).map (fun d => d.parameters.length) = some 1)⟩
theorem ca_X8_takeBin : ma_cal mi_X8_takeBin := ⟨by decide +kernel, Or.inl ⟨q2142, rfl⟩⟩
theorem V_X8_takeBin : ma_vir mi_X8_takeBin "PrairiePoolModel" 3 := ⟨ca_X8_takeBin, q2141, qs70, ⟨by decide +kernel, by decide +kernel⟩, (by decide +kernel : (parseMethodDescriptor mi_X8_takeBin.1.desc).map (fun d => d.parameters.length) = some 3)⟩
theorem ca_X8_parts : ma_cal mi_X8_parts := ⟨by decide +kernel, Or.inl ⟨q2147, rfl⟩⟩
theorem V_X8_parts : ma_vir mi_X8_parts "PrairiePoolModel" 1 := ⟨ca_X8_parts, q2146, qs71, ⟨by decide +kernel, by decide +kernel⟩, (by decide +kernel : (parseMethodDescriptor mi_X8_parts.1.desc).map (fun d => d.parameters.length) = some 1)⟩
theorem ca_X8_port : ma_cal mi_X8_port := ⟨by decide +kernel, Or.inl ⟨q2151, rfl⟩⟩
theorem V_X8_port : ma_vir mi_X8_port "PrairiePoolModel" 5 := ⟨ca_X8_port, q2149, q2150, ⟨by decide +kernel, by decide +kernel⟩, (by decide +kernel : (parseMethodDescriptor mi_X8_port.1.desc).map (fun d => d.parameters.length) = some 5)⟩
theorem ca_X8_sum : ma_cal mi_X8_sum := ⟨by decide +kernel, Or.inl ⟨q2155, rfl⟩⟩
theorem V_X8_sum : ma_vir mi_X8_sum "PrairiePoolModel" 3 := ⟨ca_X8_sum, q2153, q2154, ⟨by decide +kernel, by decide +kernel⟩, (by decide +kernel : (parseMethodDescriptor mi_X8_sum.1.desc).map (fun d => d.parameters.length) = some 3)⟩
theorem ca_X8_feed : ma_cal mi_X8_feed := ⟨by decide +kernel, Or.inl ⟨q2161, rfl⟩⟩
theorem V_X8_feed : ma_vir mi_X8_feed "PrairiePoolModel" 5 := ⟨ca_X8_feed, q2159, q2160, ⟨by decide +kernel, by decide +kernel⟩, (by decide +kernel : (parseMethodDescriptor mi_X8_feed.1.desc).map (fun d => d.parameters.length) = some 5)⟩
theorem ca_X8_lay : ma_cal mi_X8_lay := ⟨by decide +kernel, Or.inl ⟨q2165, rfl⟩⟩
theorem V_X8_lay : ma_vir mi_X8_lay "PrairiePoolModel" 1 := ⟨ca_X8_lay, q2164, qs72, ⟨by decide +kernel, by decide +kernel⟩, (by decide +kernel : (parseMethodDescriptor mi_X8_lay.1.desc).map (fun d => d.parameters.length) = some 1)⟩
theorem ca_X8_acts : ma_cal mi_X8_acts := ⟨by decide +kernel, Or.inl ⟨q2169, rfl⟩⟩
theorem V_X8_acts : ma_vir mi_X8_acts "PrairiePoolModel" 2 := ⟨ca_X8_acts, q2167, q2168, ⟨by decide +kernel, by decide +kernel⟩, (by decide +kernel : (parseMethodDescriptor mi_X8_acts.1.desc).map (fun d => d.parameters.length) = some 2)⟩
theorem ca_X8_next : ma_cal mi_X8_next := ⟨by decide +kernel, Or.inl ⟨q2173, rfl⟩⟩
theorem V_X8_next : ma_vir mi_X8_next "PrairiePoolModel" 0 := ⟨ca_X8_next, q2172, qs73, ⟨by decide +kernel, by decide +kernel⟩, (by decide +kernel : (parseMethodDescriptor mi_X8_next.1.desc).map (fun d => d.parameters.length) = some 0)⟩
theorem ca_X8_look : ma_cal mi_X8_look := ⟨by decide +kernel, Or.inl ⟨q2177, rfl⟩⟩
theorem V_X8_look : ma_vir mi_X8_look "PrairiePoolModel" 1 := ⟨ca_X8_look, q2176, qs74, ⟨by decide +kernel, by decide +kernel⟩, (by decide +kernel : (parseMethodDescriptor mi_X8_look.1.desc).map (fun d => d.parameters.length) = some 1)⟩
theorem ca_X8_isLetter : ma_cal mi_X8_isLetter := ⟨by decide +kernel, Or.inl ⟨q2180, rfl⟩⟩
theorem S_X8_isLetter : ma_sta mi_X8_isLetter 1 := ⟨ca_X8_isLetter, q2179, q130, ⟨by decide +kernel, by decide +kernel⟩, (by decide +kernel : (parseMethodDescriptor mi_X8_isLetter.1.desc).map (fun d => d.parameters.length) = some 1)⟩
theorem ca_X8_isDigit : ma_cal mi_X8_isDigit := ⟨by decide +kernel, Or.inl ⟨q2183, rfl⟩⟩
theorem S_X8_isDigit : ma_sta mi_X8_isDigit 1 := ⟨ca_X8_isDigit, q2182, q130, ⟨by decide +kernel, by decide +kernel⟩, (by decide +kernel : (parseMethodDescriptor mi_X8_isDigit.1.desc).map (fun d => d.parameters.length) = some 1)⟩
theorem ca_X8_readDef : ma_cal mi_X8_readDef := ⟨by decide +kernel, Or.inl ⟨q2191, rfl⟩⟩
theorem V_X8_readDef : ma_vir mi_X8_readDef "PrairiePoolModel" 0 := ⟨ca_X8_readDef, q2190, qs75, ⟨by decide +kernel, by decide +kernel⟩, (by decide +kernel : (parseMethodDescriptor mi_X8_readDef.1.desc).map (fun d => d.parameters.length) = some 0)⟩
theorem ca_X8_variable : ma_cal mi_X8_variable := ⟨by decide +kernel, Or.inl ⟨q2195, rfl⟩⟩
theorem V_X8_variable : ma_vir mi_X8_variable "PrairiePoolModel" 0 := ⟨ca_X8_variable, q2194, qs76, ⟨by decide +kernel, by decide +kernel⟩, (by decide +kernel : (parseMethodDescriptor mi_X8_variable.1.desc).map (fun d => d.parameters.length) = some 0)⟩
theorem ca_X8_isWord : ma_cal mi_X8_isWord := ⟨by decide +kernel, Or.inl ⟨q2199, rfl⟩⟩
theorem V_X8_isWord : ma_vir mi_X8_isWord "PrairiePoolModel" 1 := ⟨ca_X8_isWord, q2198, qs77, ⟨by decide +kernel, by decide +kernel⟩, (by decide +kernel : (parseMethodDescriptor mi_X8_isWord.1.desc).map (fun d => d.parameters.length) = some 1)⟩
theorem ca_X8_isKept : ma_cal mi_X8_isKept := ⟨by decide +kernel, Or.inl ⟨q2206, rfl⟩⟩
theorem V_X8_isKept : ma_vir mi_X8_isKept "PrairiePoolModel" 0 := ⟨ca_X8_isKept, q2205, qs78, ⟨by decide +kernel, by decide +kernel⟩, (by decide +kernel : (parseMethodDescriptor mi_X8_isKept.1.desc).map (fun d => d.parameters.length) = some 0)⟩
theorem ca_X8_isIf : ma_cal mi_X8_isIf := ⟨by decide +kernel, Or.inl ⟨q2210, rfl⟩⟩
theorem V_X8_isIf : ma_vir mi_X8_isIf "PrairiePoolModel" 0 := ⟨ca_X8_isIf, q2209, qs79, ⟨by decide +kernel, by decide +kernel⟩, (by decide +kernel : (parseMethodDescriptor mi_X8_isIf.1.desc).map (fun d => d.parameters.length) = some 0)⟩
theorem ca_X8_isThen : ma_cal mi_X8_isThen := ⟨by decide +kernel, Or.inl ⟨q2214, rfl⟩⟩
theorem V_X8_isThen : ma_vir mi_X8_isThen "PrairiePoolModel" 0 := ⟨ca_X8_isThen, q2213, qs80, ⟨by decide +kernel, by decide +kernel⟩, (by decide +kernel : (parseMethodDescriptor mi_X8_isThen.1.desc).map (fun d => d.parameters.length) = some 0)⟩
theorem ca_X8_isElse : ma_cal mi_X8_isElse := ⟨by decide +kernel, Or.inl ⟨q2218, rfl⟩⟩
theorem V_X8_isElse : ma_vir mi_X8_isElse "PrairiePoolModel" 0 := ⟨ca_X8_isElse, q2217, qs81, ⟨by decide +kernel, by decide +kernel⟩, (by decide +kernel : (parseMethodDescriptor mi_X8_isElse.1.desc).map (fun d => d.parameters.length) = some 0)⟩
theorem ca_X8_isAnd : ma_cal mi_X8_isAnd := ⟨by decide +kernel, Or.inl ⟨q2222, rfl⟩⟩
theorem V_X8_isAnd : ma_vir mi_X8_isAnd "PrairiePoolModel" 0 := ⟨ca_X8_isAnd, q2221, qs82, ⟨by decide +kernel, by decide +kernel⟩, (by decide +kernel : (parseMethodDescriptor mi_X8_isAnd.1.desc).map (fun d => d.parameters.length) = some 0)⟩
theorem ca_X8_isOr : ma_cal mi_X8_isOr := ⟨by decide +kernel, Or.inl ⟨q2226, rfl⟩⟩
theorem V_X8_isOr : ma_vir mi_X8_isOr "PrairiePoolModel" 0 := ⟨ca_X8_isOr, q2225, qs83, ⟨by decide +kernel, by decide +kernel⟩, (by decide +kernel : (parseMethodDescriptor mi_X8_isOr.1.desc).map (fun d => d.parameters.length) = some 0)⟩
theorem ca_X8_isNot : ma_cal mi_X8_isNot := ⟨by decide +kernel, Or.inl ⟨q2230, rfl⟩⟩
theorem V_X8_isNot : ma_vir mi_X8_isNot "PrairiePoolModel" 0 := ⟨ca_X8_isNot, q2229, qs84, ⟨by decide +kernel, by decide +kernel⟩, (by decide +kernel : (parseMethodDescriptor mi_X8_isNot.1.desc).map (fun d => d.parameters.length) = some 0)⟩
theorem ca_X8_isLeast : ma_cal mi_X8_isLeast := ⟨by decide +kernel, Or.inl ⟨q2234, rfl⟩⟩
theorem V_X8_isLeast : ma_vir mi_X8_isLeast "PrairiePoolModel" 0 := ⟨ca_X8_isLeast, q2233, qs85, ⟨by decide +kernel, by decide +kernel⟩, (by decide +kernel : (parseMethodDescriptor mi_X8_isLeast.1.desc).map (fun d => d.parameters.length) = some 0)⟩
theorem ca_X8_isMost : ma_cal mi_X8_isMost := ⟨by decide +kernel, Or.inl ⟨q2238, rfl⟩⟩
theorem V_X8_isMost : ma_vir mi_X8_isMost "PrairiePoolModel" 0 := ⟨ca_X8_isMost, q2237, qs86, ⟨by decide +kernel, by decide +kernel⟩, (by decide +kernel : (parseMethodDescriptor mi_X8_isMost.1.desc).map (fun d => d.parameters.length) = some 0)⟩
theorem ca_X8_wrong : ma_cal mi_X8_wrong := ⟨by decide +kernel, Or.inl ⟨q2242, rfl⟩⟩
theorem V_X8_wrong : ma_vir mi_X8_wrong "PrairiePoolModel" 0 := ⟨ca_X8_wrong, q2241, qs87, ⟨by decide +kernel, by decide +kernel⟩, (by decide +kernel : (parseMethodDescriptor mi_X8_wrong.1.desc).map (fun d => d.parameters.length) = some 0)⟩
theorem ca_X8_fail : ma_cal mi_X8_fail := ⟨by decide +kernel, Or.inl ⟨q2246, rfl⟩⟩
theorem V_X8_fail : ma_vir mi_X8_fail "PrairiePoolModel" 2 := ⟨ca_X8_fail, q2245, qs88, ⟨by decide +kernel, by decide +kernel⟩, (by decide +kernel : (parseMethodDescriptor mi_X8_fail.1.desc).map (fun d => d.parameters.length) = some 2)⟩
theorem ca_X8_named : ma_cal mi_X8_named := ⟨by decide +kernel, Or.inl ⟨q2250, rfl⟩⟩
theorem V_X8_named : ma_vir mi_X8_named "PrairiePoolModel" 0 := ⟨ca_X8_named, q2249, qs89, ⟨by decide +kernel, by decide +kernel⟩, (by decide +kernel : (parseMethodDescriptor mi_X8_named.1.desc).map (fun d => d.parameters.length) = some 0)⟩
theorem ca_X8_isSign : ma_cal mi_X8_isSign := ⟨by decide +kernel, Or.inl ⟨q2254, rfl⟩⟩
theorem V_X8_isSign : ma_vir mi_X8_isSign "PrairiePoolModel" 1 := ⟨ca_X8_isSign, q2253, qs90, ⟨by decide +kernel, by decide +kernel⟩, (by decide +kernel : (parseMethodDescriptor mi_X8_isSign.1.desc).map (fun d => d.parameters.length) = some 1)⟩
theorem ca_X8_readWhole : ma_cal mi_X8_readWhole := ⟨by decide +kernel, Or.inl ⟨q2258, rfl⟩⟩
theorem V_X8_readWhole : ma_vir mi_X8_readWhole "PrairiePoolModel" 1 := ⟨ca_X8_readWhole, q2257, qs91, ⟨by decide +kernel, by decide +kernel⟩, (by decide +kernel : (parseMethodDescriptor mi_X8_readWhole.1.desc).map (fun d => d.parameters.length) = some 1)⟩
theorem ca_X8_canBegin : ma_cal mi_X8_canBegin := ⟨by decide +kernel, Or.inl ⟨q2262, rfl⟩⟩
theorem V_X8_canBegin : ma_vir mi_X8_canBegin "PrairiePoolModel" 0 := ⟨ca_X8_canBegin, q2261, qs92, ⟨by decide +kernel, by decide +kernel⟩, (by decide +kernel : (parseMethodDescriptor mi_X8_canBegin.1.desc).map (fun d => d.parameters.length) = some 0)⟩
theorem ca_X8_canBeginSum : ma_cal mi_X8_canBeginSum := ⟨by decide +kernel, Or.inl ⟨q2266, rfl⟩⟩
theorem V_X8_canBeginSum : ma_vir mi_X8_canBeginSum "PrairiePoolModel" 0 := ⟨ca_X8_canBeginSum, q2265, qs93, ⟨by decide +kernel, by decide +kernel⟩, (by decide +kernel : (parseMethodDescriptor mi_X8_canBeginSum.1.desc).map (fun d => d.parameters.length) = some 0)⟩
theorem ca_X8_readSum : ma_cal mi_X8_readSum := ⟨by decide +kernel, Or.inl ⟨q2270, rfl⟩⟩
theorem V_X8_readSum : ma_vir mi_X8_readSum "PrairiePoolModel" 1 := ⟨ca_X8_readSum, q2269, qs94, ⟨by decide +kernel, by decide +kernel⟩, (by decide +kernel : (parseMethodDescriptor mi_X8_readSum.1.desc).map (fun d => d.parameters.length) = some 1)⟩
theorem ca_X8_readItem : ma_cal mi_X8_readItem := ⟨by decide +kernel, Or.inl ⟨q2274, rfl⟩⟩
theorem V_X8_readItem : ma_vir mi_X8_readItem "PrairiePoolModel" 1 := ⟨ca_X8_readItem, q2273, qs95, ⟨by decide +kernel, by decide +kernel⟩, (by decide +kernel : (parseMethodDescriptor mi_X8_readItem.1.desc).map (fun d => d.parameters.length) = some 1)⟩
theorem ca_X8_readAtom : ma_cal mi_X8_readAtom := ⟨by decide +kernel, Or.inl ⟨q2278, rfl⟩⟩
theorem V_X8_readAtom : ma_vir mi_X8_readAtom "PrairiePoolModel" 1 := ⟨ca_X8_readAtom, q2277, qs96, ⟨by decide +kernel, by decide +kernel⟩, (by decide +kernel : (parseMethodDescriptor mi_X8_readAtom.1.desc).map (fun d => d.parameters.length) = some 1)⟩
theorem ca_X8_mark : ma_cal mi_X8_mark := ⟨by decide +kernel, Or.inl ⟨q2282, rfl⟩⟩
theorem V_X8_mark : ma_vir mi_X8_mark "PrairiePoolModel" 2 := ⟨ca_X8_mark, q2281, qs97, ⟨by decide +kernel, by decide +kernel⟩, (by decide +kernel : (parseMethodDescriptor mi_X8_mark.1.desc).map (fun d => d.parameters.length) = some 2)⟩
theorem ca_X8_readFew : ma_cal mi_X8_readFew := ⟨by decide +kernel, Or.inl ⟨q2286, rfl⟩⟩
theorem V_X8_readFew : ma_vir mi_X8_readFew "PrairiePoolModel" 2 := ⟨ca_X8_readFew, q2285, qs98, ⟨by decide +kernel, by decide +kernel⟩, (by decide +kernel : (parseMethodDescriptor mi_X8_readFew.1.desc).map (fun d => d.parameters.length) = some 2)⟩
theorem ca_X8_readDeeper : ma_cal mi_X8_readDeeper := ⟨by decide +kernel, Or.inl ⟨q2290, rfl⟩⟩
theorem V_X8_readDeeper : ma_vir mi_X8_readDeeper "PrairiePoolModel" 1 := ⟨ca_X8_readDeeper, q2289, qs99, ⟨by decide +kernel, by decide +kernel⟩, (by decide +kernel : (parseMethodDescriptor mi_X8_readDeeper.1.desc).map (fun d => d.parameters.length) = some 1)⟩
theorem ca_X8_readTest : ma_cal mi_X8_readTest := ⟨by decide +kernel, Or.inl ⟨q2294, rfl⟩⟩
theorem V_X8_readTest : ma_vir mi_X8_readTest "PrairiePoolModel" 1 := ⟨ca_X8_readTest, q2293, qs100, ⟨by decide +kernel, by decide +kernel⟩, (by decide +kernel : (parseMethodDescriptor mi_X8_readTest.1.desc).map (fun d => d.parameters.length) = some 1)⟩
theorem ca_X8_readOne : ma_cal mi_X8_readOne := ⟨by decide +kernel, Or.inl ⟨q2298, rfl⟩⟩
theorem V_X8_readOne : ma_vir mi_X8_readOne "PrairiePoolModel" 1 := ⟨ca_X8_readOne, q2297, qs101, ⟨by decide +kernel, by decide +kernel⟩, (by decide +kernel : (parseMethodDescriptor mi_X8_readOne.1.desc).map (fun d => d.parameters.length) = some 1)⟩
theorem ca_X8_fault : ma_cal mi_X8_fault := ⟨by decide +kernel, Or.inl ⟨q2302, rfl⟩⟩
theorem V_X8_fault : ma_vir mi_X8_fault "PrairiePoolModel" 1 := ⟨ca_X8_fault, q2300, q2301, ⟨by decide +kernel, by decide +kernel⟩, (by decide +kernel : (parseMethodDescriptor mi_X8_fault.1.desc).map (fun d => d.parameters.length) = some 1)⟩
theorem ca_X8_paid : ma_cal mi_X8_paid := ⟨by decide +kernel, Or.inl ⟨q2306, rfl⟩⟩
theorem V_X8_paid : ma_vir mi_X8_paid "PrairiePoolModel" 4 := ⟨ca_X8_paid, q2304, q2305, ⟨by decide +kernel, by decide +kernel⟩, (by decide +kernel : (parseMethodDescriptor mi_X8_paid.1.desc).map (fun d => d.parameters.length) = some 4)⟩
theorem ca_X8_came : ma_cal mi_X8_came := ⟨by decide +kernel, Or.inl ⟨q2311, rfl⟩⟩
theorem V_X8_came : ma_vir mi_X8_came "PrairiePoolModel" 3 := ⟨ca_X8_came, q2310, qs102, ⟨by decide +kernel, by decide +kernel⟩, (by decide +kernel : (parseMethodDescriptor mi_X8_came.1.desc).map (fun d => d.parameters.length) = some 3)⟩
theorem ca_X8_kept : ma_cal mi_X8_kept := ⟨by decide +kernel, Or.inl ⟨q2315, rfl⟩⟩
theorem V_X8_kept : ma_vir mi_X8_kept "PrairiePoolModel" 3 := ⟨ca_X8_kept, q2314, qs103, ⟨by decide +kernel, by decide +kernel⟩, (by decide +kernel : (parseMethodDescriptor mi_X8_kept.1.desc).map (fun d => d.parameters.length) = some 3)⟩
theorem ca_X8_ofYear : ma_cal mi_X8_ofYear := ⟨by decide +kernel, Or.inl ⟨q2319, rfl⟩⟩
theorem V_X8_ofYear : ma_vir mi_X8_ofYear "PrairiePoolModel" 3 := ⟨ca_X8_ofYear, q2318, qs104, ⟨by decide +kernel, by decide +kernel⟩, (by decide +kernel : (parseMethodDescriptor mi_X8_ofYear.1.desc).map (fun d => d.parameters.length) = some 3)⟩
theorem ca_X8_bring : ma_cal mi_X8_bring := ⟨by decide +kernel, Or.inl ⟨q2323, rfl⟩⟩
theorem V_X8_bring : ma_vir mi_X8_bring "PrairiePoolModel" 3 := ⟨ca_X8_bring, q2322, qs105, ⟨by decide +kernel, by decide +kernel⟩, (by decide +kernel : (parseMethodDescriptor mi_X8_bring.1.desc).map (fun d => d.parameters.length) = some 3)⟩
theorem ca_X8_last : ma_cal mi_X8_last := ⟨by decide +kernel, Or.inl ⟨q2327, rfl⟩⟩
theorem V_X8_last : ma_vir mi_X8_last "PrairiePoolModel" 3 := ⟨ca_X8_last, q2325, q2326, ⟨by decide +kernel, by decide +kernel⟩, (by decide +kernel : (parseMethodDescriptor mi_X8_last.1.desc).map (fun d => d.parameters.length) = some 3)⟩
theorem ca_X8_asksFarm : ma_cal mi_X8_asksFarm := ⟨by decide +kernel, Or.inl ⟨q2331, rfl⟩⟩
theorem V_X8_asksFarm : ma_vir mi_X8_asksFarm "PrairiePoolModel" 3 := ⟨ca_X8_asksFarm, q2330, qs106, ⟨by decide +kernel, by decide +kernel⟩, (by decide +kernel : (parseMethodDescriptor mi_X8_asksFarm.1.desc).map (fun d => d.parameters.length) = some 3)⟩
theorem ca_X8_pay : ma_cal mi_X8_pay := ⟨by decide +kernel, Or.inl ⟨q2335, rfl⟩⟩
theorem V_X8_pay : ma_vir mi_X8_pay "PrairiePoolModel" 2 := ⟨ca_X8_pay, q2334, qs107, ⟨by decide +kernel, by decide +kernel⟩, (by decide +kernel : (parseMethodDescriptor mi_X8_pay.1.desc).map (fun d => d.parameters.length) = some 2)⟩
theorem ca_X8_first : ma_cal mi_X8_first := ⟨by decide +kernel, Or.inl ⟨q2339, rfl⟩⟩
theorem V_X8_first : ma_vir mi_X8_first "PrairiePoolModel" 3 := ⟨ca_X8_first, q2337, q2338, ⟨by decide +kernel, by decide +kernel⟩, (by decide +kernel : (parseMethodDescriptor mi_X8_first.1.desc).map (fun d => d.parameters.length) = some 3)⟩
theorem ca_X8_below : ma_cal mi_X8_below := ⟨by decide +kernel, Or.inl ⟨q2343, rfl⟩⟩
theorem V_X8_below : ma_vir mi_X8_below "PrairiePoolModel" 3 := ⟨ca_X8_below, q2341, q2342, ⟨by decide +kernel, by decide +kernel⟩, (by decide +kernel : (parseMethodDescriptor mi_X8_below.1.desc).map (fun d => d.parameters.length) = some 3)⟩
theorem ca_X8_owed : ma_cal mi_X8_owed := ⟨by decide +kernel, Or.inl ⟨q2347, rfl⟩⟩
theorem V_X8_owed : ma_vir mi_X8_owed "PrairiePoolModel" 3 := ⟨ca_X8_owed, q2345, q2346, ⟨by decide +kernel, by decide +kernel⟩, (by decide +kernel : (parseMethodDescriptor mi_X8_owed.1.desc).map (fun d => d.parameters.length) = some 3)⟩
theorem ca_X8_turns : ma_cal mi_X8_turns := ⟨by decide +kernel, Or.inl ⟨q2351, rfl⟩⟩
theorem V_X8_turns : ma_vir mi_X8_turns "PrairiePoolModel" 3 := ⟨ca_X8_turns, q2349, q2350, ⟨by decide +kernel, by decide +kernel⟩, (by decide +kernel : (parseMethodDescriptor mi_X8_turns.1.desc).map (fun d => d.parameters.length) = some 3)⟩
theorem ca_X8_turnOf : ma_cal mi_X8_turnOf := ⟨by decide +kernel, Or.inl ⟨q2356, rfl⟩⟩
theorem V_X8_turnOf : ma_vir mi_X8_turnOf "PrairiePoolModel" 3 := ⟨ca_X8_turnOf, q2355, qs108, ⟨by decide +kernel, by decide +kernel⟩, (by decide +kernel : (parseMethodDescriptor mi_X8_turnOf.1.desc).map (fun d => d.parameters.length) = some 3)⟩
theorem ca_X8_sign : ma_cal mi_X8_sign := ⟨by decide +kernel, Or.inl ⟨q2360, rfl⟩⟩
theorem V_X8_sign : ma_vir mi_X8_sign "PrairiePoolModel" 3 := ⟨ca_X8_sign, q2358, q2359, ⟨by decide +kernel, by decide +kernel⟩, (by decide +kernel : (parseMethodDescriptor mi_X8_sign.1.desc).map (fun d => d.parameters.length) = some 3)⟩
theorem ca_X8_let : ma_cal mi_X8_let := ⟨by decide +kernel, Or.inl ⟨q2364, rfl⟩⟩
theorem V_X8_let : ma_vir mi_X8_let "PrairiePoolModel" 3 := ⟨ca_X8_let, q2362, q2363, ⟨by decide +kernel, by decide +kernel⟩, (by decide +kernel : (parseMethodDescriptor mi_X8_let.1.desc).map (fun d => d.parameters.length) = some 3)⟩
theorem ca_X8_outside : ma_cal mi_X8_outside := ⟨by decide +kernel, Or.inl ⟨q2368, rfl⟩⟩
theorem V_X8_outside : ma_vir mi_X8_outside "PrairiePoolModel" 4 := ⟨ca_X8_outside, q2366, q2367, ⟨by decide +kernel, by decide +kernel⟩, (by decide +kernel : (parseMethodDescriptor mi_X8_outside.1.desc).map (fun d => d.parameters.length) = some 4)⟩
theorem ca_X8_breach : ma_cal mi_X8_breach := ⟨by decide +kernel, Or.inl ⟨q2372, rfl⟩⟩
theorem V_X8_breach : ma_vir mi_X8_breach "PrairiePoolModel" 1 := ⟨ca_X8_breach, q2370, q2371, ⟨by decide +kernel, by decide +kernel⟩, (by decide +kernel : (parseMethodDescriptor mi_X8_breach.1.desc).map (fun d => d.parameters.length) = some 1)⟩
theorem ca_X8_breachOf : ma_cal mi_X8_breachOf := ⟨by decide +kernel, Or.inl ⟨q2376, rfl⟩⟩
theorem V_X8_breachOf : ma_vir mi_X8_breachOf "PrairiePoolModel" 1 := ⟨ca_X8_breachOf, q2375, qs109, ⟨by decide +kernel, by decide +kernel⟩, (by decide +kernel : (parseMethodDescriptor mi_X8_breachOf.1.desc).map (fun d => d.parameters.length) = some 1)⟩
theorem ca_X8_cost : ma_cal mi_X8_cost := ⟨by decide +kernel, Or.inl ⟨q2380, rfl⟩⟩
theorem V_X8_cost : ma_vir mi_X8_cost "PrairiePoolModel" 2 := ⟨ca_X8_cost, q2378, q2379, ⟨by decide +kernel, by decide +kernel⟩, (by decide +kernel : (parseMethodDescriptor mi_X8_cost.1.desc).map (fun d => d.parameters.length) = some 2)⟩
theorem ca_X8_price : ma_cal mi_X8_price := ⟨by decide +kernel, Or.inl ⟨q2384, rfl⟩⟩
theorem V_X8_price : ma_vir mi_X8_price "PrairiePoolModel" 2 := ⟨ca_X8_price, q2382, q2383, ⟨by decide +kernel, by decide +kernel⟩, (by decide +kernel : (parseMethodDescriptor mi_X8_price.1.desc).map (fun d => d.parameters.length) = some 2)⟩
theorem ca_X8_rules : ma_cal mi_X8_rules := ⟨by decide +kernel, Or.inl ⟨q2388, rfl⟩⟩
theorem V_X8_rules : ma_vir mi_X8_rules "PrairiePoolModel" 2 := ⟨ca_X8_rules, q2386, q2387, ⟨by decide +kernel, by decide +kernel⟩, (by decide +kernel : (parseMethodDescriptor mi_X8_rules.1.desc).map (fun d => d.parameters.length) = some 2)⟩
theorem ca_X8_alone : ma_cal mi_X8_alone := ⟨by decide +kernel, Or.inl ⟨q2393, rfl⟩⟩
theorem V_X8_alone : ma_vir mi_X8_alone "PrairiePoolModel" 3 := ⟨ca_X8_alone, q2391, q2392, ⟨by decide +kernel, by decide +kernel⟩, (by decide +kernel : (parseMethodDescriptor mi_X8_alone.1.desc).map (fun d => d.parameters.length) = some 3)⟩
theorem ca_X8_aloneOf : ma_cal mi_X8_aloneOf := ⟨by decide +kernel, Or.inl ⟨q2397, rfl⟩⟩
theorem V_X8_aloneOf : ma_vir mi_X8_aloneOf "PrairiePoolModel" 3 := ⟨ca_X8_aloneOf, q2396, qs110, ⟨by decide +kernel, by decide +kernel⟩, (by decide +kernel : (parseMethodDescriptor mi_X8_aloneOf.1.desc).map (fun d => d.parameters.length) = some 3)⟩
theorem ca_X8_more : ma_cal mi_X8_more := ⟨by decide +kernel, Or.inl ⟨q2401, rfl⟩⟩
theorem V_X8_more : ma_vir mi_X8_more "PrairiePoolModel" 2 := ⟨ca_X8_more, q2399, q2400, ⟨by decide +kernel, by decide +kernel⟩, (by decide +kernel : (parseMethodDescriptor mi_X8_more.1.desc).map (fun d => d.parameters.length) = some 2)⟩
theorem ca_X8_vote : ma_cal mi_X8_vote := ⟨by decide +kernel, Or.inl ⟨q2405, rfl⟩⟩
theorem V_X8_vote : ma_vir mi_X8_vote "PrairiePoolModel" 2 := ⟨ca_X8_vote, q2403, q2404, ⟨by decide +kernel, by decide +kernel⟩, (by decide +kernel : (parseMethodDescriptor mi_X8_vote.1.desc).map (fun d => d.parameters.length) = some 2)⟩
theorem ca_X8_result : ma_cal mi_X8_result := ⟨by decide +kernel, Or.inl ⟨q2409, rfl⟩⟩
theorem V_X8_result : ma_vir mi_X8_result "PrairiePoolModel" 2 := ⟨ca_X8_result, q2407, q2408, ⟨by decide +kernel, by decide +kernel⟩, (by decide +kernel : (parseMethodDescriptor mi_X8_result.1.desc).map (fun d => d.parameters.length) = some 2)⟩
theorem ca_X8_findVotes : ma_cal mi_X8_findVotes := ⟨by decide +kernel, Or.inl ⟨q2413, rfl⟩⟩
theorem V_X8_findVotes : ma_vir mi_X8_findVotes "PrairiePoolModel" 1 := ⟨ca_X8_findVotes, q2412, qs111, ⟨by decide +kernel, by decide +kernel⟩, (by decide +kernel : (parseMethodDescriptor mi_X8_findVotes.1.desc).map (fun d => d.parameters.length) = some 1)⟩
theorem ca_X8_isFor : ma_cal mi_X8_isFor := ⟨by decide +kernel, Or.inl ⟨q2417, rfl⟩⟩
theorem V_X8_isFor : ma_vir mi_X8_isFor "PrairiePoolModel" 0 := ⟨ca_X8_isFor, q2416, qs112, ⟨by decide +kernel, by decide +kernel⟩, (by decide +kernel : (parseMethodDescriptor mi_X8_isFor.1.desc).map (fun d => d.parameters.length) = some 0)⟩
theorem ca_X8_hangs : ma_cal mi_X8_hangs := ⟨by decide +kernel, Or.inl ⟨q2421, rfl⟩⟩
theorem V_X8_hangs : ma_vir mi_X8_hangs "PrairiePoolModel" 1 := ⟨ca_X8_hangs, q2419, q2420, ⟨by decide +kernel, by decide +kernel⟩, (by decide +kernel : (parseMethodDescriptor mi_X8_hangs.1.desc).map (fun d => d.parameters.length) = some 1)⟩
theorem ca_X8_add : ma_cal mi_X8_add := ⟨by decide +kernel, Or.inl ⟨q2426, rfl⟩⟩
theorem V_X8_add : ma_vir mi_X8_add "PrairiePoolModel" 4 := ⟨ca_X8_add, q2425, qs113, ⟨by decide +kernel, by decide +kernel⟩, (by decide +kernel : (parseMethodDescriptor mi_X8_add.1.desc).map (fun d => d.parameters.length) = some 4)⟩
theorem ca_X8_warm : ma_cal mi_X8_warm := ⟨by decide +kernel, Or.inl ⟨q2430, rfl⟩⟩
theorem V_X8_warm : ma_vir mi_X8_warm "PrairiePoolModel" 3 := ⟨ca_X8_warm, q2428, q2429, ⟨by decide +kernel, by decide +kernel⟩, (by decide +kernel : (parseMethodDescriptor mi_X8_warm.1.desc).map (fun d => d.parameters.length) = some 3)⟩
theorem ca_X8_numberOf : ma_cal mi_X8_numberOf := ⟨by decide +kernel, Or.inl ⟨q2435, rfl⟩⟩
theorem V_X8_numberOf : ma_vir mi_X8_numberOf "PrairiePoolModel" 2 := ⟨ca_X8_numberOf, q2434, qs114, ⟨by decide +kernel, by decide +kernel⟩, (by decide +kernel : (parseMethodDescriptor mi_X8_numberOf.1.desc).map (fun d => d.parameters.length) = some 2)⟩
theorem ca_X8_canTurn : ma_cal mi_X8_canTurn := ⟨by decide +kernel, Or.inl ⟨q2439, rfl⟩⟩
theorem V_X8_canTurn : ma_vir mi_X8_canTurn "PrairiePoolModel" 3 := ⟨ca_X8_canTurn, q2438, qs115, ⟨by decide +kernel, by decide +kernel⟩, (by decide +kernel : (parseMethodDescriptor mi_X8_canTurn.1.desc).map (fun d => d.parameters.length) = some 3)⟩
theorem ca_X8_turned : ma_cal mi_X8_turned := ⟨by decide +kernel, Or.inl ⟨q2443, rfl⟩⟩
theorem V_X8_turned : ma_vir mi_X8_turned "PrairiePoolModel" 1 := ⟨ca_X8_turned, q2441, q2442, ⟨by decide +kernel, by decide +kernel⟩, (by decide +kernel : (parseMethodDescriptor mi_X8_turned.1.desc).map (fun d => d.parameters.length) = some 1)⟩
theorem ca_X8_send : ma_cal mi_X8_send := ⟨by decide +kernel, Or.inl ⟨q2448, rfl⟩⟩
theorem V_X8_send : ma_vir mi_X8_send "PrairiePoolModel" 5 := ⟨ca_X8_send, q2446, q2447, ⟨by decide +kernel, by decide +kernel⟩, (by decide +kernel : (parseMethodDescriptor mi_X8_send.1.desc).map (fun d => d.parameters.length) = some 5)⟩
theorem ca_X8_asksSend : ma_cal mi_X8_asksSend := ⟨by decide +kernel, Or.inl ⟨q2452, rfl⟩⟩
theorem V_X8_asksSend : ma_vir mi_X8_asksSend "PrairiePoolModel" 5 := ⟨ca_X8_asksSend, q2451, qs116, ⟨by decide +kernel, by decide +kernel⟩, (by decide +kernel : (parseMethodDescriptor mi_X8_asksSend.1.desc).map (fun d => d.parameters.length) = some 5)⟩
theorem ca_X8_bushel : ma_cal mi_X8_bushel := ⟨by decide +kernel, Or.inl ⟨q2457, rfl⟩⟩
theorem V_X8_bushel : ma_vir mi_X8_bushel "PrairiePoolModel" 2 := ⟨ca_X8_bushel, q2456, qs117, ⟨by decide +kernel, by decide +kernel⟩, (by decide +kernel : (parseMethodDescriptor mi_X8_bushel.1.desc).map (fun d => d.parameters.length) = some 2)⟩
theorem ca_X9_init : ma_cal mi_X9_init := ⟨by decide +kernel, Or.inl ⟨q765, rfl⟩⟩
theorem I_X9_init : ma_ini mi_X9_init 4 := ⟨ca_X9_init, rfl, q764, q765, ⟨by decide +kernel, by decide +kernel⟩, (by decide +kernel : (parseMethodDescriptor mi_X9_init.1.desc).map (fun d => d.parameters.length) = some 4)⟩
theorem ca_X9_isSigned : ma_cal mi_X9_isSigned := ⟨by decide +kernel, Or.inl ⟨q1536, rfl⟩⟩
theorem V_X9_isSigned : ma_vir mi_X9_isSigned "PrairiePool$Farm" 1 := ⟨ca_X9_isSigned, q1534, q1535, ⟨by decide +kernel, by decide +kernel⟩, (by decide +kernel : (parseMethodDescriptor mi_X9_isSigned.1.desc).map (fun d => d.parameters.length) = some 1)⟩
theorem cl_0 : ma_cl[0]? = some ("PrairiePool", TX0, 55) := rfl
theorem dk_0 : ∀ k, k < 55 → ma_dok (ma_fty 0 k) = true := by decide +kernel
theorem fv_0_0 (h : ah_T) (a : Nat) : ah_val (ma_fty 0 0) h a 0 = rv (ah_R h a 0) := rfl
theorem fv_0_1 (h : ah_T) (a : Nat) : ah_val (ma_fty 0 1) h a 1 = rv (ah_R h a 1) := rfl
theorem fv_0_2 (h : ah_T) (a : Nat) : ah_val (ma_fty 0 2) h a 2 = rv (ah_R h a 2) := rfl
theorem fv_0_3 (h : ah_T) (a : Nat) : ah_val (ma_fty 0 3) h a 3 = rv (ah_R h a 3) := rfl
theorem fv_0_4 (h : ah_T) (a : Nat) : ah_val (ma_fty 0 4) h a 4 = rv (ah_R h a 4) := rfl
theorem fv_0_5 (h : ah_T) (a : Nat) : ah_val (ma_fty 0 5) h a 5 = rv (ah_R h a 5) := rfl
theorem fv_0_6 (h : ah_T) (a : Nat) : ah_val (ma_fty 0 6) h a 6 = rv (ah_R h a 6) := rfl
theorem fv_0_7 (h : ah_T) (a : Nat) : ah_val (ma_fty 0 7) h a 7 = rv (ah_R h a 7) := rfl
theorem fv_0_8 (h : ah_T) (a : Nat) : ah_val (ma_fty 0 8) h a 8 = rv (ah_R h a 8) := rfl
theorem fv_0_9 (h : ah_T) (a : Nat) : ah_val (ma_fty 0 9) h a 9 = rv (ah_R h a 9) := rfl
theorem fv_0_10 (h : ah_T) (a : Nat) : ah_val (ma_fty 0 10) h a 10 = rv (ah_R h a 10) := rfl
theorem fv_0_11 (h : ah_T) (a : Nat) : ah_val (ma_fty 0 11) h a 11 = rv (ah_R h a 11) := rfl
theorem fv_0_12 (h : ah_T) (a : Nat) : ah_val (ma_fty 0 12) h a 12 = rv (ah_R h a 12) := rfl
theorem fv_0_13 (h : ah_T) (a : Nat) : ah_val (ma_fty 0 13) h a 13 = rv (ah_R h a 13) := rfl
theorem fv_0_14 (h : ah_T) (a : Nat) : ah_val (ma_fty 0 14) h a 14 = iv (ah_I h a 14) := rfl
theorem fv_0_15 (h : ah_T) (a : Nat) : ah_val (ma_fty 0 15) h a 15 = iv (ah_I h a 15) := rfl
theorem fv_0_16 (h : ah_T) (a : Nat) : ah_val (ma_fty 0 16) h a 16 = iv (ah_I h a 16) := rfl
theorem fv_0_17 (h : ah_T) (a : Nat) : ah_val (ma_fty 0 17) h a 17 = iv (ah_I h a 17) := rfl
theorem fv_0_18 (h : ah_T) (a : Nat) : ah_val (ma_fty 0 18) h a 18 = iv (ah_I h a 18) := rfl
theorem fv_0_19 (h : ah_T) (a : Nat) : ah_val (ma_fty 0 19) h a 19 = iv (ah_I h a 19) := rfl
theorem fv_0_20 (h : ah_T) (a : Nat) : ah_val (ma_fty 0 20) h a 20 = iv (ah_I h a 20) := rfl
theorem fv_0_21 (h : ah_T) (a : Nat) : ah_val (ma_fty 0 21) h a 21 = iv (ah_I h a 21) := rfl
theorem fv_0_22 (h : ah_T) (a : Nat) : ah_val (ma_fty 0 22) h a 22 = iv (ah_I h a 22) := rfl
theorem fv_0_23 (h : ah_T) (a : Nat) : ah_val (ma_fty 0 23) h a 23 = rv (ah_R h a 23) := rfl
theorem fv_0_24 (h : ah_T) (a : Nat) : ah_val (ma_fty 0 24) h a 24 = rv (ah_R h a 24) := rfl
theorem fv_0_25 (h : ah_T) (a : Nat) : ah_val (ma_fty 0 25) h a 25 = rv (ah_R h a 25) := rfl
theorem fv_0_26 (h : ah_T) (a : Nat) : ah_val (ma_fty 0 26) h a 26 = rv (ah_R h a 26) := rfl
theorem fv_0_27 (h : ah_T) (a : Nat) : ah_val (ma_fty 0 27) h a 27 = jv (ah_J h a 27) := rfl
theorem fv_0_28 (h : ah_T) (a : Nat) : ah_val (ma_fty 0 28) h a 28 = jv (ah_J h a 28) := rfl
theorem fv_0_29 (h : ah_T) (a : Nat) : ah_val (ma_fty 0 29) h a 29 = rv (ah_R h a 29) := rfl
theorem fv_0_30 (h : ah_T) (a : Nat) : ah_val (ma_fty 0 30) h a 30 = rv (ah_R h a 30) := rfl
theorem fv_0_31 (h : ah_T) (a : Nat) : ah_val (ma_fty 0 31) h a 31 = rv (ah_R h a 31) := rfl
theorem fv_0_32 (h : ah_T) (a : Nat) : ah_val (ma_fty 0 32) h a 32 = rv (ah_R h a 32) := rfl
theorem fv_0_33 (h : ah_T) (a : Nat) : ah_val (ma_fty 0 33) h a 33 = rv (ah_R h a 33) := rfl
theorem fv_0_34 (h : ah_T) (a : Nat) : ah_val (ma_fty 0 34) h a 34 = rv (ah_R h a 34) := rfl
theorem fv_0_35 (h : ah_T) (a : Nat) : ah_val (ma_fty 0 35) h a 35 = rv (ah_R h a 35) := rfl
theorem fv_0_36 (h : ah_T) (a : Nat) : ah_val (ma_fty 0 36) h a 36 = iv (ah_I h a 36) := rfl
theorem fv_0_37 (h : ah_T) (a : Nat) : ah_val (ma_fty 0 37) h a 37 = iv (ah_I h a 37) := rfl
theorem fv_0_38 (h : ah_T) (a : Nat) : ah_val (ma_fty 0 38) h a 38 = iv (ah_I h a 38) := rfl
theorem fv_0_39 (h : ah_T) (a : Nat) : ah_val (ma_fty 0 39) h a 39 = rv (ah_R h a 39) := rfl
theorem fv_0_40 (h : ah_T) (a : Nat) : ah_val (ma_fty 0 40) h a 40 = rv (ah_R h a 40) := rfl
theorem fv_0_41 (h : ah_T) (a : Nat) : ah_val (ma_fty 0 41) h a 41 = rv (ah_R h a 41) := rfl
theorem fv_0_42 (h : ah_T) (a : Nat) : ah_val (ma_fty 0 42) h a 42 = rv (ah_R h a 42) := rfl
theorem fv_0_43 (h : ah_T) (a : Nat) : ah_val (ma_fty 0 43) h a 43 = rv (ah_R h a 43) := rfl
theorem fv_0_44 (h : ah_T) (a : Nat) : ah_val (ma_fty 0 44) h a 44 = rv (ah_R h a 44) := rfl
theorem fv_0_45 (h : ah_T) (a : Nat) : ah_val (ma_fty 0 45) h a 45 = rv (ah_R h a 45) := rfl
theorem fv_0_46 (h : ah_T) (a : Nat) : ah_val (ma_fty 0 46) h a 46 = iv (ah_I h a 46) := rfl
theorem fv_0_47 (h : ah_T) (a : Nat) : ah_val (ma_fty 0 47) h a 47 = rv (ah_R h a 47) := rfl
theorem fv_0_48 (h : ah_T) (a : Nat) : ah_val (ma_fty 0 48) h a 48 = rv (ah_R h a 48) := rfl
theorem fv_0_49 (h : ah_T) (a : Nat) : ah_val (ma_fty 0 49) h a 49 = rv (ah_R h a 49) := rfl
theorem fv_0_50 (h : ah_T) (a : Nat) : ah_val (ma_fty 0 50) h a 50 = rv (ah_R h a 50) := rfl
theorem fv_0_51 (h : ah_T) (a : Nat) : ah_val (ma_fty 0 51) h a 51 = rv (ah_R h a 51) := rfl
theorem fv_0_52 (h : ah_T) (a : Nat) : ah_val (ma_fty 0 52) h a 52 = rv (ah_R h a 52) := rfl
theorem fv_0_53 (h : ah_T) (a : Nat) : ah_val (ma_fty 0 53) h a 53 = rv (ah_R h a 53) := rfl
theorem fv_0_54 (h : ah_T) (a : Nat) : ah_val (ma_fty 0 54) h a 54 = rv (ah_R h a 54) := rfl
theorem cl_1 : ma_cl[1]? = some ("PrairiePool$Play", TX1, 12) := rfl
theorem dk_1 : ∀ k, k < 12 → ma_dok (ma_fty 1 k) = true := by decide +kernel
theorem fv_1_0 (h : ah_T) (a : Nat) : ah_val (ma_fty 1 0) h a 0 = rv (ah_R h a 0) := rfl
theorem fv_1_1 (h : ah_T) (a : Nat) : ah_val (ma_fty 1 1) h a 1 = rv (ah_R h a 1) := rfl
theorem fv_1_2 (h : ah_T) (a : Nat) : ah_val (ma_fty 1 2) h a 2 = rv (ah_R h a 2) := rfl
theorem fv_1_3 (h : ah_T) (a : Nat) : ah_val (ma_fty 1 3) h a 3 = rv (ah_R h a 3) := rfl
theorem fv_1_4 (h : ah_T) (a : Nat) : ah_val (ma_fty 1 4) h a 4 = rv (ah_R h a 4) := rfl
theorem fv_1_5 (h : ah_T) (a : Nat) : ah_val (ma_fty 1 5) h a 5 = rv (ah_R h a 5) := rfl
theorem fv_1_6 (h : ah_T) (a : Nat) : ah_val (ma_fty 1 6) h a 6 = rv (ah_R h a 6) := rfl
theorem fv_1_7 (h : ah_T) (a : Nat) : ah_val (ma_fty 1 7) h a 7 = rv (ah_R h a 7) := rfl
theorem fv_1_8 (h : ah_T) (a : Nat) : ah_val (ma_fty 1 8) h a 8 = rv (ah_R h a 8) := rfl
theorem fv_1_9 (h : ah_T) (a : Nat) : ah_val (ma_fty 1 9) h a 9 = rv (ah_R h a 9) := rfl
theorem fv_1_10 (h : ah_T) (a : Nat) : ah_val (ma_fty 1 10) h a 10 = rv (ah_R h a 10) := rfl
theorem fv_1_11 (h : ah_T) (a : Nat) : ah_val (ma_fty 1 11) h a 11 = jv (ah_J h a 11) := rfl
theorem cl_2 : ma_cl[2]? = some ("PrairiePool$Parts", TX2, 3) := rfl
theorem dk_2 : ∀ k, k < 3 → ma_dok (ma_fty 2 k) = true := by decide +kernel
theorem fv_2_0 (h : ah_T) (a : Nat) : ah_val (ma_fty 2 0) h a 0 = rv (ah_R h a 0) := rfl
theorem fv_2_1 (h : ah_T) (a : Nat) : ah_val (ma_fty 2 1) h a 1 = rv (ah_R h a 1) := rfl
theorem fv_2_2 (h : ah_T) (a : Nat) : ah_val (ma_fty 2 2) h a 2 = rv (ah_R h a 2) := rfl
theorem cl_3 : ma_cl[3]? = some ("PrairiePool$Heap", TX3, 2) := rfl
theorem dk_3 : ∀ k, k < 2 → ma_dok (ma_fty 3 k) = true := by decide +kernel
theorem fv_3_0 (h : ah_T) (a : Nat) : ah_val (ma_fty 3 0) h a 0 = rv (ah_R h a 0) := rfl
theorem fv_3_1 (h : ah_T) (a : Nat) : ah_val (ma_fty 3 1) h a 1 = iv (ah_I h a 1) := rfl
theorem cl_4 : ma_cl[4]? = some ("PrairiePool$Wrong", TX4, 8) := rfl
theorem dk_4 : ∀ k, k < 8 → ma_dok (ma_fty 4 k) = true := by decide +kernel
theorem fv_4_0 (h : ah_T) (a : Nat) : ah_val (ma_fty 4 0) h a 0 = rv (ah_R h a 0) := rfl
theorem fv_4_1 (h : ah_T) (a : Nat) : ah_val (ma_fty 4 1) h a 1 = rv (ah_R h a 1) := rfl
theorem fv_4_2 (h : ah_T) (a : Nat) : ah_val (ma_fty 4 2) h a 2 = rv (ah_R h a 2) := rfl
theorem fv_4_3 (h : ah_T) (a : Nat) : ah_val (ma_fty 4 3) h a 3 = rv (ah_R h a 3) := rfl
theorem fv_4_4 (h : ah_T) (a : Nat) : ah_val (ma_fty 4 4) h a 4 = rv (ah_R h a 4) := rfl
theorem fv_4_5 (h : ah_T) (a : Nat) : ah_val (ma_fty 4 5) h a 5 = iv (ah_I h a 5) := rfl
theorem fv_4_6 (h : ah_T) (a : Nat) : ah_val (ma_fty 4 6) h a 6 = iv (ah_I h a 6) := rfl
theorem fv_4_7 (h : ah_T) (a : Nat) : ah_val (ma_fty 4 7) h a 7 = iv (ah_I h a 7) := rfl
theorem cl_5 : ma_cl[5]? = some ("PrairiePool$Reader", TX5, 9) := rfl
theorem dk_5 : ∀ k, k < 9 → ma_dok (ma_fty 5 k) = true := by decide +kernel
theorem fv_5_0 (h : ah_T) (a : Nat) : ah_val (ma_fty 5 0) h a 0 = rv (ah_R h a 0) := rfl
theorem fv_5_1 (h : ah_T) (a : Nat) : ah_val (ma_fty 5 1) h a 1 = iv (ah_I h a 1) := rfl
theorem fv_5_2 (h : ah_T) (a : Nat) : ah_val (ma_fty 5 2) h a 2 = iv (ah_I h a 2) := rfl
theorem fv_5_3 (h : ah_T) (a : Nat) : ah_val (ma_fty 5 3) h a 3 = iv (ah_I h a 3) := rfl
theorem fv_5_4 (h : ah_T) (a : Nat) : ah_val (ma_fty 5 4) h a 4 = iv (ah_I h a 4) := rfl
theorem fv_5_5 (h : ah_T) (a : Nat) : ah_val (ma_fty 5 5) h a 5 = iv (ah_I h a 5) := rfl
theorem fv_5_6 (h : ah_T) (a : Nat) : ah_val (ma_fty 5 6) h a 6 = jv (ah_J h a 6) := rfl
theorem fv_5_7 (h : ah_T) (a : Nat) : ah_val (ma_fty 5 7) h a 7 = rv (ah_R h a 7) := rfl
theorem fv_5_8 (h : ah_T) (a : Nat) : ah_val (ma_fty 5 8) h a 8 = rv (ah_R h a 8) := rfl
theorem cl_6 : ma_cl[6]? = some ("PrairiePool$Asked", TX6, 4) := rfl
theorem dk_6 : ∀ k, k < 4 → ma_dok (ma_fty 6 k) = true := by decide +kernel
theorem fv_6_0 (h : ah_T) (a : Nat) : ah_val (ma_fty 6 0) h a 0 = rv (ah_R h a 0) := rfl
theorem fv_6_1 (h : ah_T) (a : Nat) : ah_val (ma_fty 6 1) h a 1 = rv (ah_R h a 1) := rfl
theorem fv_6_2 (h : ah_T) (a : Nat) : ah_val (ma_fty 6 2) h a 2 = rv (ah_R h a 2) := rfl
theorem fv_6_3 (h : ah_T) (a : Nat) : ah_val (ma_fty 6 3) h a 3 = rv (ah_R h a 3) := rfl
theorem cl_7 : ma_cl[7]? = some ("PrairiePool$Tray", TX7, 2) := rfl
theorem dk_7 : ∀ k, k < 2 → ma_dok (ma_fty 7 k) = true := by decide +kernel
theorem fv_7_0 (h : ah_T) (a : Nat) : ah_val (ma_fty 7 0) h a 0 = rv (ah_R h a 0) := rfl
theorem fv_7_1 (h : ah_T) (a : Nat) : ah_val (ma_fty 7 1) h a 1 = iv (ah_I h a 1) := rfl
theorem cl_8 : ma_cl[8]? = some ("PrairiePoolModel", TX8, 109) := rfl
theorem dk_8 : ∀ k, k < 109 → ma_dok (ma_fty 8 k) = true := by decide +kernel
theorem fv_8_0 (h : ah_T) (a : Nat) : ah_val (ma_fty 8 0) h a 0 = iv (ah_I h a 0) := rfl
theorem fv_8_1 (h : ah_T) (a : Nat) : ah_val (ma_fty 8 1) h a 1 = iv (ah_I h a 1) := rfl
theorem fv_8_2 (h : ah_T) (a : Nat) : ah_val (ma_fty 8 2) h a 2 = rv (ah_R h a 2) := rfl
theorem fv_8_3 (h : ah_T) (a : Nat) : ah_val (ma_fty 8 3) h a 3 = rv (ah_R h a 3) := rfl
theorem fv_8_4 (h : ah_T) (a : Nat) : ah_val (ma_fty 8 4) h a 4 = rv (ah_R h a 4) := rfl
theorem fv_8_5 (h : ah_T) (a : Nat) : ah_val (ma_fty 8 5) h a 5 = iv (ah_I h a 5) := rfl
theorem fv_8_6 (h : ah_T) (a : Nat) : ah_val (ma_fty 8 6) h a 6 = iv (ah_I h a 6) := rfl
theorem fv_8_7 (h : ah_T) (a : Nat) : ah_val (ma_fty 8 7) h a 7 = iv (ah_I h a 7) := rfl
theorem fv_8_8 (h : ah_T) (a : Nat) : ah_val (ma_fty 8 8) h a 8 = iv (ah_I h a 8) := rfl
theorem fv_8_9 (h : ah_T) (a : Nat) : ah_val (ma_fty 8 9) h a 9 = iv (ah_I h a 9) := rfl
theorem fv_8_10 (h : ah_T) (a : Nat) : ah_val (ma_fty 8 10) h a 10 = iv (ah_I h a 10) := rfl
theorem fv_8_11 (h : ah_T) (a : Nat) : ah_val (ma_fty 8 11) h a 11 = rv (ah_R h a 11) := rfl
theorem fv_8_12 (h : ah_T) (a : Nat) : ah_val (ma_fty 8 12) h a 12 = rv (ah_R h a 12) := rfl
theorem fv_8_13 (h : ah_T) (a : Nat) : ah_val (ma_fty 8 13) h a 13 = rv (ah_R h a 13) := rfl
theorem fv_8_14 (h : ah_T) (a : Nat) : ah_val (ma_fty 8 14) h a 14 = rv (ah_R h a 14) := rfl
theorem fv_8_15 (h : ah_T) (a : Nat) : ah_val (ma_fty 8 15) h a 15 = rv (ah_R h a 15) := rfl
theorem fv_8_16 (h : ah_T) (a : Nat) : ah_val (ma_fty 8 16) h a 16 = rv (ah_R h a 16) := rfl
theorem fv_8_17 (h : ah_T) (a : Nat) : ah_val (ma_fty 8 17) h a 17 = rv (ah_R h a 17) := rfl
theorem fv_8_18 (h : ah_T) (a : Nat) : ah_val (ma_fty 8 18) h a 18 = rv (ah_R h a 18) := rfl
theorem fv_8_19 (h : ah_T) (a : Nat) : ah_val (ma_fty 8 19) h a 19 = rv (ah_R h a 19) := rfl
theorem fv_8_20 (h : ah_T) (a : Nat) : ah_val (ma_fty 8 20) h a 20 = rv (ah_R h a 20) := rfl
theorem fv_8_21 (h : ah_T) (a : Nat) : ah_val (ma_fty 8 21) h a 21 = rv (ah_R h a 21) := rfl
theorem fv_8_22 (h : ah_T) (a : Nat) : ah_val (ma_fty 8 22) h a 22 = rv (ah_R h a 22) := rfl
theorem fv_8_23 (h : ah_T) (a : Nat) : ah_val (ma_fty 8 23) h a 23 = rv (ah_R h a 23) := rfl
theorem fv_8_24 (h : ah_T) (a : Nat) : ah_val (ma_fty 8 24) h a 24 = rv (ah_R h a 24) := rfl
theorem fv_8_25 (h : ah_T) (a : Nat) : ah_val (ma_fty 8 25) h a 25 = rv (ah_R h a 25) := rfl
theorem fv_8_26 (h : ah_T) (a : Nat) : ah_val (ma_fty 8 26) h a 26 = rv (ah_R h a 26) := rfl
theorem fv_8_27 (h : ah_T) (a : Nat) : ah_val (ma_fty 8 27) h a 27 = rv (ah_R h a 27) := rfl
theorem fv_8_28 (h : ah_T) (a : Nat) : ah_val (ma_fty 8 28) h a 28 = rv (ah_R h a 28) := rfl
theorem fv_8_29 (h : ah_T) (a : Nat) : ah_val (ma_fty 8 29) h a 29 = rv (ah_R h a 29) := rfl
theorem fv_8_30 (h : ah_T) (a : Nat) : ah_val (ma_fty 8 30) h a 30 = rv (ah_R h a 30) := rfl
theorem fv_8_31 (h : ah_T) (a : Nat) : ah_val (ma_fty 8 31) h a 31 = rv (ah_R h a 31) := rfl
theorem fv_8_32 (h : ah_T) (a : Nat) : ah_val (ma_fty 8 32) h a 32 = rv (ah_R h a 32) := rfl
theorem fv_8_33 (h : ah_T) (a : Nat) : ah_val (ma_fty 8 33) h a 33 = rv (ah_R h a 33) := rfl
theorem fv_8_34 (h : ah_T) (a : Nat) : ah_val (ma_fty 8 34) h a 34 = rv (ah_R h a 34) := rfl
theorem fv_8_35 (h : ah_T) (a : Nat) : ah_val (ma_fty 8 35) h a 35 = rv (ah_R h a 35) := rfl
theorem fv_8_36 (h : ah_T) (a : Nat) : ah_val (ma_fty 8 36) h a 36 = rv (ah_R h a 36) := rfl
theorem fv_8_37 (h : ah_T) (a : Nat) : ah_val (ma_fty 8 37) h a 37 = rv (ah_R h a 37) := rfl
theorem fv_8_38 (h : ah_T) (a : Nat) : ah_val (ma_fty 8 38) h a 38 = rv (ah_R h a 38) := rfl
theorem fv_8_39 (h : ah_T) (a : Nat) : ah_val (ma_fty 8 39) h a 39 = iv (ah_I h a 39) := rfl
theorem fv_8_40 (h : ah_T) (a : Nat) : ah_val (ma_fty 8 40) h a 40 = rv (ah_R h a 40) := rfl
theorem fv_8_41 (h : ah_T) (a : Nat) : ah_val (ma_fty 8 41) h a 41 = rv (ah_R h a 41) := rfl
theorem fv_8_42 (h : ah_T) (a : Nat) : ah_val (ma_fty 8 42) h a 42 = rv (ah_R h a 42) := rfl
theorem fv_8_43 (h : ah_T) (a : Nat) : ah_val (ma_fty 8 43) h a 43 = rv (ah_R h a 43) := rfl
theorem fv_8_44 (h : ah_T) (a : Nat) : ah_val (ma_fty 8 44) h a 44 = iv (ah_I h a 44) := rfl
theorem fv_8_45 (h : ah_T) (a : Nat) : ah_val (ma_fty 8 45) h a 45 = iv (ah_I h a 45) := rfl
theorem fv_8_46 (h : ah_T) (a : Nat) : ah_val (ma_fty 8 46) h a 46 = iv (ah_I h a 46) := rfl
theorem fv_8_47 (h : ah_T) (a : Nat) : ah_val (ma_fty 8 47) h a 47 = iv (ah_I h a 47) := rfl
theorem fv_8_48 (h : ah_T) (a : Nat) : ah_val (ma_fty 8 48) h a 48 = iv (ah_I h a 48) := rfl
theorem fv_8_49 (h : ah_T) (a : Nat) : ah_val (ma_fty 8 49) h a 49 = iv (ah_I h a 49) := rfl
theorem fv_8_50 (h : ah_T) (a : Nat) : ah_val (ma_fty 8 50) h a 50 = iv (ah_I h a 50) := rfl
theorem fv_8_51 (h : ah_T) (a : Nat) : ah_val (ma_fty 8 51) h a 51 = iv (ah_I h a 51) := rfl
theorem fv_8_52 (h : ah_T) (a : Nat) : ah_val (ma_fty 8 52) h a 52 = iv (ah_I h a 52) := rfl
theorem fv_8_53 (h : ah_T) (a : Nat) : ah_val (ma_fty 8 53) h a 53 = iv (ah_I h a 53) := rfl
theorem fv_8_54 (h : ah_T) (a : Nat) : ah_val (ma_fty 8 54) h a 54 = iv (ah_I h a 54) := rfl
theorem fv_8_55 (h : ah_T) (a : Nat) : ah_val (ma_fty 8 55) h a 55 = jv (ah_J h a 55) := rfl
theorem fv_8_56 (h : ah_T) (a : Nat) : ah_val (ma_fty 8 56) h a 56 = iv (ah_I h a 56) := rfl
theorem fv_8_57 (h : ah_T) (a : Nat) : ah_val (ma_fty 8 57) h a 57 = iv (ah_I h a 57) := rfl
theorem fv_8_58 (h : ah_T) (a : Nat) : ah_val (ma_fty 8 58) h a 58 = iv (ah_I h a 58) := rfl
theorem fv_8_59 (h : ah_T) (a : Nat) : ah_val (ma_fty 8 59) h a 59 = rv (ah_R h a 59) := rfl
theorem fv_8_60 (h : ah_T) (a : Nat) : ah_val (ma_fty 8 60) h a 60 = rv (ah_R h a 60) := rfl
theorem fv_8_61 (h : ah_T) (a : Nat) : ah_val (ma_fty 8 61) h a 61 = rv (ah_R h a 61) := rfl
theorem fv_8_62 (h : ah_T) (a : Nat) : ah_val (ma_fty 8 62) h a 62 = rv (ah_R h a 62) := rfl
theorem fv_8_63 (h : ah_T) (a : Nat) : ah_val (ma_fty 8 63) h a 63 = rv (ah_R h a 63) := rfl
theorem fv_8_64 (h : ah_T) (a : Nat) : ah_val (ma_fty 8 64) h a 64 = rv (ah_R h a 64) := rfl
theorem fv_8_65 (h : ah_T) (a : Nat) : ah_val (ma_fty 8 65) h a 65 = rv (ah_R h a 65) := rfl
theorem fv_8_66 (h : ah_T) (a : Nat) : ah_val (ma_fty 8 66) h a 66 = rv (ah_R h a 66) := rfl
theorem fv_8_67 (h : ah_T) (a : Nat) : ah_val (ma_fty 8 67) h a 67 = rv (ah_R h a 67) := rfl
theorem fv_8_68 (h : ah_T) (a : Nat) : ah_val (ma_fty 8 68) h a 68 = rv (ah_R h a 68) := rfl
theorem fv_8_69 (h : ah_T) (a : Nat) : ah_val (ma_fty 8 69) h a 69 = rv (ah_R h a 69) := rfl
theorem fv_8_70 (h : ah_T) (a : Nat) : ah_val (ma_fty 8 70) h a 70 = rv (ah_R h a 70) := rfl
theorem fv_8_71 (h : ah_T) (a : Nat) : ah_val (ma_fty 8 71) h a 71 = rv (ah_R h a 71) := rfl
theorem fv_8_72 (h : ah_T) (a : Nat) : ah_val (ma_fty 8 72) h a 72 = iv (ah_I h a 72) := rfl
theorem fv_8_73 (h : ah_T) (a : Nat) : ah_val (ma_fty 8 73) h a 73 = rv (ah_R h a 73) := rfl
theorem fv_8_74 (h : ah_T) (a : Nat) : ah_val (ma_fty 8 74) h a 74 = rv (ah_R h a 74) := rfl
theorem fv_8_75 (h : ah_T) (a : Nat) : ah_val (ma_fty 8 75) h a 75 = rv (ah_R h a 75) := rfl
theorem fv_8_76 (h : ah_T) (a : Nat) : ah_val (ma_fty 8 76) h a 76 = rv (ah_R h a 76) := rfl
theorem fv_8_77 (h : ah_T) (a : Nat) : ah_val (ma_fty 8 77) h a 77 = jv (ah_J h a 77) := rfl
theorem fv_8_78 (h : ah_T) (a : Nat) : ah_val (ma_fty 8 78) h a 78 = jv (ah_J h a 78) := rfl
theorem fv_8_79 (h : ah_T) (a : Nat) : ah_val (ma_fty 8 79) h a 79 = rv (ah_R h a 79) := rfl
theorem fv_8_80 (h : ah_T) (a : Nat) : ah_val (ma_fty 8 80) h a 80 = rv (ah_R h a 80) := rfl
theorem fv_8_81 (h : ah_T) (a : Nat) : ah_val (ma_fty 8 81) h a 81 = rv (ah_R h a 81) := rfl
theorem fv_8_82 (h : ah_T) (a : Nat) : ah_val (ma_fty 8 82) h a 82 = rv (ah_R h a 82) := rfl
theorem fv_8_83 (h : ah_T) (a : Nat) : ah_val (ma_fty 8 83) h a 83 = rv (ah_R h a 83) := rfl
theorem fv_8_84 (h : ah_T) (a : Nat) : ah_val (ma_fty 8 84) h a 84 = rv (ah_R h a 84) := rfl
theorem fv_8_85 (h : ah_T) (a : Nat) : ah_val (ma_fty 8 85) h a 85 = rv (ah_R h a 85) := rfl
theorem fv_8_86 (h : ah_T) (a : Nat) : ah_val (ma_fty 8 86) h a 86 = rv (ah_R h a 86) := rfl
theorem fv_8_87 (h : ah_T) (a : Nat) : ah_val (ma_fty 8 87) h a 87 = rv (ah_R h a 87) := rfl
theorem fv_8_88 (h : ah_T) (a : Nat) : ah_val (ma_fty 8 88) h a 88 = iv (ah_I h a 88) := rfl
theorem fv_8_89 (h : ah_T) (a : Nat) : ah_val (ma_fty 8 89) h a 89 = iv (ah_I h a 89) := rfl
theorem fv_8_90 (h : ah_T) (a : Nat) : ah_val (ma_fty 8 90) h a 90 = iv (ah_I h a 90) := rfl
theorem fv_8_91 (h : ah_T) (a : Nat) : ah_val (ma_fty 8 91) h a 91 = rv (ah_R h a 91) := rfl
theorem fv_8_92 (h : ah_T) (a : Nat) : ah_val (ma_fty 8 92) h a 92 = rv (ah_R h a 92) := rfl
theorem fv_8_93 (h : ah_T) (a : Nat) : ah_val (ma_fty 8 93) h a 93 = rv (ah_R h a 93) := rfl
theorem fv_8_94 (h : ah_T) (a : Nat) : ah_val (ma_fty 8 94) h a 94 = rv (ah_R h a 94) := rfl
theorem fv_8_95 (h : ah_T) (a : Nat) : ah_val (ma_fty 8 95) h a 95 = rv (ah_R h a 95) := rfl
theorem fv_8_96 (h : ah_T) (a : Nat) : ah_val (ma_fty 8 96) h a 96 = rv (ah_R h a 96) := rfl
theorem fv_8_97 (h : ah_T) (a : Nat) : ah_val (ma_fty 8 97) h a 97 = rv (ah_R h a 97) := rfl
theorem fv_8_98 (h : ah_T) (a : Nat) : ah_val (ma_fty 8 98) h a 98 = rv (ah_R h a 98) := rfl
theorem fv_8_99 (h : ah_T) (a : Nat) : ah_val (ma_fty 8 99) h a 99 = rv (ah_R h a 99) := rfl
theorem fv_8_100 (h : ah_T) (a : Nat) : ah_val (ma_fty 8 100) h a 100 = rv (ah_R h a 100) := rfl
theorem fv_8_101 (h : ah_T) (a : Nat) : ah_val (ma_fty 8 101) h a 101 = rv (ah_R h a 101) := rfl
theorem fv_8_102 (h : ah_T) (a : Nat) : ah_val (ma_fty 8 102) h a 102 = rv (ah_R h a 102) := rfl
theorem fv_8_103 (h : ah_T) (a : Nat) : ah_val (ma_fty 8 103) h a 103 = rv (ah_R h a 103) := rfl
theorem fv_8_104 (h : ah_T) (a : Nat) : ah_val (ma_fty 8 104) h a 104 = rv (ah_R h a 104) := rfl
theorem fv_8_105 (h : ah_T) (a : Nat) : ah_val (ma_fty 8 105) h a 105 = rv (ah_R h a 105) := rfl
theorem fv_8_106 (h : ah_T) (a : Nat) : ah_val (ma_fty 8 106) h a 106 = rv (ah_R h a 106) := rfl
theorem fv_8_107 (h : ah_T) (a : Nat) : ah_val (ma_fty 8 107) h a 107 = iv (ah_I h a 107) := rfl
theorem fv_8_108 (h : ah_T) (a : Nat) : ah_val (ma_fty 8 108) h a 108 = iv (ah_I h a 108) := rfl
theorem cl_9 : ma_cl[9]? = some ("PrairiePool$Farm", TX9, 8) := rfl
theorem dk_9 : ∀ k, k < 8 → ma_dok (ma_fty 9 k) = true := by decide +kernel
theorem fv_9_0 (h : ah_T) (a : Nat) : ah_val (ma_fty 9 0) h a 0 = iv (ah_I h a 0) := rfl
theorem fv_9_1 (h : ah_T) (a : Nat) : ah_val (ma_fty 9 1) h a 1 = iv (ah_I h a 1) := rfl
theorem fv_9_2 (h : ah_T) (a : Nat) : ah_val (ma_fty 9 2) h a 2 = iv (ah_I h a 2) := rfl
theorem fv_9_3 (h : ah_T) (a : Nat) : ah_val (ma_fty 9 3) h a 3 = iv (ah_I h a 3) := rfl
theorem fv_9_4 (h : ah_T) (a : Nat) : ah_val (ma_fty 9 4) h a 4 = iv (ah_I h a 4) := rfl
theorem fv_9_5 (h : ah_T) (a : Nat) : ah_val (ma_fty 9 5) h a 5 = iv (ah_I h a 5) := rfl
theorem fv_9_6 (h : ah_T) (a : Nat) : ah_val (ma_fty 9 6) h a 6 = iv (ah_I h a 6) := rfl
theorem fv_9_7 (h : ah_T) (a : Nat) : ah_val (ma_fty 9 7) h a 7 = rv (ah_R h a 7) := rfl
theorem cl_10 : ma_cl[10]? = some ("PrairiePool$Elevator", TX10, 2) := rfl
theorem dk_10 : ∀ k, k < 2 → ma_dok (ma_fty 10 k) = true := by decide +kernel
theorem fv_10_0 (h : ah_T) (a : Nat) : ah_val (ma_fty 10 0) h a 0 = iv (ah_I h a 0) := rfl
theorem fv_10_1 (h : ah_T) (a : Nat) : ah_val (ma_fty 10 1) h a 1 = iv (ah_I h a 1) := rfl
theorem cl_11 : ma_cl[11]? = some ("PrairiePool$Load", TX12, 7) := rfl
theorem dk_11 : ∀ k, k < 7 → ma_dok (ma_fty 11 k) = true := by decide +kernel
theorem fv_11_0 (h : ah_T) (a : Nat) : ah_val (ma_fty 11 0) h a 0 = iv (ah_I h a 0) := rfl
theorem fv_11_1 (h : ah_T) (a : Nat) : ah_val (ma_fty 11 1) h a 1 = iv (ah_I h a 1) := rfl
theorem fv_11_2 (h : ah_T) (a : Nat) : ah_val (ma_fty 11 2) h a 2 = iv (ah_I h a 2) := rfl
theorem fv_11_3 (h : ah_T) (a : Nat) : ah_val (ma_fty 11 3) h a 3 = rv (ah_R h a 3) := rfl
theorem fv_11_4 (h : ah_T) (a : Nat) : ah_val (ma_fty 11 4) h a 4 = iv (ah_I h a 4) := rfl
theorem fv_11_5 (h : ah_T) (a : Nat) : ah_val (ma_fty 11 5) h a 5 = iv (ah_I h a 5) := rfl
theorem fv_11_6 (h : ah_T) (a : Nat) : ah_val (ma_fty 11 6) h a 6 = iv (ah_I h a 6) := rfl
theorem cl_12 : ma_cl[12]? = some ("PrairiePool$Spoil", TX14, 6) := rfl
theorem dk_12 : ∀ k, k < 6 → ma_dok (ma_fty 12 k) = true := by decide +kernel
theorem fv_12_0 (h : ah_T) (a : Nat) : ah_val (ma_fty 12 0) h a 0 = iv (ah_I h a 0) := rfl
theorem fv_12_1 (h : ah_T) (a : Nat) : ah_val (ma_fty 12 1) h a 1 = iv (ah_I h a 1) := rfl
theorem fv_12_2 (h : ah_T) (a : Nat) : ah_val (ma_fty 12 2) h a 2 = iv (ah_I h a 2) := rfl
theorem fv_12_3 (h : ah_T) (a : Nat) : ah_val (ma_fty 12 3) h a 3 = iv (ah_I h a 3) := rfl
theorem fv_12_4 (h : ah_T) (a : Nat) : ah_val (ma_fty 12 4) h a 4 = iv (ah_I h a 4) := rfl
theorem fv_12_5 (h : ah_T) (a : Nat) : ah_val (ma_fty 12 5) h a 5 = iv (ah_I h a 5) := rfl
theorem cl_13 : ma_cl[13]? = some ("PrairiePool$Car", TX15, 7) := rfl
theorem dk_13 : ∀ k, k < 7 → ma_dok (ma_fty 13 k) = true := by decide +kernel
theorem fv_13_0 (h : ah_T) (a : Nat) : ah_val (ma_fty 13 0) h a 0 = iv (ah_I h a 0) := rfl
theorem fv_13_1 (h : ah_T) (a : Nat) : ah_val (ma_fty 13 1) h a 1 = iv (ah_I h a 1) := rfl
theorem fv_13_2 (h : ah_T) (a : Nat) : ah_val (ma_fty 13 2) h a 2 = iv (ah_I h a 2) := rfl
theorem fv_13_3 (h : ah_T) (a : Nat) : ah_val (ma_fty 13 3) h a 3 = iv (ah_I h a 3) := rfl
theorem fv_13_4 (h : ah_T) (a : Nat) : ah_val (ma_fty 13 4) h a 4 = iv (ah_I h a 4) := rfl
theorem fv_13_5 (h : ah_T) (a : Nat) : ah_val (ma_fty 13 5) h a 5 = iv (ah_I h a 5) := rfl
theorem fv_13_6 (h : ah_T) (a : Nat) : ah_val (ma_fty 13 6) h a 6 = iv (ah_I h a 6) := rfl
theorem cl_14 : ma_cl[14]? = some ("PrairiePool$Sale", TX16, 7) := rfl
theorem dk_14 : ∀ k, k < 7 → ma_dok (ma_fty 14 k) = true := by decide +kernel
theorem fv_14_0 (h : ah_T) (a : Nat) : ah_val (ma_fty 14 0) h a 0 = iv (ah_I h a 0) := rfl
theorem fv_14_1 (h : ah_T) (a : Nat) : ah_val (ma_fty 14 1) h a 1 = iv (ah_I h a 1) := rfl
theorem fv_14_2 (h : ah_T) (a : Nat) : ah_val (ma_fty 14 2) h a 2 = iv (ah_I h a 2) := rfl
theorem fv_14_3 (h : ah_T) (a : Nat) : ah_val (ma_fty 14 3) h a 3 = iv (ah_I h a 3) := rfl
theorem fv_14_4 (h : ah_T) (a : Nat) : ah_val (ma_fty 14 4) h a 4 = iv (ah_I h a 4) := rfl
theorem fv_14_5 (h : ah_T) (a : Nat) : ah_val (ma_fty 14 5) h a 5 = iv (ah_I h a 5) := rfl
theorem fv_14_6 (h : ah_T) (a : Nat) : ah_val (ma_fty 14 6) h a 6 = iv (ah_I h a 6) := rfl
theorem cl_15 : ma_cl[15]? = some ("PrairiePool$Law", TX17, 4) := rfl
theorem dk_15 : ∀ k, k < 4 → ma_dok (ma_fty 15 k) = true := by decide +kernel
theorem fv_15_0 (h : ah_T) (a : Nat) : ah_val (ma_fty 15 0) h a 0 = rv (ah_R h a 0) := rfl
theorem fv_15_1 (h : ah_T) (a : Nat) : ah_val (ma_fty 15 1) h a 1 = rv (ah_R h a 1) := rfl
theorem fv_15_2 (h : ah_T) (a : Nat) : ah_val (ma_fty 15 2) h a 2 = iv (ah_I h a 2) := rfl
theorem fv_15_3 (h : ah_T) (a : Nat) : ah_val (ma_fty 15 3) h a 3 = iv (ah_I h a 3) := rfl
theorem cl_16 : ma_cl[16]? = some ("PrairiePool$Chain", TX19, 4) := rfl
theorem dk_16 : ∀ k, k < 4 → ma_dok (ma_fty 16 k) = true := by decide +kernel
theorem fv_16_0 (h : ah_T) (a : Nat) : ah_val (ma_fty 16 0) h a 0 = rv (ah_R h a 0) := rfl
theorem fv_16_1 (h : ah_T) (a : Nat) : ah_val (ma_fty 16 1) h a 1 = iv (ah_I h a 1) := rfl
theorem fv_16_2 (h : ah_T) (a : Nat) : ah_val (ma_fty 16 2) h a 2 = rv (ah_R h a 2) := rfl
theorem fv_16_3 (h : ah_T) (a : Nat) : ah_val (ma_fty 16 3) h a 3 = rv (ah_R h a 3) := rfl
theorem cl_17 : ma_cl[17]? = some ("PrairiePool$Pick", TX20, 5) := rfl
theorem dk_17 : ∀ k, k < 5 → ma_dok (ma_fty 17 k) = true := by decide +kernel
theorem fv_17_0 (h : ah_T) (a : Nat) : ah_val (ma_fty 17 0) h a 0 = rv (ah_R h a 0) := rfl
theorem fv_17_1 (h : ah_T) (a : Nat) : ah_val (ma_fty 17 1) h a 1 = iv (ah_I h a 1) := rfl
theorem fv_17_2 (h : ah_T) (a : Nat) : ah_val (ma_fty 17 2) h a 2 = iv (ah_I h a 2) := rfl
theorem fv_17_3 (h : ah_T) (a : Nat) : ah_val (ma_fty 17 3) h a 3 = rv (ah_R h a 3) := rfl
theorem fv_17_4 (h : ah_T) (a : Nat) : ah_val (ma_fty 17 4) h a 4 = rv (ah_R h a 4) := rfl
theorem cl_18 : ma_cl[18]? = some ("PrairiePool$Leaf", TX21, 4) := rfl
theorem dk_18 : ∀ k, k < 4 → ma_dok (ma_fty 18 k) = true := by decide +kernel
theorem fv_18_0 (h : ah_T) (a : Nat) : ah_val (ma_fty 18 0) h a 0 = rv (ah_R h a 0) := rfl
theorem fv_18_1 (h : ah_T) (a : Nat) : ah_val (ma_fty 18 1) h a 1 = iv (ah_I h a 1) := rfl
theorem fv_18_2 (h : ah_T) (a : Nat) : ah_val (ma_fty 18 2) h a 2 = iv (ah_I h a 2) := rfl
theorem fv_18_3 (h : ah_T) (a : Nat) : ah_val (ma_fty 18 3) h a 3 = jv (ah_J h a 3) := rfl
theorem cl_19 : ma_cl[19]? = some ("PrairiePool$If", TX22, 7) := rfl
theorem dk_19 : ∀ k, k < 7 → ma_dok (ma_fty 19 k) = true := by decide +kernel
theorem fv_19_0 (h : ah_T) (a : Nat) : ah_val (ma_fty 19 0) h a 0 = rv (ah_R h a 0) := rfl
theorem fv_19_1 (h : ah_T) (a : Nat) : ah_val (ma_fty 19 1) h a 1 = iv (ah_I h a 1) := rfl
theorem fv_19_2 (h : ah_T) (a : Nat) : ah_val (ma_fty 19 2) h a 2 = rv (ah_R h a 2) := rfl
theorem fv_19_3 (h : ah_T) (a : Nat) : ah_val (ma_fty 19 3) h a 3 = rv (ah_R h a 3) := rfl
theorem fv_19_4 (h : ah_T) (a : Nat) : ah_val (ma_fty 19 4) h a 4 = iv (ah_I h a 4) := rfl
theorem fv_19_5 (h : ah_T) (a : Nat) : ah_val (ma_fty 19 5) h a 5 = rv (ah_R h a 5) := rfl
theorem fv_19_6 (h : ah_T) (a : Nat) : ah_val (ma_fty 19 6) h a 6 = rv (ah_R h a 6) := rfl
theorem cl_20 : ma_cl[20]? = some ("PrairiePool$Compare", TX23, 5) := rfl
theorem dk_20 : ∀ k, k < 5 → ma_dok (ma_fty 20 k) = true := by decide +kernel
theorem fv_20_0 (h : ah_T) (a : Nat) : ah_val (ma_fty 20 0) h a 0 = iv (ah_I h a 0) := rfl
theorem fv_20_1 (h : ah_T) (a : Nat) : ah_val (ma_fty 20 1) h a 1 = rv (ah_R h a 1) := rfl
theorem fv_20_2 (h : ah_T) (a : Nat) : ah_val (ma_fty 20 2) h a 2 = rv (ah_R h a 2) := rfl
theorem fv_20_3 (h : ah_T) (a : Nat) : ah_val (ma_fty 20 3) h a 3 = iv (ah_I h a 3) := rfl
theorem fv_20_4 (h : ah_T) (a : Nat) : ah_val (ma_fty 20 4) h a 4 = rv (ah_R h a 4) := rfl
theorem ic_m8 : Int32.ofInt (-8) = (-8 : Int32) := by decide
theorem ic_m1 : Int32.ofInt (-1) = (-1 : Int32) := by decide
theorem ic_0 : Int32.ofInt (0) = (0 : Int32) := by decide
theorem ic_1 : Int32.ofInt (1) = (1 : Int32) := by decide
theorem ic_2 : Int32.ofInt (2) = (2 : Int32) := by decide
theorem ic_3 : Int32.ofInt (3) = (3 : Int32) := by decide
theorem ic_4 : Int32.ofInt (4) = (4 : Int32) := by decide
theorem ic_5 : Int32.ofInt (5) = (5 : Int32) := by decide
theorem ib_6 : (Int8.ofInt (6)).toInt32 = (6 : Int32) := by decide
theorem ib_7 : (Int8.ofInt (7)).toInt32 = (7 : Int32) := by decide
theorem ib_8 : (Int8.ofInt (8)).toInt32 = (8 : Int32) := by decide
theorem ib_9 : (Int8.ofInt (9)).toInt32 = (9 : Int32) := by decide
theorem ib_10 : (Int8.ofInt (10)).toInt32 = (10 : Int32) := by decide
theorem ib_11 : (Int8.ofInt (11)).toInt32 = (11 : Int32) := by decide
theorem ib_12 : (Int8.ofInt (12)).toInt32 = (12 : Int32) := by decide
theorem ib_13 : (Int8.ofInt (13)).toInt32 = (13 : Int32) := by decide
theorem ib_14 : (Int8.ofInt (14)).toInt32 = (14 : Int32) := by decide
theorem ib_15 : (Int8.ofInt (15)).toInt32 = (15 : Int32) := by decide
theorem ib_16 : (Int8.ofInt (16)).toInt32 = (16 : Int32) := by decide
theorem ib_19 : (Int8.ofInt (19)).toInt32 = (19 : Int32) := by decide
theorem ib_20 : (Int8.ofInt (20)).toInt32 = (20 : Int32) := by decide
theorem ib_21 : (Int8.ofInt (21)).toInt32 = (21 : Int32) := by decide
theorem ib_24 : (Int8.ofInt (24)).toInt32 = (24 : Int32) := by decide
theorem ib_32 : (Int8.ofInt (32)).toInt32 = (32 : Int32) := by decide
theorem ib_37 : (Int8.ofInt (37)).toInt32 = (37 : Int32) := by decide
theorem ib_40 : (Int8.ofInt (40)).toInt32 = (40 : Int32) := by decide
theorem ib_41 : (Int8.ofInt (41)).toInt32 = (41 : Int32) := by decide
theorem ib_42 : (Int8.ofInt (42)).toInt32 = (42 : Int32) := by decide
theorem ib_43 : (Int8.ofInt (43)).toInt32 = (43 : Int32) := by decide
theorem ib_44 : (Int8.ofInt (44)).toInt32 = (44 : Int32) := by decide
theorem ib_45 : (Int8.ofInt (45)).toInt32 = (45 : Int32) := by decide
theorem ib_47 : (Int8.ofInt (47)).toInt32 = (47 : Int32) := by decide
theorem ib_48 : (Int8.ofInt (48)).toInt32 = (48 : Int32) := by decide
theorem ib_51 : (Int8.ofInt (51)).toInt32 = (51 : Int32) := by decide
theorem ib_52 : (Int8.ofInt (52)).toInt32 = (52 : Int32) := by decide
theorem ib_57 : (Int8.ofInt (57)).toInt32 = (57 : Int32) := by decide
theorem ib_58 : (Int8.ofInt (58)).toInt32 = (58 : Int32) := by decide
theorem ib_59 : (Int8.ofInt (59)).toInt32 = (59 : Int32) := by decide
theorem ib_60 : (Int8.ofInt (60)).toInt32 = (60 : Int32) := by decide
theorem ib_61 : (Int8.ofInt (61)).toInt32 = (61 : Int32) := by decide
theorem ib_62 : (Int8.ofInt (62)).toInt32 = (62 : Int32) := by decide
theorem ib_63 : (Int8.ofInt (63)).toInt32 = (63 : Int32) := by decide
theorem ib_97 : (Int8.ofInt (97)).toInt32 = (97 : Int32) := by decide
theorem ib_98 : (Int8.ofInt (98)).toInt32 = (98 : Int32) := by decide
theorem ib_99 : (Int8.ofInt (99)).toInt32 = (99 : Int32) := by decide
theorem ib_100 : (Int8.ofInt (100)).toInt32 = (100 : Int32) := by decide
theorem ib_101 : (Int8.ofInt (101)).toInt32 = (101 : Int32) := by decide
theorem ib_102 : (Int8.ofInt (102)).toInt32 = (102 : Int32) := by decide
theorem ib_103 : (Int8.ofInt (103)).toInt32 = (103 : Int32) := by decide
theorem ib_104 : (Int8.ofInt (104)).toInt32 = (104 : Int32) := by decide
theorem ib_105 : (Int8.ofInt (105)).toInt32 = (105 : Int32) := by decide
theorem ib_107 : (Int8.ofInt (107)).toInt32 = (107 : Int32) := by decide
theorem ib_108 : (Int8.ofInt (108)).toInt32 = (108 : Int32) := by decide
theorem ib_109 : (Int8.ofInt (109)).toInt32 = (109 : Int32) := by decide
theorem ib_110 : (Int8.ofInt (110)).toInt32 = (110 : Int32) := by decide
theorem ib_111 : (Int8.ofInt (111)).toInt32 = (111 : Int32) := by decide
theorem ib_112 : (Int8.ofInt (112)).toInt32 = (112 : Int32) := by decide
theorem ib_114 : (Int8.ofInt (114)).toInt32 = (114 : Int32) := by decide
theorem ib_115 : (Int8.ofInt (115)).toInt32 = (115 : Int32) := by decide
theorem ib_116 : (Int8.ofInt (116)).toInt32 = (116 : Int32) := by decide
theorem ib_117 : (Int8.ofInt (117)).toInt32 = (117 : Int32) := by decide
theorem ib_118 : (Int8.ofInt (118)).toInt32 = (118 : Int32) := by decide
theorem ib_119 : (Int8.ofInt (119)).toInt32 = (119 : Int32) := by decide
theorem ib_120 : (Int8.ofInt (120)).toInt32 = (120 : Int32) := by decide
theorem ib_121 : (Int8.ofInt (121)).toInt32 = (121 : Int32) := by decide
theorem ib_122 : (Int8.ofInt (122)).toInt32 = (122 : Int32) := by decide
theorem is_160 : (Int16.ofInt (160)).toInt32 = (160 : Int32) := by decide
theorem is_200 : (Int16.ofInt (200)).toInt32 = (200 : Int32) := by decide
theorem is_255 : (Int16.ofInt (255)).toInt32 = (255 : Int32) := by decide
theorem is_256 : (Int16.ofInt (256)).toInt32 = (256 : Int32) := by decide
theorem is_500 : (Int16.ofInt (500)).toInt32 = (500 : Int32) := by decide
theorem is_520 : (Int16.ofInt (520)).toInt32 = (520 : Int32) := by decide
theorem is_600 : (Int16.ofInt (600)).toInt32 = (600 : Int32) := by decide
theorem is_1000 : (Int16.ofInt (1000)).toInt32 = (1000 : Int32) := by decide
theorem is_1100 : (Int16.ofInt (1100)).toInt32 = (1100 : Int32) := by decide
theorem is_1200 : (Int16.ofInt (1200)).toInt32 = (1200 : Int32) := by decide
theorem is_2400 : (Int16.ofInt (2400)).toInt32 = (2400 : Int32) := by decide
theorem is_4400 : (Int16.ofInt (4400)).toInt32 = (4400 : Int32) := by decide
theorem is_5120 : (Int16.ofInt (5120)).toInt32 = (5120 : Int32) := by decide
theorem is_5376 : (Int16.ofInt (5376)).toInt32 = (5376 : Int32) := by decide
theorem is_9600 : (Int16.ofInt (9600)).toInt32 = (9600 : Int32) := by decide
theorem cn_0 : (0 : Int32).toNatClampNeg = 0 := by decide
theorem cn_1 : (1 : Int32).toNatClampNeg = 1 := by decide
theorem cn_2 : (2 : Int32).toNatClampNeg = 2 := by decide
theorem cn_3 : (3 : Int32).toNatClampNeg = 3 := by decide
theorem cn_4 : (4 : Int32).toNatClampNeg = 4 := by decide
theorem cn_5 : (5 : Int32).toNatClampNeg = 5 := by decide
theorem cn_6 : (6 : Int32).toNatClampNeg = 6 := by decide
theorem cn_7 : (7 : Int32).toNatClampNeg = 7 := by decide
theorem cn_8 : (8 : Int32).toNatClampNeg = 8 := by decide
theorem cn_9 : (9 : Int32).toNatClampNeg = 9 := by decide
theorem cn_10 : (10 : Int32).toNatClampNeg = 10 := by decide
theorem cn_11 : (11 : Int32).toNatClampNeg = 11 := by decide
theorem cn_12 : (12 : Int32).toNatClampNeg = 12 := by decide
theorem cn_13 : (13 : Int32).toNatClampNeg = 13 := by decide
theorem cn_14 : (14 : Int32).toNatClampNeg = 14 := by decide
theorem cn_15 : (15 : Int32).toNatClampNeg = 15 := by decide
theorem cn_16 : (16 : Int32).toNatClampNeg = 16 := by decide
theorem cn_17 : (17 : Int32).toNatClampNeg = 17 := by decide
theorem cn_18 : (18 : Int32).toNatClampNeg = 18 := by decide
theorem cn_19 : (19 : Int32).toNatClampNeg = 19 := by decide
theorem cn_20 : (20 : Int32).toNatClampNeg = 20 := by decide
theorem cn_21 : (21 : Int32).toNatClampNeg = 21 := by decide
theorem cn_22 : (22 : Int32).toNatClampNeg = 22 := by decide
theorem cn_23 : (23 : Int32).toNatClampNeg = 23 := by decide
theorem cn_24 : (24 : Int32).toNatClampNeg = 24 := by decide
theorem cn_25 : (25 : Int32).toNatClampNeg = 25 := by decide
theorem cn_26 : (26 : Int32).toNatClampNeg = 26 := by decide
theorem cn_27 : (27 : Int32).toNatClampNeg = 27 := by decide
theorem cn_28 : (28 : Int32).toNatClampNeg = 28 := by decide
theorem cn_29 : (29 : Int32).toNatClampNeg = 29 := by decide
theorem cn_30 : (30 : Int32).toNatClampNeg = 30 := by decide
theorem cn_31 : (31 : Int32).toNatClampNeg = 31 := by decide
theorem cn_32 : (32 : Int32).toNatClampNeg = 32 := by decide
theorem cn_33 : (33 : Int32).toNatClampNeg = 33 := by decide
theorem cn_34 : (34 : Int32).toNatClampNeg = 34 := by decide
theorem cn_35 : (35 : Int32).toNatClampNeg = 35 := by decide
theorem cn_36 : (36 : Int32).toNatClampNeg = 36 := by decide
theorem cn_37 : (37 : Int32).toNatClampNeg = 37 := by decide
theorem cn_38 : (38 : Int32).toNatClampNeg = 38 := by decide
theorem cn_39 : (39 : Int32).toNatClampNeg = 39 := by decide
theorem cn_40 : (40 : Int32).toNatClampNeg = 40 := by decide
theorem cn_41 : (41 : Int32).toNatClampNeg = 41 := by decide
theorem cn_42 : (42 : Int32).toNatClampNeg = 42 := by decide
theorem cn_43 : (43 : Int32).toNatClampNeg = 43 := by decide
theorem cn_44 : (44 : Int32).toNatClampNeg = 44 := by decide
theorem cn_45 : (45 : Int32).toNatClampNeg = 45 := by decide
theorem cn_47 : (47 : Int32).toNatClampNeg = 47 := by decide
theorem cn_48 : (48 : Int32).toNatClampNeg = 48 := by decide
theorem cn_51 : (51 : Int32).toNatClampNeg = 51 := by decide
theorem cn_52 : (52 : Int32).toNatClampNeg = 52 := by decide
theorem cn_57 : (57 : Int32).toNatClampNeg = 57 := by decide
theorem cn_58 : (58 : Int32).toNatClampNeg = 58 := by decide
theorem cn_59 : (59 : Int32).toNatClampNeg = 59 := by decide
theorem cn_60 : (60 : Int32).toNatClampNeg = 60 := by decide
theorem cn_61 : (61 : Int32).toNatClampNeg = 61 := by decide
theorem cn_62 : (62 : Int32).toNatClampNeg = 62 := by decide
theorem cn_63 : (63 : Int32).toNatClampNeg = 63 := by decide
theorem cn_97 : (97 : Int32).toNatClampNeg = 97 := by decide
theorem cn_98 : (98 : Int32).toNatClampNeg = 98 := by decide
theorem cn_99 : (99 : Int32).toNatClampNeg = 99 := by decide
theorem cn_100 : (100 : Int32).toNatClampNeg = 100 := by decide
theorem cn_101 : (101 : Int32).toNatClampNeg = 101 := by decide
theorem cn_102 : (102 : Int32).toNatClampNeg = 102 := by decide
theorem cn_103 : (103 : Int32).toNatClampNeg = 103 := by decide
theorem cn_104 : (104 : Int32).toNatClampNeg = 104 := by decide
theorem cn_105 : (105 : Int32).toNatClampNeg = 105 := by decide
theorem cn_107 : (107 : Int32).toNatClampNeg = 107 := by decide
theorem cn_108 : (108 : Int32).toNatClampNeg = 108 := by decide
theorem cn_109 : (109 : Int32).toNatClampNeg = 109 := by decide
theorem cn_110 : (110 : Int32).toNatClampNeg = 110 := by decide
theorem cn_111 : (111 : Int32).toNatClampNeg = 111 := by decide
theorem cn_112 : (112 : Int32).toNatClampNeg = 112 := by decide
theorem cn_114 : (114 : Int32).toNatClampNeg = 114 := by decide
theorem cn_115 : (115 : Int32).toNatClampNeg = 115 := by decide
theorem cn_116 : (116 : Int32).toNatClampNeg = 116 := by decide
theorem cn_117 : (117 : Int32).toNatClampNeg = 117 := by decide
theorem cn_118 : (118 : Int32).toNatClampNeg = 118 := by decide
theorem cn_119 : (119 : Int32).toNatClampNeg = 119 := by decide
theorem cn_120 : (120 : Int32).toNatClampNeg = 120 := by decide
theorem cn_121 : (121 : Int32).toNatClampNeg = 121 := by decide
theorem cn_122 : (122 : Int32).toNatClampNeg = 122 := by decide
theorem cn_160 : (160 : Int32).toNatClampNeg = 160 := by decide
theorem cn_200 : (200 : Int32).toNatClampNeg = 200 := by decide
theorem cn_255 : (255 : Int32).toNatClampNeg = 255 := by decide
theorem cn_256 : (256 : Int32).toNatClampNeg = 256 := by decide
theorem cn_500 : (500 : Int32).toNatClampNeg = 500 := by decide
theorem cn_520 : (520 : Int32).toNatClampNeg = 520 := by decide
theorem cn_600 : (600 : Int32).toNatClampNeg = 600 := by decide
theorem cn_1000 : (1000 : Int32).toNatClampNeg = 1000 := by decide
theorem cn_1100 : (1100 : Int32).toNatClampNeg = 1100 := by decide
theorem cn_1200 : (1200 : Int32).toNatClampNeg = 1200 := by decide
theorem cn_2400 : (2400 : Int32).toNatClampNeg = 2400 := by decide
theorem cn_4400 : (4400 : Int32).toNatClampNeg = 4400 := by decide
theorem cn_5120 : (5120 : Int32).toNatClampNeg = 5120 := by decide
theorem cn_5376 : (5376 : Int32).toNatClampNeg = 5376 := by decide
theorem cn_9600 : (9600 : Int32).toNatClampNeg = 9600 := by decide
theorem lc_0 : Int64.ofNat ((0 : Fin 2) : Nat) = (0 : Int64) := by decide
theorem lc_1 : Int64.ofNat ((1 : Fin 2) : Nat) = (1 : Int64) := by decide

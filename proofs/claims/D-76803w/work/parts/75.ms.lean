/-! all methods -/
set_option maxRecDepth 100000
abbrev y_L_law : ZY := (⟨"GangColumnsLaw", "law", "([I)Z"⟩, code, 4, (some .boolean))
abbrev y_X0_init : ZY := (⟨"GangColumns", "<init>", "()V"⟩, cX0_init, 1, none)
abbrev y_X6_init : ZY := (⟨"GangColumnsModel", "<init>", "()V"⟩, cX6_init, 2, none)
abbrev y_X0_weight : ZY := (⟨"GangColumns", "weight", "(II)I"⟩, cX0_weight, 4, (some .int))
abbrev y_X6_weight : ZY := (⟨"GangColumnsModel", "weight", "(II)I"⟩, cX6_weight, 4, (some .int))
abbrev y_X0_limit : ZY := (⟨"GangColumns", "limit", "(II)I"⟩, cX0_limit, 4, (some .int))
abbrev y_X6_limit : ZY := (⟨"GangColumnsModel", "limit", "(II)I"⟩, cX6_limit, 4, (some .int))
abbrev y_X0_ranked : ZY := (⟨"GangColumns", "ranked", "(I)I"⟩, cX0_ranked, 5, (some .int))
abbrev y_X6_ranked : ZY := (⟨"GangColumnsModel", "ranked", "(I)I"⟩, cX6_ranked, 6, (some .int))
abbrev y_X0_rule : ZY := (⟨"GangColumns", "rule", "(II)I"⟩, cX0_rule, 3, (some .int))
abbrev y_X6_rule : ZY := (⟨"GangColumnsModel", "rule", "(II)I"⟩, cX6_rule, 4, (some .int))
abbrev y_X0_used : ZY := (⟨"GangColumns", "used", "(I)J"⟩, cX0_used, 2, (some .long))
abbrev y_X6_used : ZY := (⟨"GangColumnsModel", "used", "(I)J"⟩, cX6_used, 2, (some .long))
abbrev y_X0_feed : ZY := (⟨"GangColumns", "feed", "(I)I"⟩, cX0_feed, 2, (some .int))
abbrev y_X6_feed : ZY := (⟨"GangColumnsModel", "feed", "(I)I"⟩, cX6_feed, 2, (some .int))
abbrev y_X0_job : ZY := (⟨"GangColumns", "job", "(IIII)I"⟩, cX0_job, 8, (some .int))
abbrev y_X6_job : ZY := (⟨"GangColumnsModel", "job", "(IIII)I"⟩, cX6_job, 6, (some .int))
abbrev y_X0_off : ZY := (⟨"GangColumns", "off", "(I)I"⟩, cX0_off, 3, (some .int))
abbrev y_X6_off : ZY := (⟨"GangColumnsModel", "off", "(I)I"⟩, cX6_off, 2, (some .int))
abbrev y_X0_of : ZY := (⟨"GangColumns", "of", "(II)I"⟩, cX0_of, 4, (some .int))
abbrev y_X6_of : ZY := (⟨"GangColumnsModel", "of", "(II)I"⟩, cX6_of, 3, (some .int))
abbrev y_X0_arm : ZY := (⟨"GangColumns", "arm", "(III)I"⟩, cX0_arm, 6, (some .int))
abbrev y_X6_arm : ZY := (⟨"GangColumnsModel", "arm", "(III)I"⟩, cX6_arm, 4, (some .int))
abbrev y_X0_line : ZY := (⟨"GangColumns", "line", "(I)I"⟩, cX0_line, 3, (some .int))
abbrev y_X6_line : ZY := (⟨"GangColumnsModel", "line", "(I)I"⟩, cX6_line, 3, (some .int))
abbrev y_X0_rank : ZY := (⟨"GangColumns", "rank", "(II)I"⟩, cX0_rank, 3, (some .int))
abbrev y_X6_rank : ZY := (⟨"GangColumnsModel", "rank", "(II)I"⟩, cX6_rank, 4, (some .int))
abbrev y_X0_hold : ZY := (⟨"GangColumns", "hold", "(II)I"⟩, cX0_hold, 3, (some .int))
abbrev y_X6_hold : ZY := (⟨"GangColumnsModel", "hold", "(II)I"⟩, cX6_hold, 4, (some .int))
abbrev y_X0_text : ZY := (⟨"GangColumns", "text", "(II)I"⟩, cX0_text, 5, (some .int))
abbrev y_X6_text : ZY := (⟨"GangColumnsModel", "text", "(II)I"⟩, cX6_text, 4, (some .int))
abbrev y_X0_keep : ZY := (⟨"GangColumns", "keep", "(IIII)I"⟩, cX0_keep, 5, (some .int))
abbrev y_X6_keep : ZY := (⟨"GangColumnsModel", "keep", "(IIII)I"⟩, cX6_keep, 5, (some .int))
abbrev y_X0_every : ZY := (⟨"GangColumns", "every", "(IIIIII)I"⟩, cX0_every, 10, (some .int))
abbrev y_X6_every : ZY := (⟨"GangColumnsModel", "every", "(IIIIII)I"⟩, cX6_every, 10, (some .int))
abbrev y_X0_free : ZY := (⟨"GangColumns", "free", "(I)I"⟩, cX0_free, 3, (some .int))
abbrev y_X6_free : ZY := (⟨"GangColumnsModel", "free", "(I)I"⟩, cX6_free, 3, (some .int))
abbrev y_X0_step : ZY := (⟨"GangColumns", "step", "(I)I"⟩, cX0_step, 3, (some .int))
abbrev y_X6_step : ZY := (⟨"GangColumnsModel", "step", "(I)I"⟩, cX6_step, 3, (some .int))
abbrev y_X0_pass : ZY := (⟨"GangColumns", "pass", "()I"⟩, cX0_pass, 1, (some .int))
abbrev y_X6_pass : ZY := (⟨"GangColumnsModel", "pass", "()I"⟩, cX6_pass, 1, (some .int))
abbrev y_X0_holder : ZY := (⟨"GangColumns", "holder", "(I)I"⟩, cX0_holder, 2, (some .int))
abbrev y_X6_holder : ZY := (⟨"GangColumnsModel", "holder", "(I)I"⟩, cX6_holder, 2, (some .int))
abbrev y_X0_promised : ZY := (⟨"GangColumns", "promised", "(II)I"⟩, cX0_promised, 3, (some .int))
abbrev y_X6_promised : ZY := (⟨"GangColumnsModel", "promised", "(II)I"⟩, cX6_promised, 6, (some .int))
abbrev y_X0_foretell : ZY := (⟨"GangColumns", "foretell", "(I)I"⟩, cX0_foretell, 4, (some .int))
abbrev y_X6_foretell : ZY := (⟨"GangColumnsModel", "foretell", "(I)I"⟩, cX6_foretell, 3, (some .int))
abbrev y_X0_plan : ZY := (⟨"GangColumns", "plan", "(I)I"⟩, cX0_plan, 3, (some .int))
abbrev y_X6_plan : ZY := (⟨"GangColumnsModel", "plan", "(I)I"⟩, cX6_plan, 5, (some .int))
abbrev y_X0_byRule : ZY := (⟨"GangColumns", "byRule", "(III)I"⟩, cX0_byRule, 9, (some .int))
abbrev y_X6_byRule : ZY := (⟨"GangColumnsModel", "byRule", "(III)I"⟩, cX6_byRule, 11, (some .int))
abbrev y_X0_shrunk : ZY := (⟨"GangColumns", "shrunk", "(I)I"⟩, cX0_shrunk, 6, (some .int))
abbrev y_X6_shrunk : ZY := (⟨"GangColumnsModel", "shrunk", "(I)I"⟩, cX6_shrunk, 5, (some .int))
abbrev y_X0_moves : ZY := (⟨"GangColumns", "moves", "(I)I"⟩, cX0_moves, 6, (some .int))
abbrev y_X6_moves : ZY := (⟨"GangColumnsModel", "moves", "(I)I"⟩, cX6_moves, 3, (some .int))
abbrev y_X0_together : ZY := (⟨"GangColumns", "together", "(II)I"⟩, cX0_together, 5, (some .int))
abbrev y_X6_together : ZY := (⟨"GangColumnsModel", "together", "(II)I"⟩, cX6_together, 4, (some .int))
abbrev y_X0_gap : ZY := (⟨"GangColumns", "gap", "(III)I"⟩, cX0_gap, 8, (some .int))
abbrev y_X6_gap : ZY := (⟨"GangColumnsModel", "gap", "(III)I"⟩, cX6_gap, 8, (some .int))
abbrev y_X0_orders : ZY := (⟨"GangColumns", "orders", "(II)I"⟩, cX0_orders, 5, (some .int))
abbrev y_X6_orders : ZY := (⟨"GangColumnsModel", "orders", "(II)I"⟩, cX6_orders, 4, (some .int))
abbrev y_X0_costs : ZY := (⟨"GangColumns", "costs", "(III)I"⟩, cX0_costs, 12, (some .int))
abbrev y_X6_costs : ZY := (⟨"GangColumnsModel", "costs", "(III)I"⟩, cX6_costs, 11, (some .int))
abbrev y_X0_earliest : ZY := (⟨"GangColumns", "earliest", "(I)I"⟩, cX0_earliest, 4, (some .int))
abbrev y_X6_earliest : ZY := (⟨"GangColumnsModel", "earliest", "(I)I"⟩, cX6_earliest, 3, (some .int))
abbrev y_X0_holes : ZY := (⟨"GangColumns", "holes", "(III)I"⟩, cX0_holes, 7, (some .int))
abbrev y_X6_holes : ZY := (⟨"GangColumnsModel", "holes", "(III)I"⟩, cX6_holes, 10, (some .int))
abbrev y_X0_led : ZY := (⟨"GangColumns", "led", "(I)J"⟩, cX0_led, 2, (some .long))
abbrev y_X6_led : ZY := (⟨"GangColumnsModel", "led", "(I)J"⟩, cX6_led, 2, (some .long))
abbrev y_X0_chart : ZY := (⟨"GangColumns", "chart", "(II)I"⟩, cX0_chart, 3, (some .int))
abbrev y_X6_chart : ZY := (⟨"GangColumnsModel", "chart", "(II)I"⟩, cX6_chart, 4, (some .int))
abbrev y_X0_event : ZY := (⟨"GangColumns", "event", "(II)I"⟩, cX0_event, 3, (some .int))
abbrev y_X6_event : ZY := (⟨"GangColumnsModel", "event", "(II)I"⟩, cX6_event, 3, (some .int))
abbrev y_X0_started : ZY := (⟨"GangColumns", "started", "(I)I"⟩, cX0_started, 2, (some .int))
abbrev y_X6_started : ZY := (⟨"GangColumnsModel", "started", "(I)I"⟩, cX6_started, 2, (some .int))
abbrev y_X0_image : ZY := (⟨"GangColumns", "image", "()I"⟩, cX0_image, 1, (some .int))
abbrev y_X6_image : ZY := (⟨"GangColumnsModel", "image", "()I"⟩, cX6_image, 1, (some .int))
abbrev y_X0_back : ZY := (⟨"GangColumns", "back", "()I"⟩, cX0_back, 1, (some .int))
abbrev y_X6_back : ZY := (⟨"GangColumnsModel", "back", "()I"⟩, cX6_back, 1, (some .int))
abbrev y_X0_count : ZY := (⟨"GangColumns", "count", "(I)I"⟩, cX0_count, 2, (some .int))
abbrev y_X6_count : ZY := (⟨"GangColumnsModel", "count", "(I)I"⟩, cX6_count, 4, (some .int))
abbrev y_X1_init : ZY := (⟨"GangColumns$Cluster", "<init>", "()V"⟩, cX1_init, 3, none)
abbrev y_X6_lays : ZY := (⟨"GangColumnsModel", "lays", "([I[I)V"⟩, cX6_lays, 3, none)
abbrev y_X0_isAccount : ZY := (⟨"GangColumns", "isAccount", "(I)Z"⟩, cX0_isAccount, 1, (some .boolean))
abbrev y_X0_within : ZY := (⟨"GangColumns", "within", "(JJJ)Z"⟩, cX0_within, 6, (some .boolean))
abbrev y_X6_isAccount : ZY := (⟨"GangColumnsModel", "isAccount", "(I)Z"⟩, cX6_isAccount, 1, (some .boolean))
abbrev y_X6_in : ZY := (⟨"GangColumnsModel", "in", "(JJJ)Z"⟩, cX6_in, 6, (some .boolean))
abbrev y_X1_shares : ZY := (⟨"GangColumns$Cluster", "shares", "()Ljava/util/TreeMap;"⟩, cX1_shares, 3, (some (.object "java/util/TreeMap")))
abbrev y_J4_values : ZY := (⟨"java/util/TreeMap", "values", "()Ljava/util/Collection;"⟩, cJ4_values, 2, (some (.object "java/util/Collection")))
abbrev y_J2_iterator : ZY := (⟨"java/util/ArrayList", "iterator", "()Ljava/util/Iterator;"⟩, cJ2_iterator, 1, (some (.object "java/util/Iterator")))
abbrev y_J6_iterator : ZY := (⟨"java/util/PriorityQueue", "iterator", "()Ljava/util/Iterator;"⟩, cJ6_iterator, 1, (some (.object "java/util/Iterator")))
abbrev y_J35_iterator : ZY := (⟨"java/util/TreeMap$EntrySet", "iterator", "()Ljava/util/Iterator;"⟩, cJ35_iterator, 1, (some (.object "java/util/Iterator")))
abbrev y_J27_iterator : ZY := (⟨"java/util/TreeMap$KeySet", "iterator", "()Ljava/util/Iterator;"⟩, cJ27_iterator, 1, (some (.object "java/util/Iterator")))
abbrev y_J19_iterator : ZY := (⟨"java/util/TreeMap$Values", "iterator", "()Ljava/util/Iterator;"⟩, cJ19_iterator, 1, (some (.object "java/util/Iterator")))
abbrev y_J32_iterator : ZY := (⟨"java/util/TreeSet", "iterator", "()Ljava/util/Iterator;"⟩, cJ32_iterator, 1, (some (.object "java/util/Iterator")))
abbrev y_X15_hasNext : ZY := (⟨"GangColumns$FreeRuns$1", "hasNext", "()Z"⟩, cX15_hasNext, 1, (some .boolean))
abbrev y_J20_hasNext : ZY := (⟨"java/util/ArrayList$Itr", "hasNext", "()Z"⟩, cJ20_hasNext, 1, (some .boolean))
abbrev y_J21_hasNext : ZY := (⟨"java/util/PriorityQueue$Itr", "hasNext", "()Z"⟩, cJ21_hasNext, 1, (some .boolean))
abbrev y_J22_hasNext : ZY := (⟨"java/util/TreeMap$PrivateEntryIterator", "hasNext", "()Z"⟩, cJ22_hasNext, 1, (some .boolean))
abbrev y_X15_next : ZY := (⟨"GangColumns$FreeRuns$1", "next", "()Ljava/lang/Object;"⟩, cX15_next, 1, (some (.object "java/lang/Object")))
abbrev y_J20_next : ZY := (⟨"java/util/ArrayList$Itr", "next", "()Ljava/lang/Object;"⟩, cJ20_next, 3, (some (.object "java/lang/Object")))
abbrev y_J21_next : ZY := (⟨"java/util/PriorityQueue$Itr", "next", "()Ljava/lang/Object;"⟩, cJ21_next, 1, (some (.object "java/lang/Object")))
abbrev y_J23_next : ZY := (⟨"java/util/TreeMap$EntryIterator", "next", "()Ljava/lang/Object;"⟩, cJ23_next, 1, (some (.object "java/lang/Object")))
abbrev y_J24_next : ZY := (⟨"java/util/TreeMap$KeyIterator", "next", "()Ljava/lang/Object;"⟩, cJ24_next, 1, (some (.object "java/lang/Object")))
abbrev y_J25_next : ZY := (⟨"java/util/TreeMap$ValueIterator", "next", "()Ljava/lang/Object;"⟩, cJ25_next, 1, (some (.object "java/lang/Object")))
abbrev y_J8_intValue : ZY := (⟨"java/lang/Integer", "intValue", "()I"⟩, cJ8_intValue, 1, (some .int))
abbrev y_X6_byShare : ZY := (⟨"GangColumnsModel", "byShare", "(II)I"⟩, cX6_byShare, 7, (some .int))
abbrev y_X0_isRule : ZY := (⟨"GangColumns", "isRule", "(II)Z"⟩, cX0_isRule, 2, (some .boolean))
abbrev y_X0_ruled : ZY := (⟨"GangColumns", "ruled", "(LGangColumns$Cluster;II)I"⟩, cX0_ruled, 4, (some .int))
abbrev y_X6_isRule : ZY := (⟨"GangColumnsModel", "isRule", "(II)Z"⟩, cX6_isRule, 2, (some .boolean))
abbrev y_X0_jobAt : ZY := (⟨"GangColumns", "jobAt", "(I)LGangColumns$Job;"⟩, cX0_jobAt, 2, (some (.object "GangColumns$Job")))
abbrev y_J2_size : ZY := (⟨"java/util/ArrayList", "size", "()I"⟩, cJ2_size, 1, (some .int))
abbrev y_X9_init : ZY := (⟨"GangColumns$ArmsReader", "<init>", "(LGangColumns;)V"⟩, cX9_init, 2, none)
abbrev y_X9_read : ZY := (⟨"GangColumns$ArmsReader", "read", "()I"⟩, cX9_read, 4, (some .int))
abbrev y_X9_row : ZY := (⟨"GangColumns$ArmsReader", "row", "()[LGangColumns$Arm;"⟩, cX9_row, 3, (some (.array (.object "GangColumns$Arm"))))
abbrev y_X12_init : ZY := (⟨"GangColumns$Job", "<init>", "(IIIIII[LGangColumns$Arm;)V"⟩, cX12_init, 11, none)
abbrev y_J2_add : ZY := (⟨"java/util/ArrayList", "add", "(Ljava/lang/Object;)Z"⟩, cJ2_add, 2, (some .boolean))
abbrev y_X1_happens : ZY := (⟨"GangColumns$Cluster", "happens", "(ILGangColumns$Job;)V"⟩, cX1_happens, 3, none)
abbrev y_X6_isJob : ZY := (⟨"GangColumnsModel", "isJob", "(I)Z"⟩, cX6_isJob, 2, (some .boolean))
abbrev y_X6_at : ZY := (⟨"GangColumnsModel", "at", "(II)I"⟩, cX6_at, 3, (some .int))
abbrev y_X6_readArms : ZY := (⟨"GangColumnsModel", "readArms", "()I"⟩, cX6_readArms, 5, (some .int))
abbrev y_X6_comes : ZY := (⟨"GangColumnsModel", "comes", "(IIII)I"⟩, cX6_comes, 7, (some .int))
abbrev y_X1_off : ZY := (⟨"GangColumns$Cluster", "off", "(LGangColumns$Job;)I"⟩, cX1_off, 5, (some .int))
abbrev y_X6_offs : ZY := (⟨"GangColumnsModel", "offs", "(I)I"⟩, cX6_offs, 4, (some .int))
abbrev y_X0_promiseOf : ZY := (⟨"GangColumns", "promiseOf", "(LGangColumns$Job;)I"⟩, cX0_promiseOf, 2, (some .int))
abbrev y_X12_columns : ZY := (⟨"GangColumns$Job", "columns", "()I"⟩, cX12_columns, 6, (some .int))
abbrev y_X6_told : ZY := (⟨"GangColumnsModel", "told", "(I)I"⟩, cX6_told, 1, (some .int))
abbrev y_X6_columnsOf : ZY := (⟨"GangColumnsModel", "columnsOf", "(I)I"⟩, cX6_columnsOf, 4, (some .int))
abbrev y_X11_lasts : ZY := (⟨"GangColumns$Arm", "lasts", "(I)I"⟩, cX11_lasts, 2, (some .int))
abbrev y_X11_hasStarted : ZY := (⟨"GangColumns$Arm", "hasStarted", "()Z"⟩, cX11_hasStarted, 1, (some .boolean))
abbrev y_X6_lasts : ZY := (⟨"GangColumnsModel", "lasts", "(II)I"⟩, cX6_lasts, 3, (some .int))
abbrev y_X1_line : ZY := (⟨"GangColumns$Cluster", "line", "()Ljava/util/TreeSet;"⟩, cX1_line, 4, (some (.object "java/util/TreeSet")))
abbrev y_J32_size : ZY := (⟨"java/util/TreeSet", "size", "()I"⟩, cJ32_size, 1, (some .int))
abbrev y_X0_numberAt : ZY := (⟨"GangColumns", "numberAt", "(Ljava/lang/Iterable;I)I"⟩, cX0_numberAt, 5, (some .int))
abbrev y_X6_linesUp : ZY := (⟨"GangColumnsModel", "linesUp", "()I"⟩, cX6_linesUp, 4, (some .int))
abbrev y_X17_init : ZY := (⟨"GangColumns$1", "<init>", "(LGangColumns;I)V"⟩, cX17_init, 3, none)
abbrev y_X16_does : ZY := (⟨"GangColumns$Waiting", "does", "(I)I"⟩, cX16_does, 3, (some .int))
abbrev y_X6_isWaiting : ZY := (⟨"GangColumnsModel", "isWaiting", "(I)Z"⟩, cX6_isWaiting, 2, (some .boolean))
abbrev y_X6_sets : ZY := (⟨"GangColumnsModel", "sets", "(III)V"⟩, cX6_sets, 4, none)
abbrev y_X18_init : ZY := (⟨"GangColumns$1Holds", "<init>", "(LGangColumns;I)V"⟩, cX18_init, 3, none)
abbrev y_X12_text : ZY := (⟨"GangColumns$Job", "text", "()Ljava/lang/String;"⟩, cX12_text, 3, (some (.object "java/lang/String")))
abbrev y_J9_length : ZY := (⟨"java/lang/String", "length", "()I"⟩, cJ9_length, 1, (some .int))
abbrev y_J9_charAt : ZY := (⟨"java/lang/String", "charAt", "(I)C"⟩, cJ9_charAt, 2, (some .char))
abbrev y_X6_writesNumber : ZY := (⟨"GangColumnsModel", "writesNumber", "(I)V"⟩, cX6_writesNumber, 3, none)
abbrev y_X6_writes : ZY := (⟨"GangColumnsModel", "writes", "(I)V"⟩, cX6_writes, 2, none)
abbrev y_X0_isSpan : ZY := (⟨"GangColumns", "isSpan", "(IIJI)Z"⟩, cX0_isSpan, 8, (some .boolean))
abbrev y_J4_size : ZY := (⟨"java/util/TreeMap", "size", "()I"⟩, cJ4_size, 1, (some .int))
abbrev y_X0_kept : ZY := (⟨"GangColumns", "kept", "(IIII)I"⟩, cX0_kept, 6, (some .int))
abbrev y_X6_isSpanTold : ZY := (⟨"GangColumnsModel", "isSpanTold", "(IJJI)Z"⟩, cX6_isSpanTold, 7, (some .boolean))
abbrev y_X6_spans : ZY := (⟨"GangColumnsModel", "spans", "()I"⟩, cX6_spans, 3, (some .int))
abbrev y_X6_bits : ZY := (⟨"GangColumnsModel", "bits", "(II)I"⟩, cX6_bits, 2, (some .int))
abbrev y_X6_overlaps : ZY := (⟨"GangColumnsModel", "overlaps", "(III)Z"⟩, cX6_overlaps, 6, (some .boolean))
abbrev y_X6_keeps : ZY := (⟨"GangColumnsModel", "keeps", "(IIII)I"⟩, cX6_keeps, 7, (some .int))
abbrev y_X0_givesBack : ZY := (⟨"GangColumns", "givesBack", "(I)V"⟩, cX0_givesBack, 3, none)
abbrev y_J8_valueOf : ZY := (⟨"java/lang/Integer", "valueOf", "(I)Ljava/lang/Integer;"⟩, cJ8_valueOf, 1, (some (.object "java/lang/Integer")))
abbrev y_J4_get : ZY := (⟨"java/util/TreeMap", "get", "(Ljava/lang/Object;)Ljava/lang/Object;"⟩, cJ4_get, 3, (some (.object "java/lang/Object")))
abbrev y_X1_letsSpan : ZY := (⟨"GangColumns$Cluster", "letsSpan", "(LGangColumns$Span;)V"⟩, cX1_letsSpan, 2, none)
abbrev y_J4_remove : ZY := (⟨"java/util/TreeMap", "remove", "(Ljava/lang/Object;)Ljava/lang/Object;"⟩, cJ4_remove, 4, (some (.object "java/lang/Object")))
abbrev y_X6_spanAt : ZY := (⟨"GangColumnsModel", "spanAt", "(II)I"⟩, cX6_spanAt, 3, (some .int))
abbrev y_X1_tick : ZY := (⟨"GangColumns$Cluster", "tick", "(LGangColumns$Starts;)V"⟩, cX1_tick, 3, none)
abbrev y_X6_ticks : ZY := (⟨"GangColumnsModel", "ticks", "()V"⟩, cX6_ticks, 4, none)
abbrev y_X1_pass : ZY := (⟨"GangColumns$Cluster", "pass", "(LGangColumns$Starts;)I"⟩, cX1_pass, 7, (some .int))
abbrev y_X6_passes : ZY := (⟨"GangColumnsModel", "passes", "()I"⟩, cX6_passes, 8, (some .int))
abbrev y_X0_isColumn : ZY := (⟨"GangColumns", "isColumn", "(I)Z"⟩, cX0_isColumn, 1, (some .boolean))
abbrev y_X0_heldBy : ZY := (⟨"GangColumns", "heldBy", "(IILGangColumns$Matters;)I"⟩, cX0_heldBy, 5, (some .int))
abbrev y_X6_isColumn : ZY := (⟨"GangColumnsModel", "isColumn", "(I)Z"⟩, cX6_isColumn, 1, (some .boolean))
abbrev y_X6_holderOf : ZY := (⟨"GangColumnsModel", "holderOf", "(I)I"⟩, cX6_holderOf, 4, (some .int))
abbrev y_X6_promisedBits : ZY := (⟨"GangColumnsModel", "promisedBits", "(II)I"⟩, cX6_promisedBits, 3, (some .int))
abbrev y_X25_init : ZY := (⟨"GangColumns$Foresight", "<init>", "(LGangColumns;[LGangColumns$Job;)V"⟩, cX25_init, 7, none)
abbrev y_X25_goesOn : ZY := (⟨"GangColumns$Foresight", "goesOn", "(I)V"⟩, cX25_goesOn, 5, none)
abbrev y_X25_startOf : ZY := (⟨"GangColumns$Foresight", "startOf", "(I)I"⟩, cX25_startOf, 2, (some .int))
abbrev y_X6_thinks : ZY := (⟨"GangColumnsModel", "thinks", "()V"⟩, cX6_thinks, 3, none)
abbrev y_X6_goes : ZY := (⟨"GangColumnsModel", "goes", "()V"⟩, cX6_goes, 2, none)
abbrev y_X6_forgets : ZY := (⟨"GangColumnsModel", "forgets", "()V"⟩, cX6_forgets, 1, none)
abbrev y_J11_max : ZY := (⟨"java/lang/Math", "max", "(II)I"⟩, cJ11_max, 2, (some .int))
abbrev y_X26_init : ZY := (⟨"GangColumns$Orders", "<init>", "(LGangColumns;LGangColumns$Job;I)V"⟩, cX26_init, 4, none)
abbrev y_X0_lessOf : ZY := (⟨"GangColumns", "lessOf", "(LGangColumns$Job;I)LGangColumns$Job;"⟩, cX0_lessOf, 4, (some (.object "GangColumns$Job")))
abbrev y_X1_fits_2 : ZY := (⟨"GangColumns$Cluster", "fits", "(LGangColumns$Job;ILGangColumns$Matters;)Z"⟩, cX1_fits_2, 4, (some .boolean))
abbrev y_X6_notWaiting : ZY := (⟨"GangColumnsModel", "notWaiting", "(I)I"⟩, cX6_notWaiting, 2, (some .int))
abbrev y_X6_takes : ZY := (⟨"GangColumnsModel", "takes", "(I)V"⟩, cX6_takes, 3, none)
abbrev y_X6_fits : ZY := (⟨"GangColumnsModel", "fits", "(I)Z"⟩, cX6_fits, 7, (some .boolean))
abbrev y_J2_init : ZY := (⟨"java/util/ArrayList", "<init>", "()V"⟩, cJ2_init, 1, none)
abbrev y_X27_init : ZY := (⟨"GangColumns$Moves", "<init>", "(LGangColumns;LGangColumns$Job;)V"⟩, cX27_init, 3, none)
abbrev y_X27_does : ZY := (⟨"GangColumns$Moves", "does", "(Ljava/util/ArrayList;II)Z"⟩, cX27_does, 6, (some .boolean))
abbrev y_X6_fewestMoves : ZY := (⟨"GangColumnsModel", "fewestMoves", "()I"⟩, cX6_fewestMoves, 4, (some .int))
abbrev y_X0_areTogether : ZY := (⟨"GangColumns", "areTogether", "(LGangColumns$Job;LGangColumns$Job;)Z"⟩, cX0_areTogether, 5, (some .boolean))
abbrev y_X6_fitBoth : ZY := (⟨"GangColumnsModel", "fitBoth", "(II)Z"⟩, cX6_fitBoth, 4, (some .boolean))
abbrev y_X6_takenTo : ZY := (⟨"GangColumnsModel", "takenTo", "(II)I"⟩, cX6_takenTo, 7, (some .int))
abbrev y_X6_begins : ZY := (⟨"GangColumnsModel", "begins", "(II)I"⟩, cX6_begins, 6, (some .int))
abbrev y_X26_from : ZY := (⟨"GangColumns$Orders", "from", "(Ljava/util/ArrayList;)V"⟩, cX26_from, 6, none)
abbrev y_X6_ways : ZY := (⟨"GangColumnsModel", "ways", "(III)I"⟩, cX6_ways, 7, (some .int))
abbrev y_X0_later : ZY := (⟨"GangColumns", "later", "(II)I"⟩, cX0_later, 2, (some .int))
abbrev y_X12_init_2 : ZY := (⟨"GangColumns$Job", "<init>", "(I[LGangColumns$Arm;)V"⟩, cX12_init_2, 3, none)
abbrev y_X1_firstTick : ZY := (⟨"GangColumns$Cluster", "firstTick", "(LGangColumns$Job;II)I"⟩, cX1_firstTick, 11, (some .int))
abbrev y_X6_first : ZY := (⟨"GangColumnsModel", "first", "(I)I"⟩, cX6_first, 3, (some .int))
abbrev y_X0_isHole : ZY := (⟨"GangColumns", "isHole", "(LGangColumns$Column;II)Z"⟩, cX0_isHole, 5, (some .boolean))
abbrev y_X28_init : ZY := (⟨"GangColumns$FreeRuns", "<init>", "([Z)V"⟩, cX28_init, 2, none)
abbrev y_X28_longest : ZY := (⟨"GangColumns$FreeRuns", "longest", "()I"⟩, cX28_longest, 4, (some .int))
abbrev y_X6_busy : ZY := (⟨"GangColumnsModel", "busy", "(JJI)I"⟩, cX6_busy, 10, (some .int))
abbrev y_J2_get : ZY := (⟨"java/util/ArrayList", "get", "(I)Ljava/lang/Object;"⟩, cJ2_get, 2, (some (.object "java/lang/Object")))
abbrev y_X14_ask : ZY := (⟨"GangColumns$Event", "ask", "(I)I"⟩, cX14_ask, 2, (some .int))
abbrev y_X1_copy : ZY := (⟨"GangColumns$Cluster", "copy", "()LGangColumns$Cluster;"⟩, cX1_copy, 5, (some (.object "GangColumns$Cluster")))
abbrev y_X6_laysSums : ZY := (⟨"GangColumnsModel", "laysSums", "([J[J)V"⟩, cX6_laysSums, 3, none)
abbrev y_X1_jobsThat : ZY := (⟨"GangColumns$Cluster", "jobsThat", "(I)I"⟩, cX1_jobsThat, 5, (some .int))
abbrev y_X1_heldNow : ZY := (⟨"GangColumns$Cluster", "heldNow", "()I"⟩, cX1_heldNow, 4, (some .int))
abbrev y_X6_ofThese : ZY := (⟨"GangColumnsModel", "ofThese", "(I)I"⟩, cX6_ofThese, 4, (some .int))
abbrev y_X6_heldBy : ZY := (⟨"GangColumnsModel", "heldBy", "(I)I"⟩, cX6_heldBy, 5, (some .int))
abbrev y_J4_init : ZY := (⟨"java/util/TreeMap", "<init>", "()V"⟩, cJ4_init, 1, none)
abbrev y_X2_init : ZY := (⟨"GangColumns$ByEnd", "<init>", "()V"⟩, cX2_init, 1, none)
abbrev y_J6_init : ZY := (⟨"java/util/PriorityQueue", "<init>", "(Ljava/util/Comparator;)V"⟩, cJ6_init, 2, none)
abbrev y_X3_init : ZY := (⟨"GangColumns$Promises", "<init>", "()V"⟩, cX3_init, 1, none)
abbrev y_X4_init : ZY := (⟨"GangColumns$Cluster$InLine", "<init>", "(LGangColumns$Cluster;)V"⟩, cX4_init, 2, none)
abbrev y_X5_init : ZY := (⟨"GangColumns$Column", "<init>", "()V"⟩, cX5_init, 1, none)
abbrev y_X1_shareOf : ZY := (⟨"GangColumns$Cluster", "shareOf", "(I)LGangColumns$Share;"⟩, cX1_shareOf, 2, (some (.object "GangColumns$Share")))
abbrev y_J4_put : ZY := (⟨"java/util/TreeMap", "put", "(Ljava/lang/Object;Ljava/lang/Object;)Ljava/lang/Object;"⟩, cJ4_put, 3, (some (.object "java/lang/Object")))
abbrev y_J19_init : ZY := (⟨"java/util/TreeMap$Values", "<init>", "(Ljava/util/TreeMap;)V"⟩, cJ19_init, 2, none)
abbrev y_J20_init : ZY := (⟨"java/util/ArrayList$Itr", "<init>", "(Ljava/util/ArrayList;)V"⟩, cJ20_init, 2, none)
abbrev y_J21_init : ZY := (⟨"java/util/PriorityQueue$Itr", "<init>", "(Ljava/util/PriorityQueue;)V"⟩, cJ21_init, 2, none)
abbrev y_J4_getFirstEntry : ZY := (⟨"java/util/TreeMap", "getFirstEntry", "()Ljava/util/TreeMap$Entry;"⟩, cJ4_getFirstEntry, 2, (some (.object "java/util/TreeMap$Entry")))
abbrev y_J23_init : ZY := (⟨"java/util/TreeMap$EntryIterator", "<init>", "(Ljava/util/TreeMap;Ljava/util/TreeMap$Entry;)V"⟩, cJ23_init, 3, none)
abbrev y_J4_keyIterator : ZY := (⟨"java/util/TreeMap", "keyIterator", "()Ljava/util/Iterator;"⟩, cJ4_keyIterator, 1, (some (.object "java/util/Iterator")))
abbrev y_J25_init : ZY := (⟨"java/util/TreeMap$ValueIterator", "<init>", "(Ljava/util/TreeMap;Ljava/util/TreeMap$Entry;)V"⟩, cJ25_init, 3, none)
abbrev y_J4_navigableKeySet : ZY := (⟨"java/util/TreeMap", "navigableKeySet", "()Ljava/util/NavigableSet;"⟩, cJ4_navigableKeySet, 2, (some (.object "java/util/NavigableSet")))
abbrev y_X15_next_2 : ZY := (⟨"GangColumns$FreeRuns$1", "next", "()LGangColumns$Run;"⟩, cX15_next_2, 3, (some (.object "GangColumns$Run")))
abbrev y_J20_checkForComodification : ZY := (⟨"java/util/ArrayList$Itr", "checkForComodification", "()V"⟩, cJ20_checkForComodification, 1, none)
abbrev y_J23_next_2 : ZY := (⟨"java/util/TreeMap$EntryIterator", "next", "()Ljava/util/Map$Entry;"⟩, cJ23_next_2, 1, (some (.object "java/util/Map$Entry")))
abbrev y_J22_nextEntry : ZY := (⟨"java/util/TreeMap$PrivateEntryIterator", "nextEntry", "()Ljava/util/TreeMap$Entry;"⟩, cJ22_nextEntry, 2, (some (.object "java/util/TreeMap$Entry")))
abbrev y_X9_whole : ZY := (⟨"GangColumns$ArmsReader", "whole", "()V"⟩, cX9_whole, 3, none)
abbrev y_X12_byWidth : ZY := (⟨"GangColumns$Job", "byWidth", "()Ljava/util/TreeSet;"⟩, cX12_byWidth, 6, (some (.object "java/util/TreeSet")))
abbrev y_J2_add_2 : ZY := (⟨"java/util/ArrayList", "add", "(Ljava/lang/Object;[Ljava/lang/Object;I)V"⟩, cJ2_add_2, 4, none)
abbrev y_J2_remove : ZY := (⟨"java/util/ArrayList", "remove", "(I)Ljava/lang/Object;"⟩, cJ2_remove, 4, (some (.object "java/lang/Object")))
abbrev y_X14_init : ZY := (⟨"GangColumns$Event", "<init>", "(III)V"⟩, cX14_init, 4, none)
abbrev y_X6_number : ZY := (⟨"GangColumnsModel", "number", "(I)I"⟩, cX6_number, 4, (some .int))
abbrev y_X6_takesSign : ZY := (⟨"GangColumnsModel", "takesSign", "(I)Z"⟩, cX6_takesSign, 2, (some .boolean))
abbrev y_X6_happens : ZY := (⟨"GangColumnsModel", "happens", "(II)V"⟩, cX6_happens, 4, none)
abbrev y_X1_stops : ZY := (⟨"GangColumns$Cluster", "stops", "(LGangColumns$Job;)V"⟩, cX1_stops, 5, none)
abbrev y_X1_forgets : ZY := (⟨"GangColumns$Cluster", "forgets", "(LGangColumns$Job;)V"⟩, cX1_forgets, 2, none)
abbrev y_X6_holds : ZY := (⟨"GangColumnsModel", "holds", "(II)Z"⟩, cX6_holds, 3, (some .boolean))
abbrev y_X3_of : ZY := (⟨"GangColumns$Promises", "of", "(I)I"⟩, cX3_of, 2, (some .int))
abbrev y_J32_init : ZY := (⟨"java/util/TreeSet", "<init>", "(Ljava/util/Comparator;)V"⟩, cJ32_init, 2, none)
abbrev y_X1_isReady : ZY := (⟨"GangColumns$Cluster", "isReady", "(LGangColumns$Job;)Z"⟩, cX1_isReady, 2, (some .boolean))
abbrev y_J32_add : ZY := (⟨"java/util/TreeSet", "add", "(Ljava/lang/Object;)Z"⟩, cJ32_add, 2, (some .boolean))
abbrev y_X28_iterator : ZY := (⟨"GangColumns$FreeRuns", "iterator", "()Ljava/util/Iterator;"⟩, cX28_iterator, 1, (some (.object "java/util/Iterator")))
abbrev y_X6_isInLine : ZY := (⟨"GangColumnsModel", "isInLine", "(I)Z"⟩, cX6_isInLine, 3, (some .boolean))
abbrev y_X6_isAhead : ZY := (⟨"GangColumnsModel", "isAhead", "(II)Z"⟩, cX6_isAhead, 4, (some .boolean))
abbrev y_X16_init : ZY := (⟨"GangColumns$Waiting", "<init>", "(LGangColumns;)V"⟩, cX16_init, 2, none)
abbrev y_X17_with : ZY := (⟨"GangColumns$1", "with", "(LGangColumns$Job;)I"⟩, cX17_with, 3, (some .int))
abbrev y_X18_with : ZY := (⟨"GangColumns$1Holds", "with", "(LGangColumns$Job;)I"⟩, cX18_with, 3, (some .int))
abbrev y_J34_init : ZY := (⟨"java/lang/StringBuilder", "<init>", "()V"⟩, cJ34_init, 1, none)
abbrev y_J34_append : ZY := (⟨"java/lang/StringBuilder", "append", "(I)Ljava/lang/StringBuilder;"⟩, cJ34_append, 2, (some (.object "java/lang/StringBuilder")))
abbrev y_J34_append_2 : ZY := (⟨"java/lang/StringBuilder", "append", "(Ljava/lang/String;)Ljava/lang/StringBuilder;"⟩, cJ34_append_2, 2, (some (.object "java/lang/StringBuilder")))
abbrev y_J34_append_3 : ZY := (⟨"java/lang/StringBuilder", "append", "(C)Ljava/lang/StringBuilder;"⟩, cJ34_append_3, 2, (some (.object "java/lang/StringBuilder")))
abbrev y_J34_toString : ZY := (⟨"java/lang/StringBuilder", "toString", "()Ljava/lang/String;"⟩, cJ34_toString, 1, (some (.object "java/lang/String")))
abbrev y_J34_append_4 : ZY := (⟨"java/lang/StringBuilder", "append", "(Ljava/lang/Object;)Ljava/lang/StringBuilder;"⟩, cJ34_append_4, 2, (some (.object "java/lang/StringBuilder")))
abbrev y_J9_coder : ZY := (⟨"java/lang/String", "coder", "()B"⟩, cJ9_coder, 1, (some .byte))
abbrev y_J9_isLatin1 : ZY := (⟨"java/lang/String", "isLatin1", "()Z"⟩, cJ9_isLatin1, 1, (some .boolean))
abbrev y_J10_charAt : ZY := (⟨"java/lang/StringLatin1", "charAt", "([BI)C"⟩, cJ10_charAt, 2, (some .char))
abbrev y_X19_init : ZY := (⟨"GangColumns$Span", "<init>", "(IIIIII)V"⟩, cX19_init, 7, none)
abbrev y_X1_mayKeep : ZY := (⟨"GangColumns$Cluster", "mayKeep", "(LGangColumns$Span;)Z"⟩, cX1_mayKeep, 4, (some .boolean))
abbrev y_X1_keep : ZY := (⟨"GangColumns$Cluster", "keep", "(LGangColumns$Span;)V"⟩, cX1_keep, 3, none)
abbrev y_X6_areColumns : ZY := (⟨"GangColumnsModel", "areColumns", "(I)Z"⟩, cX6_areColumns, 2, (some .boolean))
abbrev y_X6_isSpan : ZY := (⟨"GangColumnsModel", "isSpan", "(I)Z"⟩, cX6_isSpan, 2, (some .boolean))
abbrev y_X6_spanBits : ZY := (⟨"GangColumnsModel", "spanBits", "(I)I"⟩, cX6_spanBits, 2, (some .int))
abbrev y_X6_heldBits : ZY := (⟨"GangColumnsModel", "heldBits", "(II)I"⟩, cX6_heldBits, 3, (some .int))
abbrev y_X6_knownEnd : ZY := (⟨"GangColumnsModel", "knownEnd", "(II)I"⟩, cX6_knownEnd, 3, (some .int))
abbrev y_J8_init : ZY := (⟨"java/lang/Integer", "<init>", "(I)V"⟩, cJ8_init, 2, none)
abbrev y_J4_getEntry : ZY := (⟨"java/util/TreeMap", "getEntry", "(Ljava/lang/Object;)Ljava/util/TreeMap$Entry;"⟩, cJ4_getEntry, 5, (some (.object "java/util/TreeMap$Entry")))
abbrev y_X1_givesUp : ZY := (⟨"GangColumns$Cluster", "givesUp", "(LGangColumns$Matters;)V"⟩, cX1_givesUp, 6, none)
abbrev y_J4_deleteEntry : ZY := (⟨"java/util/TreeMap", "deleteEntry", "(Ljava/util/TreeMap$Entry;)V"⟩, cJ4_deleteEntry, 3, none)
abbrev y_X1_uses : ZY := (⟨"GangColumns$Cluster", "uses", "()V"⟩, cX1_uses, 4, none)
abbrev y_J0_isEmpty : ZY := (⟨"java/util/AbstractCollection", "isEmpty", "()Z"⟩, cJ0_isEmpty, 1, (some .boolean))
abbrev y_J6_peek : ZY := (⟨"java/util/PriorityQueue", "peek", "()Ljava/lang/Object;"⟩, cJ6_peek, 1, (some (.object "java/lang/Object")))
abbrev y_J6_poll : ZY := (⟨"java/util/PriorityQueue", "poll", "()Ljava/lang/Object;"⟩, cJ6_poll, 6, (some (.object "java/lang/Object")))
abbrev y_X1_lets : ZY := (⟨"GangColumns$Cluster", "lets", "(LGangColumns$Job;LGangColumns$Arm;)V"⟩, cX1_lets, 4, none)
abbrev y_X1_isOver : ZY := (⟨"GangColumns$Cluster", "isOver", "(LGangColumns$Job;)Z"⟩, cX1_isOver, 6, (some .boolean))
abbrev y_X1_ends : ZY := (⟨"GangColumns$Cluster", "ends", "(LGangColumns$Job;)V"⟩, cX1_ends, 7, none)
abbrev y_X1_endsSpans : ZY := (⟨"GangColumns$Cluster", "endsSpans", "()V"⟩, cX1_endsSpans, 4, none)
abbrev y_X6_ends : ZY := (⟨"GangColumnsModel", "ends", "(I)V"⟩, cX6_ends, 5, none)
abbrev y_X3_clear : ZY := (⟨"GangColumns$Promises", "clear", "()V"⟩, cX3_clear, 2, none)
abbrev y_X1_lineUp : ZY := (⟨"GangColumns$Cluster", "lineUp", "()V"⟩, cX1_lineUp, 4, none)
abbrev y_X1_isBarred : ZY := (⟨"GangColumns$Cluster", "isBarred", "(LGangColumns$Job;)Z"⟩, cX1_isBarred, 5, (some .boolean))
abbrev y_X1_fits : ZY := (⟨"GangColumns$Cluster", "fits", "(LGangColumns$Job;I)Z"⟩, cX1_fits, 3, (some .boolean))
abbrev y_X1_starts : ZY := (⟨"GangColumns$Cluster", "starts", "(LGangColumns$Job;)V"⟩, cX1_starts, 8, none)
abbrev y_X0_nothing : ZY := (⟨"GangColumns", "nothing", "(LGangColumns$Job;)V"⟩, cX0_nothing, 1, none)
abbrev y_X25_adds : ZY := (⟨"GangColumns$Foresight", "adds", "(LGangColumns$Job;)V"⟩, cX25_adds, 2, none)
abbrev y_X1_isPromised : ZY := (⟨"GangColumns$Cluster", "isPromised", "(LGangColumns$Job;)Z"⟩, cX1_isPromised, 9, (some .boolean))
abbrev y_X6_starts : ZY := (⟨"GangColumnsModel", "starts", "(I)V"⟩, cX6_starts, 3, none)
abbrev y_X6_promises : ZY := (⟨"GangColumnsModel", "promises", "(I)Z"⟩, cX6_promises, 4, (some .boolean))
abbrev y_X5_at : ZY := (⟨"GangColumns$Column", "at", "(ILGangColumns$Matters;)LGangColumns$Hold;"⟩, cX5_at, 5, (some (.object "GangColumns$Hold")))
abbrev y_X21_of : ZY := (⟨"GangColumns$Kept", "of", "()I"⟩, cX21_of, 1, (some .int))
abbrev y_X24_of : ZY := (⟨"GangColumns$Promised", "of", "()I"⟩, cX24_of, 1, (some .int))
abbrev y_X23_of : ZY := (⟨"GangColumns$Runs", "of", "()I"⟩, cX23_of, 1, (some .int))
abbrev y_X1_thinks : ZY := (⟨"GangColumns$Cluster", "thinks", "()V"⟩, cX1_thinks, 4, none)
abbrev y_X12_copy : ZY := (⟨"GangColumns$Job", "copy", "()LGangColumns$Job;"⟩, cX12_copy, 3, (some (.object "GangColumns$Job")))
abbrev y_X25_waitingMany : ZY := (⟨"GangColumns$Foresight", "waitingMany", "()I"⟩, cX25_waitingMany, 1, (some .int))
abbrev y_X11_init : ZY := (⟨"GangColumns$Arm", "<init>", "(III)V"⟩, cX11_init, 4, none)
abbrev y_X1_takesNone : ZY := (⟨"GangColumns$Cluster", "takesNone", "()V"⟩, cX1_takesNone, 2, none)
abbrev y_X1_takes : ZY := (⟨"GangColumns$Cluster", "takes", "(LGangColumns$Job;ILGangColumns$Matters;)Z"⟩, cX1_takes, 8, (some .boolean))
abbrev y_X6_place : ZY := (⟨"GangColumnsModel", "place", "(II)I"⟩, cX6_place, 6, (some .int))
abbrev y_J1_init : ZY := (⟨"java/util/AbstractList", "<init>", "()V"⟩, cJ1_init, 1, none)
abbrev y_X27_isDone : ZY := (⟨"GangColumns$Moves", "isDone", "()Z"⟩, cX27_isDone, 6, (some .boolean))
abbrev y_X6_areMoved : ZY := (⟨"GangColumnsModel", "areMoved", "(II)Z"⟩, cX6_areMoved, 4, (some .boolean))
abbrev y_X6_isHolding : ZY := (⟨"GangColumnsModel", "isHolding", "(I)Z"⟩, cX6_isHolding, 3, (some .boolean))
abbrev y_X1_fit : ZY := (⟨"GangColumns$Cluster", "fit", "(LGangColumns$Job;LGangColumns$Matters;LGangColumns$Job;LGangColumns$Matters;)Z"⟩, cX1_fit, 5, (some .boolean))
abbrev y_X6_sooner : ZY := (⟨"GangColumnsModel", "sooner", "(III)I"⟩, cX6_sooner, 3, (some .int))
abbrev y_X1_fits_3 : ZY := (⟨"GangColumns$Cluster", "fits", "(Ljava/lang/Iterable;ILGangColumns$Matters;)Z"⟩, cX1_fits_3, 4, (some .boolean))
abbrev y_J2_contains : ZY := (⟨"java/util/ArrayList", "contains", "(Ljava/lang/Object;)Z"⟩, cJ2_contains, 2, (some .boolean))
abbrev y_X5_turnBehind : ZY := (⟨"GangColumns$Column", "turnBehind", "(I[LGangColumns$Arm;)I"⟩, cX5_turnBehind, 11, (some .int))
abbrev y_J11_min : ZY := (⟨"java/lang/Math", "min", "(II)I"⟩, cJ11_min, 2, (some .int))
abbrev y_X6_change : ZY := (⟨"GangColumnsModel", "change", "(I)I"⟩, cX6_change, 6, (some .int))
abbrev y_J18_checkIndex : ZY := (⟨"java/util/Objects", "checkIndex", "(II)I"⟩, cJ18_checkIndex, 2, (some .int))
abbrev y_J2_elementData : ZY := (⟨"java/util/ArrayList", "elementData", "(I)Ljava/lang/Object;"⟩, cJ2_elementData, 2, (some (.object "java/lang/Object")))
abbrev y_X5_copy : ZY := (⟨"GangColumns$Column", "copy", "()LGangColumns$Column;"⟩, cX5_copy, 2, (some (.object "GangColumns$Column")))
abbrev y_J2_addAll : ZY := (⟨"java/util/ArrayList", "addAll", "(Ljava/util/Collection;)Z"⟩, cJ2_addAll, 6, (some .boolean))
abbrev y_X22_init : ZY := (⟨"GangColumns$Going", "<init>", "(LGangColumns$Job;LGangColumns$Arm;)V"⟩, cX22_init, 3, none)
abbrev y_J6_add : ZY := (⟨"java/util/PriorityQueue", "add", "(Ljava/lang/Object;)Z"⟩, cJ6_add, 2, (some .boolean))
abbrev y_X3_like : ZY := (⟨"GangColumns$Promises", "like", "(LGangColumns$Promises;)V"⟩, cX3_like, 2, none)
abbrev y_J3_init : ZY := (⟨"java/util/AbstractMap", "<init>", "()V"⟩, cJ3_init, 1, none)
abbrev y_J6_init_2 : ZY := (⟨"java/util/PriorityQueue", "<init>", "(ILjava/util/Comparator;)V"⟩, cJ6_init_2, 3, none)
abbrev y_X7_init : ZY := (⟨"GangColumns$Share", "<init>", "(IJI)V"⟩, cX7_init, 5, none)
abbrev y_J4_put_2 : ZY := (⟨"java/util/TreeMap", "put", "(Ljava/lang/Object;Ljava/lang/Object;Z)Ljava/lang/Object;"⟩, cJ4_put_2, 10, (some (.object "java/lang/Object")))
abbrev y_J0_init : ZY := (⟨"java/util/AbstractCollection", "<init>", "()V"⟩, cJ0_init, 1, none)
abbrev y_J22_init : ZY := (⟨"java/util/TreeMap$PrivateEntryIterator", "<init>", "(Ljava/util/TreeMap;Ljava/util/TreeMap$Entry;)V"⟩, cJ22_init, 3, none)
abbrev y_J24_init : ZY := (⟨"java/util/TreeMap$KeyIterator", "<init>", "(Ljava/util/TreeMap;Ljava/util/TreeMap$Entry;)V"⟩, cJ24_init, 3, none)
abbrev y_J27_init : ZY := (⟨"java/util/TreeMap$KeySet", "<init>", "(Ljava/util/NavigableMap;)V"⟩, cJ27_init, 2, none)
abbrev y_X8_init : ZY := (⟨"GangColumns$Run", "<init>", "(II)V"⟩, cX8_init, 3, none)
abbrev y_X15_begin : ZY := (⟨"GangColumns$FreeRuns$1", "begin", "(I)I"⟩, cX15_begin, 3, (some .int))
abbrev y_J4_successor : ZY := (⟨"java/util/TreeMap", "successor", "(Ljava/util/TreeMap$Entry;)Ljava/util/TreeMap$Entry;"⟩, cJ4_successor, 3, (some (.object "java/util/TreeMap$Entry")))
abbrev y_X9_number : ZY := (⟨"GangColumns$ArmsReader", "number", "(I)I"⟩, cX9_number, 4, (some .int))
abbrev y_X9_peek : ZY := (⟨"GangColumns$ArmsReader", "peek", "()I"⟩, cX9_peek, 1, (some .int))
abbrev y_X10_init : ZY := (⟨"GangColumns$Fault", "<init>", "(I)V"⟩, cX10_init, 2, none)
abbrev y_X13_init : ZY := (⟨"GangColumns$ByWidth", "<init>", "()V"⟩, cX13_init, 1, none)
abbrev y_J2_grow : ZY := (⟨"java/util/ArrayList", "grow", "()[Ljava/lang/Object;"⟩, cJ2_grow, 1, (some (.array (.object "java/lang/Object"))))
abbrev y_J2_fastRemove : ZY := (⟨"java/util/ArrayList", "fastRemove", "([Ljava/lang/Object;I)V"⟩, cJ2_fastRemove, 4, none)
abbrev y_X6_isFigure : ZY := (⟨"GangColumnsModel", "isFigure", "()Z"⟩, cX6_isFigure, 1, (some .boolean))
abbrev y_X3_remove : ZY := (⟨"GangColumns$Promises", "remove", "(I)V"⟩, cX3_remove, 2, none)
abbrev y_J4_init_2 : ZY := (⟨"java/util/TreeMap", "<init>", "(Ljava/util/Comparator;)V"⟩, cJ4_init_2, 2, none)
abbrev y_J32_init_2 : ZY := (⟨"java/util/TreeSet", "<init>", "(Ljava/util/NavigableMap;)V"⟩, cJ32_init_2, 2, none)
abbrev y_X15_init : ZY := (⟨"GangColumns$FreeRuns$1", "<init>", "(LGangColumns$FreeRuns;)V"⟩, cX15_init, 2, none)
abbrev y_J33_init : ZY := (⟨"java/lang/AbstractStringBuilder", "<init>", "(I)V"⟩, cJ33_init, 2, none)
abbrev y_J33_append : ZY := (⟨"java/lang/AbstractStringBuilder", "append", "(I)Ljava/lang/AbstractStringBuilder;"⟩, cJ33_append, 4, (some (.object "java/lang/AbstractStringBuilder")))
abbrev y_J33_append_2 : ZY := (⟨"java/lang/AbstractStringBuilder", "append", "(Ljava/lang/String;)Ljava/lang/AbstractStringBuilder;"⟩, cJ33_append_2, 3, (some (.object "java/lang/AbstractStringBuilder")))
abbrev y_J33_append_3 : ZY := (⟨"java/lang/AbstractStringBuilder", "append", "(C)Ljava/lang/AbstractStringBuilder;"⟩, cJ33_append_3, 2, (some (.object "java/lang/AbstractStringBuilder")))
abbrev y_J9_init : ZY := (⟨"java/lang/String", "<init>", "(Ljava/lang/StringBuilder;)V"⟩, cJ9_init, 2, none)
abbrev y_J9_valueOf : ZY := (⟨"java/lang/String", "valueOf", "(Ljava/lang/Object;)Ljava/lang/String;"⟩, cJ9_valueOf, 1, (some (.object "java/lang/String")))
abbrev y_J9_checkIndex : ZY := (⟨"java/lang/String", "checkIndex", "(II)V"⟩, cJ9_checkIndex, 2, none)
abbrev y_X5_isFree : ZY := (⟨"GangColumns$Column", "isFree", "(IILGangColumns$Matters;)Z"⟩, cX5_isFree, 5, (some .boolean))
abbrev y_X21_init : ZY := (⟨"GangColumns$Kept", "<init>", "(LGangColumns$Span;)V"⟩, cX21_init, 2, none)
abbrev y_X5_add : ZY := (⟨"GangColumns$Column", "add", "(LGangColumns$Hold;)V"⟩, cX5_add, 3, none)
abbrev y_J7_init : ZY := (⟨"java/lang/Number", "<init>", "()V"⟩, cJ7_init, 1, none)
abbrev y_J4_getEntryUsingComparator : ZY := (⟨"java/util/TreeMap", "getEntryUsingComparator", "(Ljava/lang/Object;)Ljava/util/TreeMap$Entry;"⟩, cJ4_getEntryUsingComparator, 6, (some (.object "java/util/TreeMap$Entry")))
abbrev y_J18_requireNonNull : ZY := (⟨"java/util/Objects", "requireNonNull", "(Ljava/lang/Object;)Ljava/lang/Object;"⟩, cJ18_requireNonNull, 1, (some (.object "java/lang/Object")))
abbrev y_X20_compareTo : ZY := (⟨"GangColumns$Hold", "compareTo", "(Ljava/lang/Object;)I"⟩, cX20_compareTo, 2, (some .int))
abbrev y_X7_compareTo : ZY := (⟨"GangColumns$Share", "compareTo", "(Ljava/lang/Object;)I"⟩, cX7_compareTo, 2, (some .int))
abbrev y_J8_compareTo : ZY := (⟨"java/lang/Integer", "compareTo", "(Ljava/lang/Object;)I"⟩, cJ8_compareTo, 2, (some .int))
abbrev y_J9_compareTo : ZY := (⟨"java/lang/String", "compareTo", "(Ljava/lang/Object;)I"⟩, cJ9_compareTo, 2, (some .int))
abbrev y_J34_compareTo : ZY := (⟨"java/lang/StringBuilder", "compareTo", "(Ljava/lang/Object;)I"⟩, cJ34_compareTo, 2, (some .int))
abbrev y_X5_lets : ZY := (⟨"GangColumns$Column", "lets", "(LGangColumns$Matters;)V"⟩, cX5_lets, 3, none)
abbrev y_J4_fixAfterDeletion : ZY := (⟨"java/util/TreeMap", "fixAfterDeletion", "(Ljava/util/TreeMap$Entry;)V"⟩, cJ4_fixAfterDeletion, 3, none)
abbrev y_X1_charts : ZY := (⟨"GangColumns$Cluster", "charts", "()V"⟩, cX1_charts, 6, none)
abbrev y_J6_size : ZY := (⟨"java/util/PriorityQueue", "size", "()I"⟩, cJ6_size, 1, (some .int))
abbrev y_J35_size : ZY := (⟨"java/util/TreeMap$EntrySet", "size", "()I"⟩, cJ35_size, 1, (some .int))
abbrev y_J27_size : ZY := (⟨"java/util/TreeMap$KeySet", "size", "()I"⟩, cJ27_size, 1, (some .int))
abbrev y_J19_size : ZY := (⟨"java/util/TreeMap$Values", "size", "()I"⟩, cJ19_size, 1, (some .int))
abbrev y_J6_siftDownComparable : ZY := (⟨"java/util/PriorityQueue", "siftDownComparable", "(ILjava/lang/Object;[Ljava/lang/Object;I)V"⟩, cJ6_siftDownComparable, 9, none)
abbrev y_J6_siftDownUsingComparator : ZY := (⟨"java/util/PriorityQueue", "siftDownUsingComparator", "(ILjava/lang/Object;[Ljava/lang/Object;ILjava/util/Comparator;)V"⟩, cJ6_siftDownUsingComparator, 9, none)
abbrev y_J3_isEmpty : ZY := (⟨"java/util/AbstractMap", "isEmpty", "()Z"⟩, cJ3_isEmpty, 1, (some .boolean))
abbrev y_J4_clear : ZY := (⟨"java/util/TreeMap", "clear", "()V"⟩, cJ4_clear, 1, none)
abbrev y_J4_putAll : ZY := (⟨"java/util/TreeMap", "putAll", "(Ljava/util/Map;)V"⟩, cJ4_putAll, 4, none)
abbrev y_X4_compare_2 : ZY := (⟨"GangColumns$Cluster$InLine", "compare", "(LGangColumns$Job;LGangColumns$Job;)I"⟩, cX4_compare_2, 7, (some .int))
abbrev y_X23_init : ZY := (⟨"GangColumns$Runs", "<init>", "(III)V"⟩, cX23_init, 4, none)
abbrev y_X24_init : ZY := (⟨"GangColumns$Promised", "<init>", "(III)V"⟩, cX24_init, 4, none)
abbrev y_X3_put : ZY := (⟨"GangColumns$Promises", "put", "(II)V"⟩, cX3_put, 3, none)
abbrev y_X20_meets : ZY := (⟨"GangColumns$Hold", "meets", "(II)Z"⟩, cX20_meets, 3, (some .boolean))
abbrev y_X1_lambda_lets_3 : ZY := (⟨"GangColumns$Cluster", "lambda$lets$3", "(LGangColumns$Job;LGangColumns$Hold;)Z"⟩, cX1_lambda_lets_3, 2, (some .boolean))
abbrev y_X1_lambda_forgets_5 : ZY := (⟨"GangColumns$Cluster", "lambda$forgets$5", "(LGangColumns$Job;LGangColumns$Hold;)Z"⟩, cX1_lambda_forgets_5, 2, (some .boolean))
abbrev y_X1_lambda_mayKeep_6 : ZY := (⟨"GangColumns$Cluster", "lambda$mayKeep$6", "(LGangColumns$Hold;)Z"⟩, cX1_lambda_mayKeep_6, 1, (some .boolean))
abbrev y_X1_lambda_letsSpan_4 : ZY := (⟨"GangColumns$Cluster", "lambda$letsSpan$4", "(LGangColumns$Span;LGangColumns$Hold;)Z"⟩, cX1_lambda_letsSpan_4, 2, (some .boolean))
abbrev y_X1_lambda_pass_2 : ZY := (⟨"GangColumns$Cluster", "lambda$pass$2", "(LGangColumns$Hold;)Z"⟩, cX1_lambda_pass_2, 1, (some .boolean))
abbrev y_X1_lambda_fits_0 : ZY := (⟨"GangColumns$Cluster", "lambda$fits$0", "(LGangColumns$Job;LGangColumns$Hold;)Z"⟩, cX1_lambda_fits_0, 2, (some .boolean))
abbrev y_X1_lambda_firstTick_1 : ZY := (⟨"GangColumns$Cluster", "lambda$firstTick$1", "(LGangColumns$Job;LGangColumns$Hold;)Z"⟩, cX1_lambda_firstTick_1, 2, (some .boolean))
abbrev y_X0_lambda_holder_0 : ZY := (⟨"GangColumns", "lambda$holder$0", "(LGangColumns$Hold;)Z"⟩, cX0_lambda_holder_0, 1, (some .boolean))
abbrev y_X0_lambda_promised_1 : ZY := (⟨"GangColumns", "lambda$promised$1", "(LGangColumns$Hold;)Z"⟩, cX0_lambda_promised_1, 1, (some .boolean))
abbrev y_X0_lambda_shrunk_2 : ZY := (⟨"GangColumns", "lambda$shrunk$2", "(LGangColumns$Orders;LGangColumns$Hold;)Z"⟩, cX0_lambda_shrunk_2, 2, (some .boolean))
abbrev y_X27_lambda_freeFor_0 : ZY := (⟨"GangColumns$Moves", "lambda$freeFor$0", "(IILGangColumns$Hold;)Z"⟩, cX27_lambda_freeFor_0, 4, (some .boolean))
abbrev y_X0_lambda_areTogether_3 : ZY := (⟨"GangColumns", "lambda$areTogether$3", "(LGangColumns$Orders;LGangColumns$Orders;LGangColumns$Hold;)Z"⟩, cX0_lambda_areTogether_3, 3, (some .boolean))
abbrev y_X0_lambda_areTogether_4 : ZY := (⟨"GangColumns", "lambda$areTogether$4", "(LGangColumns$Orders;LGangColumns$Orders;LGangColumns$Hold;)Z"⟩, cX0_lambda_areTogether_4, 3, (some .boolean))
abbrev y_X26_matters : ZY := (⟨"GangColumns$Orders", "matters", "(LGangColumns$Hold;)Z"⟩, cX26_matters, 2, (some .boolean))
abbrev y_X11_copy : ZY := (⟨"GangColumns$Arm", "copy", "()LGangColumns$Arm;"⟩, cX11_copy, 2, (some (.object "GangColumns$Arm")))
abbrev y_X1_takes_2 : ZY := (⟨"GangColumns$Cluster", "takes", "(LGangColumns$Arm;ILGangColumns$Matters;)Z"⟩, cX1_takes_2, 6, (some .boolean))
abbrev y_X27_puts : ZY := (⟨"GangColumns$Moves", "puts", "(III[Z)Z"⟩, cX27_puts, 7, (some .boolean))
abbrev y_X29_init : ZY := (⟨"GangColumns$WidestGoing", "<init>", "()V"⟩, cX29_init, 1, none)
abbrev y_J32_addAll : ZY := (⟨"java/util/TreeSet", "addAll", "(Ljava/util/Collection;)Z"⟩, cJ32_addAll, 4, (some .boolean))
abbrev y_X6_moved : ZY := (⟨"GangColumnsModel", "moved", "()Z"⟩, cX6_moved, 4, (some .boolean))
abbrev y_X1_take : ZY := (⟨"GangColumns$Cluster", "take", "(Ljava/lang/Iterable;ILGangColumns$Matters;)Z"⟩, cX1_take, 6, (some .boolean))
abbrev y_J2_indexOf : ZY := (⟨"java/util/ArrayList", "indexOf", "(Ljava/lang/Object;)I"⟩, cJ2_indexOf, 2, (some .int))
abbrev y_J16_checkIndex : ZY := (⟨"jdk/internal/util/Preconditions", "checkIndex", "(IILjava/util/function/BiFunction;)I"⟩, cJ16_checkIndex, 3, (some .int))
abbrev y_J2_toArray : ZY := (⟨"java/util/ArrayList", "toArray", "()[Ljava/lang/Object;"⟩, cJ2_toArray, 1, (some (.array (.object "java/lang/Object"))))
abbrev y_J6_toArray : ZY := (⟨"java/util/PriorityQueue", "toArray", "()[Ljava/lang/Object;"⟩, cJ6_toArray, 1, (some (.array (.object "java/lang/Object"))))
abbrev y_J0_toArray : ZY := (⟨"java/util/AbstractCollection", "toArray", "()[Ljava/lang/Object;"⟩, cJ0_toArray, 4, (some (.array (.object "java/lang/Object"))))
abbrev y_J2_grow_2 : ZY := (⟨"java/util/ArrayList", "grow", "(I)[Ljava/lang/Object;"⟩, cJ2_grow_2, 4, (some (.array (.object "java/lang/Object"))))
abbrev y_J6_offer : ZY := (⟨"java/util/PriorityQueue", "offer", "(Ljava/lang/Object;)Z"⟩, cJ6_offer, 3, (some .boolean))
abbrev y_J5_init : ZY := (⟨"java/util/AbstractQueue", "<init>", "()V"⟩, cJ5_init, 1, none)
abbrev y_J4_addEntryToEmptyMap : ZY := (⟨"java/util/TreeMap", "addEntryToEmptyMap", "(Ljava/lang/Object;Ljava/lang/Object;)V"⟩, cJ4_addEntryToEmptyMap, 3, none)
abbrev y_X2_compare : ZY := (⟨"GangColumns$ByEnd", "compare", "(Ljava/lang/Object;Ljava/lang/Object;)I"⟩, cX2_compare, 3, (some .int))
abbrev y_X13_compare : ZY := (⟨"GangColumns$ByWidth", "compare", "(Ljava/lang/Object;Ljava/lang/Object;)I"⟩, cX13_compare, 3, (some .int))
abbrev y_X4_compare : ZY := (⟨"GangColumns$Cluster$InLine", "compare", "(Ljava/lang/Object;Ljava/lang/Object;)I"⟩, cX4_compare, 3, (some .int))
abbrev y_X29_compare : ZY := (⟨"GangColumns$WidestGoing", "compare", "(Ljava/lang/Object;Ljava/lang/Object;)I"⟩, cX29_compare, 3, (some .int))
abbrev y_J4_addEntry : ZY := (⟨"java/util/TreeMap", "addEntry", "(Ljava/lang/Object;Ljava/lang/Object;Ljava/util/TreeMap$Entry;Z)V"⟩, cJ4_addEntry, 6, none)
abbrev y_J26_init : ZY := (⟨"java/util/AbstractSet", "<init>", "()V"⟩, cJ26_init, 1, none)
abbrev y_J30_init : ZY := (⟨"java/lang/Exception", "<init>", "(Ljava/lang/String;Ljava/lang/Throwable;ZZ)V"⟩, cJ30_init, 5, none)
abbrev y_J8_stringSize : ZY := (⟨"java/lang/Integer", "stringSize", "(I)I"⟩, cJ8_stringSize, 4, (some .int))
abbrev y_J33_ensureCapacityInternal : ZY := (⟨"java/lang/AbstractStringBuilder", "ensureCapacityInternal", "(I)V"⟩, cJ33_ensureCapacityInternal, 3, none)
abbrev y_J33_isLatin1 : ZY := (⟨"java/lang/AbstractStringBuilder", "isLatin1", "()Z"⟩, cJ33_isLatin1, 1, (some .boolean))
abbrev y_J8_getChars : ZY := (⟨"java/lang/Integer", "getChars", "(II[B)I"⟩, cJ8_getChars, 7, (some .int))
abbrev y_J33_appendNull : ZY := (⟨"java/lang/AbstractStringBuilder", "appendNull", "()Ljava/lang/AbstractStringBuilder;"⟩, cJ33_appendNull, 3, (some (.object "java/lang/AbstractStringBuilder")))
abbrev y_J33_putStringAt : ZY := (⟨"java/lang/AbstractStringBuilder", "putStringAt", "(ILjava/lang/String;)V"⟩, cJ33_putStringAt, 3, none)
abbrev y_J10_canEncode : ZY := (⟨"java/lang/StringLatin1", "canEncode", "(C)Z"⟩, cJ10_canEncode, 1, (some .boolean))
abbrev y_J33_inflate : ZY := (⟨"java/lang/AbstractStringBuilder", "inflate", "()V"⟩, cJ33_inflate, 2, none)
abbrev y_J9_init_2 : ZY := (⟨"java/lang/String", "<init>", "(Ljava/lang/AbstractStringBuilder;Ljava/lang/Void;)V"⟩, cJ9_init_2, 5, none)
abbrev y_J29_toString : ZY := (⟨"java/lang/Throwable", "toString", "()Ljava/lang/String;"⟩, cJ29_toString, 3, (some (.object "java/lang/String")))
abbrev y_J8_toString : ZY := (⟨"java/lang/Integer", "toString", "()Ljava/lang/String;"⟩, cJ8_toString, 1, (some (.object "java/lang/String")))
abbrev y_J9_toString : ZY := (⟨"java/lang/String", "toString", "()Ljava/lang/String;"⟩, cJ9_toString, 1, (some (.object "java/lang/String")))
abbrev y_X20_init : ZY := (⟨"GangColumns$Hold", "<init>", "(II)V"⟩, cX20_init, 3, none)
abbrev y_X20_compareTo_2 : ZY := (⟨"GangColumns$Hold", "compareTo", "(LGangColumns$Hold;)I"⟩, cX20_compareTo_2, 2, (some .int))
abbrev y_J2_add_3 : ZY := (⟨"java/util/ArrayList", "add", "(ILjava/lang/Object;)V"⟩, cJ2_add_3, 5, none)
abbrev y_X7_compareTo_2 : ZY := (⟨"GangColumns$Share", "compareTo", "(LGangColumns$Share;)I"⟩, cX7_compareTo_2, 3, (some .int))
abbrev y_J8_compareTo_2 : ZY := (⟨"java/lang/Integer", "compareTo", "(Ljava/lang/Integer;)I"⟩, cJ8_compareTo_2, 2, (some .int))
abbrev y_J9_compareTo_2 : ZY := (⟨"java/lang/String", "compareTo", "(Ljava/lang/String;)I"⟩, cJ9_compareTo_2, 5, (some .int))
abbrev y_J34_compareTo_2 : ZY := (⟨"java/lang/StringBuilder", "compareTo", "(Ljava/lang/StringBuilder;)I"⟩, cJ34_compareTo_2, 2, (some .int))
abbrev y_J4_colorOf : ZY := (⟨"java/util/TreeMap", "colorOf", "(Ljava/util/TreeMap$Entry;)Z"⟩, cJ4_colorOf, 1, (some .boolean))
abbrev y_J4_parentOf : ZY := (⟨"java/util/TreeMap", "parentOf", "(Ljava/util/TreeMap$Entry;)Ljava/util/TreeMap$Entry;"⟩, cJ4_parentOf, 1, (some (.object "java/util/TreeMap$Entry")))
abbrev y_J4_leftOf : ZY := (⟨"java/util/TreeMap", "leftOf", "(Ljava/util/TreeMap$Entry;)Ljava/util/TreeMap$Entry;"⟩, cJ4_leftOf, 1, (some (.object "java/util/TreeMap$Entry")))
abbrev y_J4_rightOf : ZY := (⟨"java/util/TreeMap", "rightOf", "(Ljava/util/TreeMap$Entry;)Ljava/util/TreeMap$Entry;"⟩, cJ4_rightOf, 1, (some (.object "java/util/TreeMap$Entry")))
abbrev y_J4_setColor : ZY := (⟨"java/util/TreeMap", "setColor", "(Ljava/util/TreeMap$Entry;Z)V"⟩, cJ4_setColor, 2, none)
abbrev y_J4_rotateLeft : ZY := (⟨"java/util/TreeMap", "rotateLeft", "(Ljava/util/TreeMap$Entry;)V"⟩, cJ4_rotateLeft, 3, none)
abbrev y_J4_rotateRight : ZY := (⟨"java/util/TreeMap", "rotateRight", "(Ljava/util/TreeMap$Entry;)V"⟩, cJ4_rotateRight, 3, none)
abbrev y_J4_comparator : ZY := (⟨"java/util/TreeMap", "comparator", "()Ljava/util/Comparator;"⟩, cJ4_comparator, 1, (some (.object "java/util/Comparator")))
abbrev y_J18_equals : ZY := (⟨"java/util/Objects", "equals", "(Ljava/lang/Object;Ljava/lang/Object;)Z"⟩, cJ18_equals, 2, (some .boolean))
abbrev y_J4_entrySet : ZY := (⟨"java/util/TreeMap", "entrySet", "()Ljava/util/Set;"⟩, cJ4_entrySet, 2, (some (.object "java/util/Set")))
abbrev y_J4_buildFromSorted : ZY := (⟨"java/util/TreeMap", "buildFromSorted", "(ILjava/util/Iterator;Ljava/io/ObjectInputStream;Ljava/lang/Object;)V"⟩, cJ4_buildFromSorted, 5, none)
abbrev y_J3_putAll : ZY := (⟨"java/util/AbstractMap", "putAll", "(Ljava/util/Map;)V"⟩, cJ3_putAll, 4, none)
abbrev y_X21_hinders : ZY := (⟨"GangColumns$Kept", "hinders", "(I)Z"⟩, cX21_hinders, 2, (some .boolean))
abbrev y_X24_hinders : ZY := (⟨"GangColumns$Promised", "hinders", "(I)Z"⟩, cX24_hinders, 2, (some .boolean))
abbrev y_X23_hinders : ZY := (⟨"GangColumns$Runs", "hinders", "(I)Z"⟩, cX23_hinders, 2, (some .boolean))
abbrev y_X26_isOwn : ZY := (⟨"GangColumns$Orders", "isOwn", "(LGangColumns$Hold;)Z"⟩, cX26_isOwn, 2, (some .boolean))
abbrev y_X27_isMoved : ZY := (⟨"GangColumns$Moves", "isMoved", "(LGangColumns$Hold;I)Z"⟩, cX27_isMoved, 5, (some .boolean))
abbrev y_X1_runFor : ZY := (⟨"GangColumns$Cluster", "runFor", "(LGangColumns$Arm;ILGangColumns$Matters;)I"⟩, cX1_runFor, 8, (some .int))
abbrev y_X27_freeFor : ZY := (⟨"GangColumns$Moves", "freeFor", "(II[Z)[Z"⟩, cX27_freeFor, 7, (some (.array .boolean)))
abbrev y_X28_fits : ZY := (⟨"GangColumns$FreeRuns", "fits", "(I)LGangColumns$Run;"⟩, cX28_fits, 5, (some (.object "GangColumns$Run")))
abbrev y_J27_comparator : ZY := (⟨"java/util/TreeMap$KeySet", "comparator", "()Ljava/util/Comparator;"⟩, cJ27_comparator, 1, (some (.object "java/util/Comparator")))
abbrev y_J32_comparator : ZY := (⟨"java/util/TreeSet", "comparator", "()Ljava/util/Comparator;"⟩, cJ32_comparator, 1, (some (.object "java/util/Comparator")))
abbrev y_J4_addAllForTreeSet : ZY := (⟨"java/util/TreeMap", "addAllForTreeSet", "(Ljava/util/SortedSet;Ljava/lang/Object;)V"⟩, cJ4_addAllForTreeSet, 4, none)
abbrev y_J0_addAll : ZY := (⟨"java/util/AbstractCollection", "addAll", "(Ljava/util/Collection;)Z"⟩, cJ0_addAll, 5, (some .boolean))
abbrev y_X6_foundBits : ZY := (⟨"GangColumnsModel", "foundBits", "()I"⟩, cX6_foundBits, 3, (some .int))
abbrev y_X6_elsewhere : ZY := (⟨"GangColumnsModel", "elsewhere", "(II)I"⟩, cX6_elsewhere, 6, (some .int))
abbrev y_J2_indexOfRange : ZY := (⟨"java/util/ArrayList", "indexOfRange", "(Ljava/lang/Object;II)I"⟩, cJ2_indexOfRange, 6, (some .int))
abbrev y_J31_copyOf : ZY := (⟨"java/util/Arrays", "copyOf", "([Ljava/lang/Object;I)[Ljava/lang/Object;"⟩, cJ31_copyOf, 2, (some (.array (.object "java/lang/Object"))))
abbrev y_J0_finishToArray : ZY := (⟨"java/util/AbstractCollection", "finishToArray", "([Ljava/lang/Object;Ljava/util/Iterator;)[Ljava/lang/Object;"⟩, cJ0_finishToArray, 4, (some (.array (.object "java/lang/Object"))))
abbrev y_J12_newLength : ZY := (⟨"jdk/internal/util/ArraysSupport", "newLength", "(III)I"⟩, cJ12_newLength, 4, (some .int))
abbrev y_J6_grow : ZY := (⟨"java/util/PriorityQueue", "grow", "(I)V"⟩, cJ6_grow, 4, none)
abbrev y_J6_siftUp : ZY := (⟨"java/util/PriorityQueue", "siftUp", "(ILjava/lang/Object;)V"⟩, cJ6_siftUp, 3, none)
abbrev y_J4_compare : ZY := (⟨"java/util/TreeMap", "compare", "(Ljava/lang/Object;Ljava/lang/Object;)I"⟩, cJ4_compare, 3, (some .int))
abbrev y_J17_init : ZY := (⟨"java/util/TreeMap$Entry", "<init>", "(Ljava/lang/Object;Ljava/lang/Object;Ljava/util/TreeMap$Entry;)V"⟩, cJ17_init, 4, none)
abbrev y_X2_compare_2 : ZY := (⟨"GangColumns$ByEnd", "compare", "(LGangColumns$Going;LGangColumns$Going;)I"⟩, cX2_compare_2, 3, (some .int))
abbrev y_X13_compare_2 : ZY := (⟨"GangColumns$ByWidth", "compare", "(LGangColumns$Arm;LGangColumns$Arm;)I"⟩, cX13_compare_2, 3, (some .int))
abbrev y_X29_compare_2 : ZY := (⟨"GangColumns$WidestGoing", "compare", "(LGangColumns$Going;LGangColumns$Going;)I"⟩, cX29_compare_2, 3, (some .int))
abbrev y_J4_fixAfterInsertion : ZY := (⟨"java/util/TreeMap", "fixAfterInsertion", "(Ljava/util/TreeMap$Entry;)V"⟩, cJ4_fixAfterInsertion, 3, none)
abbrev y_J29_init_2 : ZY := (⟨"java/lang/Throwable", "<init>", "(Ljava/lang/String;Ljava/lang/Throwable;ZZ)V"⟩, cJ29_init_2, 5, none)
abbrev y_J33_newCapacity : ZY := (⟨"java/lang/AbstractStringBuilder", "newCapacity", "(I)I"⟩, cJ33_newCapacity, 6, (some .int))
abbrev y_J31_copyOf_3 : ZY := (⟨"java/util/Arrays", "copyOf", "([BI)[B"⟩, cJ31_copyOf_3, 3, (some (.array .byte)))
abbrev y_J33_inflateIfNeededFor : ZY := (⟨"java/lang/AbstractStringBuilder", "inflateIfNeededFor", "(Ljava/lang/String;)V"⟩, cJ33_inflateIfNeededFor, 2, none)
abbrev y_J9_getBytes : ZY := (⟨"java/lang/String", "getBytes", "([BIB)V"⟩, cJ9_getBytes, 4, none)
abbrev y_J10_inflate : ZY := (⟨"java/lang/StringLatin1", "inflate", "([BI[BII)V"⟩, cJ10_inflate, 5, none)
abbrev y_J33_getValue : ZY := (⟨"java/lang/AbstractStringBuilder", "getValue", "()[B"⟩, cJ33_getValue, 1, (some (.array .byte)))
abbrev y_J34_length : ZY := (⟨"java/lang/StringBuilder", "length", "()I"⟩, cJ34_length, 1, (some .int))
abbrev y_J31_copyOfRange : ZY := (⟨"java/util/Arrays", "copyOfRange", "([BII)[B"⟩, cJ31_copyOfRange, 3, (some (.array .byte)))
abbrev y_J29_getLocalizedMessage : ZY := (⟨"java/lang/Throwable", "getLocalizedMessage", "()Ljava/lang/String;"⟩, cJ29_getLocalizedMessage, 1, (some (.object "java/lang/String")))
abbrev y_J8_toString_2 : ZY := (⟨"java/lang/Integer", "toString", "(I)Ljava/lang/String;"⟩, cJ8_toString_2, 3, (some (.object "java/lang/String")))
abbrev y_X21_kind : ZY := (⟨"GangColumns$Kept", "kind", "()I"⟩, cX21_kind, 1, (some .int))
abbrev y_X24_kind : ZY := (⟨"GangColumns$Promised", "kind", "()I"⟩, cX24_kind, 1, (some .int))
abbrev y_X23_kind : ZY := (⟨"GangColumns$Runs", "kind", "()I"⟩, cX23_kind, 1, (some .int))
abbrev y_J2_rangeCheckForAdd : ZY := (⟨"java/util/ArrayList", "rangeCheckForAdd", "(I)V"⟩, cJ2_rangeCheckForAdd, 2, none)
abbrev y_X7_comparedTo : ZY := (⟨"GangColumns$Share", "comparedTo", "(LGangColumns$Share;)I"⟩, cX7_comparedTo, 6, (some .int))
abbrev y_J8_compare : ZY := (⟨"java/lang/Integer", "compare", "(II)I"⟩, cJ8_compare, 2, (some .int))
abbrev y_J33_compareTo : ZY := (⟨"java/lang/AbstractStringBuilder", "compareTo", "(Ljava/lang/AbstractStringBuilder;)I"⟩, cJ33_compareTo, 6, (some .int))
abbrev y_J36_equals : ZY := (⟨"java/lang/Object", "equals", "(Ljava/lang/Object;)Z"⟩, cJ36_equals, 2, (some .boolean))
abbrev y_J8_equals : ZY := (⟨"java/lang/Integer", "equals", "(Ljava/lang/Object;)Z"⟩, cJ8_equals, 2, (some .boolean))
abbrev y_J9_equals : ZY := (⟨"java/lang/String", "equals", "(Ljava/lang/Object;)Z"⟩, cJ9_equals, 3, (some .boolean))
abbrev y_J35_init : ZY := (⟨"java/util/TreeMap$EntrySet", "<init>", "(Ljava/util/TreeMap;)V"⟩, cJ35_init, 2, none)
abbrev y_J4_computeRedLevel : ZY := (⟨"java/util/TreeMap", "computeRedLevel", "(I)I"⟩, cJ4_computeRedLevel, 1, (some .int))
abbrev y_J4_buildFromSorted_2 : ZY := (⟨"java/util/TreeMap", "buildFromSorted", "(IIIILjava/util/Iterator;Ljava/io/ObjectInputStream;Ljava/lang/Object;)Ljava/util/TreeMap$Entry;"⟩, cJ4_buildFromSorted_2, 14, (some (.object "java/util/TreeMap$Entry")))
abbrev y_J17_getKey : ZY := (⟨"java/util/TreeMap$Entry", "getKey", "()Ljava/lang/Object;"⟩, cJ17_getKey, 1, (some (.object "java/lang/Object")))
abbrev y_J17_getValue : ZY := (⟨"java/util/TreeMap$Entry", "getValue", "()Ljava/lang/Object;"⟩, cJ17_getValue, 1, (some (.object "java/lang/Object")))
abbrev y_J31_copyOf_2 : ZY := (⟨"java/util/Arrays", "copyOf", "([Ljava/lang/Object;ILjava/lang/Class;)[Ljava/lang/Object;"⟩, cJ31_copyOf_2, 4, (some (.array (.object "java/lang/Object"))))
abbrev y_J12_hugeLength : ZY := (⟨"jdk/internal/util/ArraysSupport", "hugeLength", "(II)I"⟩, cJ12_hugeLength, 3, (some .int))
abbrev y_J6_siftUpUsingComparator : ZY := (⟨"java/util/PriorityQueue", "siftUpUsingComparator", "(ILjava/lang/Object;[Ljava/lang/Object;Ljava/util/Comparator;)V"⟩, cJ6_siftUpUsingComparator, 6, none)
abbrev y_J6_siftUpComparable : ZY := (⟨"java/util/PriorityQueue", "siftUpComparable", "(ILjava/lang/Object;[Ljava/lang/Object;)V"⟩, cJ6_siftUpComparable, 6, none)
abbrev y_J33_length : ZY := (⟨"java/lang/AbstractStringBuilder", "length", "()I"⟩, cJ33_length, 1, (some .int))
abbrev y_J31_copyOfRangeByte : ZY := (⟨"java/util/Arrays", "copyOfRangeByte", "([BII)[B"⟩, cJ31_copyOfRangeByte, 5, (some (.array .byte)))
abbrev y_J29_getMessage : ZY := (⟨"java/lang/Throwable", "getMessage", "()Ljava/lang/String;"⟩, cJ29_getMessage, 1, (some (.object "java/lang/String")))
abbrev y_J9_init_3 : ZY := (⟨"java/lang/String", "<init>", "([BB)V"⟩, cJ9_init_3, 3, none)
abbrev y_J10_equals : ZY := (⟨"java/lang/StringLatin1", "equals", "([B[B)Z"⟩, cJ10_equals, 3, (some .boolean))
abbrev y_J8_numberOfLeadingZeros : ZY := (⟨"java/lang/Integer", "numberOfLeadingZeros", "(I)I"⟩, cJ8_numberOfLeadingZeros, 2, (some .int))
abbrev y_J31_checkLength : ZY := (⟨"java/util/Arrays", "checkLength", "(II)V"⟩, cJ31_checkLength, 2, none)
def zms : List ZY := [
  y_L_law,
  y_X0_init,
  y_X6_init,
  y_X0_weight,
  y_X6_weight,
  y_X0_limit,
  y_X6_limit,
  y_X0_ranked,
  y_X6_ranked,
  y_X0_rule,
  y_X6_rule,
  y_X0_used,
  y_X6_used,
  y_X0_feed,
  y_X6_feed,
  y_X0_job,
  y_X6_job,
  y_X0_off,
  y_X6_off,
  y_X0_of,
  y_X6_of,
  y_X0_arm,
  y_X6_arm,
  y_X0_line,
  y_X6_line,
  y_X0_rank,
  y_X6_rank,
  y_X0_hold,
  y_X6_hold,
  y_X0_text,
  y_X6_text,
  y_X0_keep,
  y_X6_keep,
  y_X0_every,
  y_X6_every,
  y_X0_free,
  y_X6_free,
  y_X0_step,
  y_X6_step,
  y_X0_pass,
  y_X6_pass,
  y_X0_holder,
  y_X6_holder,
  y_X0_promised,
  y_X6_promised,
  y_X0_foretell,
  y_X6_foretell,
  y_X0_plan,
  y_X6_plan,
  y_X0_byRule,
  y_X6_byRule,
  y_X0_shrunk,
  y_X6_shrunk,
  y_X0_moves,
  y_X6_moves,
  y_X0_together,
  y_X6_together,
  y_X0_gap,
  y_X6_gap,
  y_X0_orders,
  y_X6_orders,
  y_X0_costs,
  y_X6_costs,
  y_X0_earliest,
  y_X6_earliest,
  y_X0_holes,
  y_X6_holes,
  y_X0_led,
  y_X6_led,
  y_X0_chart,
  y_X6_chart,
  y_X0_event,
  y_X6_event,
  y_X0_started,
  y_X6_started,
  y_X0_image,
  y_X6_image,
  y_X0_back,
  y_X6_back,
  y_X0_count,
  y_X6_count,
  y_X1_init,
  y_X6_lays,
  y_X0_isAccount,
  y_X0_within,
  y_X6_isAccount,
  y_X6_in,
  y_X1_shares,
  y_J4_values,
  y_J2_iterator,
  y_J6_iterator,
  y_J35_iterator,
  y_J27_iterator,
  y_J19_iterator,
  y_J32_iterator,
  y_X15_hasNext,
  y_J20_hasNext,
  y_J21_hasNext,
  y_J22_hasNext,
  y_X15_next,
  y_J20_next,
  y_J21_next,
  y_J23_next,
  y_J24_next,
  y_J25_next,
  y_J8_intValue,
  y_X6_byShare,
  y_X0_isRule,
  y_X0_ruled,
  y_X6_isRule,
  y_X0_jobAt,
  y_J2_size,
  y_X9_init,
  y_X9_read,
  y_X9_row,
  y_X12_init,
  y_J2_add,
  y_X1_happens,
  y_X6_isJob,
  y_X6_at,
  y_X6_readArms,
  y_X6_comes,
  y_X1_off,
  y_X6_offs,
  y_X0_promiseOf,
  y_X12_columns,
  y_X6_told,
  y_X6_columnsOf,
  y_X11_lasts,
  y_X11_hasStarted,
  y_X6_lasts,
  y_X1_line,
  y_J32_size,
  y_X0_numberAt,
  y_X6_linesUp,
  y_X17_init,
  y_X16_does,
  y_X6_isWaiting,
  y_X6_sets,
  y_X18_init,
  y_X12_text,
  y_J9_length,
  y_J9_charAt,
  y_X6_writesNumber,
  y_X6_writes,
  y_X0_isSpan,
  y_J4_size,
  y_X0_kept,
  y_X6_isSpanTold,
  y_X6_spans,
  y_X6_bits,
  y_X6_overlaps,
  y_X6_keeps,
  y_X0_givesBack,
  y_J8_valueOf,
  y_J4_get,
  y_X1_letsSpan,
  y_J4_remove,
  y_X6_spanAt,
  y_X1_tick,
  y_X6_ticks,
  y_X1_pass,
  y_X6_passes,
  y_X0_isColumn,
  y_X0_heldBy,
  y_X6_isColumn,
  y_X6_holderOf,
  y_X6_promisedBits,
  y_X25_init,
  y_X25_goesOn,
  y_X25_startOf,
  y_X6_thinks,
  y_X6_goes,
  y_X6_forgets,
  y_J11_max,
  y_X26_init,
  y_X0_lessOf,
  y_X1_fits_2,
  y_X6_notWaiting,
  y_X6_takes,
  y_X6_fits,
  y_J2_init,
  y_X27_init,
  y_X27_does,
  y_X6_fewestMoves,
  y_X0_areTogether,
  y_X6_fitBoth,
  y_X6_takenTo,
  y_X6_begins,
  y_X26_from,
  y_X6_ways,
  y_X0_later,
  y_X12_init_2,
  y_X1_firstTick,
  y_X6_first,
  y_X0_isHole,
  y_X28_init,
  y_X28_longest,
  y_X6_busy,
  y_J2_get,
  y_X14_ask,
  y_X1_copy,
  y_X6_laysSums,
  y_X1_jobsThat,
  y_X1_heldNow,
  y_X6_ofThese,
  y_X6_heldBy,
  y_J4_init,
  y_X2_init,
  y_J6_init,
  y_X3_init,
  y_X4_init,
  y_X5_init,
  y_X1_shareOf,
  y_J4_put,
  y_J19_init,
  y_J20_init,
  y_J21_init,
  y_J4_getFirstEntry,
  y_J23_init,
  y_J4_keyIterator,
  y_J25_init,
  y_J4_navigableKeySet,
  y_X15_next_2,
  y_J20_checkForComodification,
  y_J23_next_2,
  y_J22_nextEntry,
  y_X9_whole,
  y_X12_byWidth,
  y_J2_add_2,
  y_J2_remove,
  y_X14_init,
  y_X6_number,
  y_X6_takesSign,
  y_X6_happens,
  y_X1_stops,
  y_X1_forgets,
  y_X6_holds,
  y_X3_of,
  y_J32_init,
  y_X1_isReady,
  y_J32_add,
  y_X28_iterator,
  y_X6_isInLine,
  y_X6_isAhead,
  y_X16_init,
  y_X17_with,
  y_X18_with,
  y_J34_init,
  y_J34_append,
  y_J34_append_2,
  y_J34_append_3,
  y_J34_toString,
  y_J34_append_4,
  y_J9_coder,
  y_J9_isLatin1,
  y_J10_charAt,
  y_X19_init,
  y_X1_mayKeep,
  y_X1_keep,
  y_X6_areColumns,
  y_X6_isSpan,
  y_X6_spanBits,
  y_X6_heldBits,
  y_X6_knownEnd,
  y_J8_init,
  y_J4_getEntry,
  y_X1_givesUp,
  y_J4_deleteEntry,
  y_X1_uses,
  y_J0_isEmpty,
  y_J6_peek,
  y_J6_poll,
  y_X1_lets,
  y_X1_isOver,
  y_X1_ends,
  y_X1_endsSpans,
  y_X6_ends,
  y_X3_clear,
  y_X1_lineUp,
  y_X1_isBarred,
  y_X1_fits,
  y_X1_starts,
  y_X0_nothing,
  y_X25_adds,
  y_X1_isPromised,
  y_X6_starts,
  y_X6_promises,
  y_X5_at,
  y_X21_of,
  y_X24_of,
  y_X23_of,
  y_X1_thinks,
  y_X12_copy,
  y_X25_waitingMany,
  y_X11_init,
  y_X1_takesNone,
  y_X1_takes,
  y_X6_place,
  y_J1_init,
  y_X27_isDone,
  y_X6_areMoved,
  y_X6_isHolding,
  y_X1_fit,
  y_X6_sooner,
  y_X1_fits_3,
  y_J2_contains,
  y_X5_turnBehind,
  y_J11_min,
  y_X6_change,
  y_J18_checkIndex,
  y_J2_elementData,
  y_X5_copy,
  y_J2_addAll,
  y_X22_init,
  y_J6_add,
  y_X3_like,
  y_J3_init,
  y_J6_init_2,
  y_X7_init,
  y_J4_put_2,
  y_J0_init,
  y_J22_init,
  y_J24_init,
  y_J27_init,
  y_X8_init,
  y_X15_begin,
  y_J4_successor,
  y_X9_number,
  y_X9_peek,
  y_X10_init,
  y_X13_init,
  y_J2_grow,
  y_J2_fastRemove,
  y_X6_isFigure,
  y_X3_remove,
  y_J4_init_2,
  y_J32_init_2,
  y_X15_init,
  y_J33_init,
  y_J33_append,
  y_J33_append_2,
  y_J33_append_3,
  y_J9_init,
  y_J9_valueOf,
  y_J9_checkIndex,
  y_X5_isFree,
  y_X21_init,
  y_X5_add,
  y_J7_init,
  y_J4_getEntryUsingComparator,
  y_J18_requireNonNull,
  y_X20_compareTo,
  y_X7_compareTo,
  y_J8_compareTo,
  y_J9_compareTo,
  y_J34_compareTo,
  y_X5_lets,
  y_J4_fixAfterDeletion,
  y_X1_charts,
  y_J6_size,
  y_J35_size,
  y_J27_size,
  y_J19_size,
  y_J6_siftDownComparable,
  y_J6_siftDownUsingComparator,
  y_J3_isEmpty,
  y_J4_clear,
  y_J4_putAll,
  y_X4_compare_2,
  y_X23_init,
  y_X24_init,
  y_X3_put,
  y_X20_meets,
  y_X1_lambda_lets_3,
  y_X1_lambda_forgets_5,
  y_X1_lambda_mayKeep_6,
  y_X1_lambda_letsSpan_4,
  y_X1_lambda_pass_2,
  y_X1_lambda_fits_0,
  y_X1_lambda_firstTick_1,
  y_X0_lambda_holder_0,
  y_X0_lambda_promised_1,
  y_X0_lambda_shrunk_2,
  y_X27_lambda_freeFor_0,
  y_X0_lambda_areTogether_3,
  y_X0_lambda_areTogether_4,
  y_X26_matters,
  y_X11_copy,
  y_X1_takes_2,
  y_X27_puts,
  y_X29_init,
  y_J32_addAll,
  y_X6_moved,
  y_X1_take,
  y_J2_indexOf,
  y_J16_checkIndex,
  y_J2_toArray,
  y_J6_toArray,
  y_J0_toArray,
  y_J2_grow_2,
  y_J6_offer,
  y_J5_init,
  y_J4_addEntryToEmptyMap,
  y_X2_compare,
  y_X13_compare,
  y_X4_compare,
  y_X29_compare,
  y_J4_addEntry,
  y_J26_init,
  y_J30_init,
  y_J8_stringSize,
  y_J33_ensureCapacityInternal,
  y_J33_isLatin1,
  y_J8_getChars,
  y_J33_appendNull,
  y_J33_putStringAt,
  y_J10_canEncode,
  y_J33_inflate,
  y_J9_init_2,
  y_J29_toString,
  y_J8_toString,
  y_J9_toString,
  y_X20_init,
  y_X20_compareTo_2,
  y_J2_add_3,
  y_X7_compareTo_2,
  y_J8_compareTo_2,
  y_J9_compareTo_2,
  y_J34_compareTo_2,
  y_J4_colorOf,
  y_J4_parentOf,
  y_J4_leftOf,
  y_J4_rightOf,
  y_J4_setColor,
  y_J4_rotateLeft,
  y_J4_rotateRight,
  y_J4_comparator,
  y_J18_equals,
  y_J4_entrySet,
  y_J4_buildFromSorted,
  y_J3_putAll,
  y_X21_hinders,
  y_X24_hinders,
  y_X23_hinders,
  y_X26_isOwn,
  y_X27_isMoved,
  y_X1_runFor,
  y_X27_freeFor,
  y_X28_fits,
  y_J27_comparator,
  y_J32_comparator,
  y_J4_addAllForTreeSet,
  y_J0_addAll,
  y_X6_foundBits,
  y_X6_elsewhere,
  y_J2_indexOfRange,
  y_J31_copyOf,
  y_J0_finishToArray,
  y_J12_newLength,
  y_J6_grow,
  y_J6_siftUp,
  y_J4_compare,
  y_J17_init,
  y_X2_compare_2,
  y_X13_compare_2,
  y_X29_compare_2,
  y_J4_fixAfterInsertion,
  y_J29_init_2,
  y_J33_newCapacity,
  y_J31_copyOf_3,
  y_J33_inflateIfNeededFor,
  y_J9_getBytes,
  y_J10_inflate,
  y_J33_getValue,
  y_J34_length,
  y_J31_copyOfRange,
  y_J29_getLocalizedMessage,
  y_J8_toString_2,
  y_X21_kind,
  y_X24_kind,
  y_X23_kind,
  y_J2_rangeCheckForAdd,
  y_X7_comparedTo,
  y_J8_compare,
  y_J33_compareTo,
  y_J36_equals,
  y_J8_equals,
  y_J9_equals,
  y_J35_init,
  y_J4_computeRedLevel,
  y_J4_buildFromSorted_2,
  y_J17_getKey,
  y_J17_getValue,
  y_J31_copyOf_2,
  y_J12_hugeLength,
  y_J6_siftUpUsingComparator,
  y_J6_siftUpComparable,
  y_J33_length,
  y_J31_copyOfRangeByte,
  y_J29_getMessage,
  y_J9_init_3,
  y_J10_equals,
  y_J8_numberOfLeadingZeros,
  y_J31_checkLength]
def zmt (k : Nat) : ZY := zms.getD k y_L_law
theorem zm_L_law : zmt mL_law = y_L_law := rfl
theorem zm_X0_init : zmt mX0_init = y_X0_init := rfl
theorem zm_X6_init : zmt mX6_init = y_X6_init := rfl
theorem zm_X0_weight : zmt mX0_weight = y_X0_weight := rfl
theorem zm_X6_weight : zmt mX6_weight = y_X6_weight := rfl
theorem zm_X0_limit : zmt mX0_limit = y_X0_limit := rfl
theorem zm_X6_limit : zmt mX6_limit = y_X6_limit := rfl
theorem zm_X0_ranked : zmt mX0_ranked = y_X0_ranked := rfl
theorem zm_X6_ranked : zmt mX6_ranked = y_X6_ranked := rfl
theorem zm_X0_rule : zmt mX0_rule = y_X0_rule := rfl
theorem zm_X6_rule : zmt mX6_rule = y_X6_rule := rfl
theorem zm_X0_used : zmt mX0_used = y_X0_used := rfl
theorem zm_X6_used : zmt mX6_used = y_X6_used := rfl
theorem zm_X0_feed : zmt mX0_feed = y_X0_feed := rfl
theorem zm_X6_feed : zmt mX6_feed = y_X6_feed := rfl
theorem zm_X0_job : zmt mX0_job = y_X0_job := rfl
theorem zm_X6_job : zmt mX6_job = y_X6_job := rfl
theorem zm_X0_off : zmt mX0_off = y_X0_off := rfl
theorem zm_X6_off : zmt mX6_off = y_X6_off := rfl
theorem zm_X0_of : zmt mX0_of = y_X0_of := rfl
theorem zm_X6_of : zmt mX6_of = y_X6_of := rfl
theorem zm_X0_arm : zmt mX0_arm = y_X0_arm := rfl
theorem zm_X6_arm : zmt mX6_arm = y_X6_arm := rfl
theorem zm_X0_line : zmt mX0_line = y_X0_line := rfl
theorem zm_X6_line : zmt mX6_line = y_X6_line := rfl
theorem zm_X0_rank : zmt mX0_rank = y_X0_rank := rfl
theorem zm_X6_rank : zmt mX6_rank = y_X6_rank := rfl
theorem zm_X0_hold : zmt mX0_hold = y_X0_hold := rfl
theorem zm_X6_hold : zmt mX6_hold = y_X6_hold := rfl
theorem zm_X0_text : zmt mX0_text = y_X0_text := rfl
theorem zm_X6_text : zmt mX6_text = y_X6_text := rfl
theorem zm_X0_keep : zmt mX0_keep = y_X0_keep := rfl
theorem zm_X6_keep : zmt mX6_keep = y_X6_keep := rfl
theorem zm_X0_every : zmt mX0_every = y_X0_every := rfl
theorem zm_X6_every : zmt mX6_every = y_X6_every := rfl
theorem zm_X0_free : zmt mX0_free = y_X0_free := rfl
theorem zm_X6_free : zmt mX6_free = y_X6_free := rfl
theorem zm_X0_step : zmt mX0_step = y_X0_step := rfl
theorem zm_X6_step : zmt mX6_step = y_X6_step := rfl
theorem zm_X0_pass : zmt mX0_pass = y_X0_pass := rfl
theorem zm_X6_pass : zmt mX6_pass = y_X6_pass := rfl
theorem zm_X0_holder : zmt mX0_holder = y_X0_holder := rfl
theorem zm_X6_holder : zmt mX6_holder = y_X6_holder := rfl
theorem zm_X0_promised : zmt mX0_promised = y_X0_promised := rfl
theorem zm_X6_promised : zmt mX6_promised = y_X6_promised := rfl
theorem zm_X0_foretell : zmt mX0_foretell = y_X0_foretell := rfl
theorem zm_X6_foretell : zmt mX6_foretell = y_X6_foretell := rfl
theorem zm_X0_plan : zmt mX0_plan = y_X0_plan := rfl
theorem zm_X6_plan : zmt mX6_plan = y_X6_plan := rfl
theorem zm_X0_byRule : zmt mX0_byRule = y_X0_byRule := rfl
theorem zm_X6_byRule : zmt mX6_byRule = y_X6_byRule := rfl
theorem zm_X0_shrunk : zmt mX0_shrunk = y_X0_shrunk := rfl
theorem zm_X6_shrunk : zmt mX6_shrunk = y_X6_shrunk := rfl
theorem zm_X0_moves : zmt mX0_moves = y_X0_moves := rfl
theorem zm_X6_moves : zmt mX6_moves = y_X6_moves := rfl
theorem zm_X0_together : zmt mX0_together = y_X0_together := rfl
theorem zm_X6_together : zmt mX6_together = y_X6_together := rfl
theorem zm_X0_gap : zmt mX0_gap = y_X0_gap := rfl
theorem zm_X6_gap : zmt mX6_gap = y_X6_gap := rfl
theorem zm_X0_orders : zmt mX0_orders = y_X0_orders := rfl
theorem zm_X6_orders : zmt mX6_orders = y_X6_orders := rfl
theorem zm_X0_costs : zmt mX0_costs = y_X0_costs := rfl
theorem zm_X6_costs : zmt mX6_costs = y_X6_costs := rfl
theorem zm_X0_earliest : zmt mX0_earliest = y_X0_earliest := rfl
theorem zm_X6_earliest : zmt mX6_earliest = y_X6_earliest := rfl
theorem zm_X0_holes : zmt mX0_holes = y_X0_holes := rfl
theorem zm_X6_holes : zmt mX6_holes = y_X6_holes := rfl
theorem zm_X0_led : zmt mX0_led = y_X0_led := rfl
theorem zm_X6_led : zmt mX6_led = y_X6_led := rfl
theorem zm_X0_chart : zmt mX0_chart = y_X0_chart := rfl
theorem zm_X6_chart : zmt mX6_chart = y_X6_chart := rfl
theorem zm_X0_event : zmt mX0_event = y_X0_event := rfl
theorem zm_X6_event : zmt mX6_event = y_X6_event := rfl
theorem zm_X0_started : zmt mX0_started = y_X0_started := rfl
theorem zm_X6_started : zmt mX6_started = y_X6_started := rfl
theorem zm_X0_image : zmt mX0_image = y_X0_image := rfl
theorem zm_X6_image : zmt mX6_image = y_X6_image := rfl
theorem zm_X0_back : zmt mX0_back = y_X0_back := rfl
theorem zm_X6_back : zmt mX6_back = y_X6_back := rfl
theorem zm_X0_count : zmt mX0_count = y_X0_count := rfl
theorem zm_X6_count : zmt mX6_count = y_X6_count := rfl
theorem zm_X1_init : zmt mX1_init = y_X1_init := rfl
theorem zm_X6_lays : zmt mX6_lays = y_X6_lays := rfl
theorem zm_X0_isAccount : zmt mX0_isAccount = y_X0_isAccount := rfl
theorem zm_X0_within : zmt mX0_within = y_X0_within := rfl
theorem zm_X6_isAccount : zmt mX6_isAccount = y_X6_isAccount := rfl
theorem zm_X6_in : zmt mX6_in = y_X6_in := rfl
theorem zm_X1_shares : zmt mX1_shares = y_X1_shares := rfl
theorem zm_J4_values : zmt mJ4_values = y_J4_values := rfl
theorem zm_J2_iterator : zmt mJ2_iterator = y_J2_iterator := rfl
theorem zm_J6_iterator : zmt mJ6_iterator = y_J6_iterator := rfl
theorem zm_J35_iterator : zmt mJ35_iterator = y_J35_iterator := rfl
theorem zm_J27_iterator : zmt mJ27_iterator = y_J27_iterator := rfl
theorem zm_J19_iterator : zmt mJ19_iterator = y_J19_iterator := rfl
theorem zm_J32_iterator : zmt mJ32_iterator = y_J32_iterator := rfl
theorem zm_X15_hasNext : zmt mX15_hasNext = y_X15_hasNext := rfl
theorem zm_J20_hasNext : zmt mJ20_hasNext = y_J20_hasNext := rfl
theorem zm_J21_hasNext : zmt mJ21_hasNext = y_J21_hasNext := rfl
theorem zm_J22_hasNext : zmt mJ22_hasNext = y_J22_hasNext := rfl
theorem zm_X15_next : zmt mX15_next = y_X15_next := rfl
theorem zm_J20_next : zmt mJ20_next = y_J20_next := rfl
theorem zm_J21_next : zmt mJ21_next = y_J21_next := rfl
theorem zm_J23_next : zmt mJ23_next = y_J23_next := rfl
theorem zm_J24_next : zmt mJ24_next = y_J24_next := rfl
theorem zm_J25_next : zmt mJ25_next = y_J25_next := rfl
theorem zm_J8_intValue : zmt mJ8_intValue = y_J8_intValue := rfl
theorem zm_X6_byShare : zmt mX6_byShare = y_X6_byShare := rfl
theorem zm_X0_isRule : zmt mX0_isRule = y_X0_isRule := rfl
theorem zm_X0_ruled : zmt mX0_ruled = y_X0_ruled := rfl
theorem zm_X6_isRule : zmt mX6_isRule = y_X6_isRule := rfl
theorem zm_X0_jobAt : zmt mX0_jobAt = y_X0_jobAt := rfl
theorem zm_J2_size : zmt mJ2_size = y_J2_size := rfl
theorem zm_X9_init : zmt mX9_init = y_X9_init := rfl
theorem zm_X9_read : zmt mX9_read = y_X9_read := rfl
theorem zm_X9_row : zmt mX9_row = y_X9_row := rfl
theorem zm_X12_init : zmt mX12_init = y_X12_init := rfl
theorem zm_J2_add : zmt mJ2_add = y_J2_add := rfl
theorem zm_X1_happens : zmt mX1_happens = y_X1_happens := rfl
theorem zm_X6_isJob : zmt mX6_isJob = y_X6_isJob := rfl
theorem zm_X6_at : zmt mX6_at = y_X6_at := rfl
theorem zm_X6_readArms : zmt mX6_readArms = y_X6_readArms := rfl
theorem zm_X6_comes : zmt mX6_comes = y_X6_comes := rfl
theorem zm_X1_off : zmt mX1_off = y_X1_off := rfl
theorem zm_X6_offs : zmt mX6_offs = y_X6_offs := rfl
theorem zm_X0_promiseOf : zmt mX0_promiseOf = y_X0_promiseOf := rfl
theorem zm_X12_columns : zmt mX12_columns = y_X12_columns := rfl
theorem zm_X6_told : zmt mX6_told = y_X6_told := rfl
theorem zm_X6_columnsOf : zmt mX6_columnsOf = y_X6_columnsOf := rfl
theorem zm_X11_lasts : zmt mX11_lasts = y_X11_lasts := rfl
theorem zm_X11_hasStarted : zmt mX11_hasStarted = y_X11_hasStarted := rfl
theorem zm_X6_lasts : zmt mX6_lasts = y_X6_lasts := rfl
theorem zm_X1_line : zmt mX1_line = y_X1_line := rfl
theorem zm_J32_size : zmt mJ32_size = y_J32_size := rfl
theorem zm_X0_numberAt : zmt mX0_numberAt = y_X0_numberAt := rfl
theorem zm_X6_linesUp : zmt mX6_linesUp = y_X6_linesUp := rfl
theorem zm_X17_init : zmt mX17_init = y_X17_init := rfl
theorem zm_X16_does : zmt mX16_does = y_X16_does := rfl
theorem zm_X6_isWaiting : zmt mX6_isWaiting = y_X6_isWaiting := rfl
theorem zm_X6_sets : zmt mX6_sets = y_X6_sets := rfl
theorem zm_X18_init : zmt mX18_init = y_X18_init := rfl
theorem zm_X12_text : zmt mX12_text = y_X12_text := rfl
theorem zm_J9_length : zmt mJ9_length = y_J9_length := rfl
theorem zm_J9_charAt : zmt mJ9_charAt = y_J9_charAt := rfl
theorem zm_X6_writesNumber : zmt mX6_writesNumber = y_X6_writesNumber := rfl
theorem zm_X6_writes : zmt mX6_writes = y_X6_writes := rfl
theorem zm_X0_isSpan : zmt mX0_isSpan = y_X0_isSpan := rfl
theorem zm_J4_size : zmt mJ4_size = y_J4_size := rfl
theorem zm_X0_kept : zmt mX0_kept = y_X0_kept := rfl
theorem zm_X6_isSpanTold : zmt mX6_isSpanTold = y_X6_isSpanTold := rfl
theorem zm_X6_spans : zmt mX6_spans = y_X6_spans := rfl
theorem zm_X6_bits : zmt mX6_bits = y_X6_bits := rfl
theorem zm_X6_overlaps : zmt mX6_overlaps = y_X6_overlaps := rfl
theorem zm_X6_keeps : zmt mX6_keeps = y_X6_keeps := rfl
theorem zm_X0_givesBack : zmt mX0_givesBack = y_X0_givesBack := rfl
theorem zm_J8_valueOf : zmt mJ8_valueOf = y_J8_valueOf := rfl
theorem zm_J4_get : zmt mJ4_get = y_J4_get := rfl
theorem zm_X1_letsSpan : zmt mX1_letsSpan = y_X1_letsSpan := rfl
theorem zm_J4_remove : zmt mJ4_remove = y_J4_remove := rfl
theorem zm_X6_spanAt : zmt mX6_spanAt = y_X6_spanAt := rfl
theorem zm_X1_tick : zmt mX1_tick = y_X1_tick := rfl
theorem zm_X6_ticks : zmt mX6_ticks = y_X6_ticks := rfl
theorem zm_X1_pass : zmt mX1_pass = y_X1_pass := rfl
theorem zm_X6_passes : zmt mX6_passes = y_X6_passes := rfl
theorem zm_X0_isColumn : zmt mX0_isColumn = y_X0_isColumn := rfl
theorem zm_X0_heldBy : zmt mX0_heldBy = y_X0_heldBy := rfl
theorem zm_X6_isColumn : zmt mX6_isColumn = y_X6_isColumn := rfl
theorem zm_X6_holderOf : zmt mX6_holderOf = y_X6_holderOf := rfl
theorem zm_X6_promisedBits : zmt mX6_promisedBits = y_X6_promisedBits := rfl
theorem zm_X25_init : zmt mX25_init = y_X25_init := rfl
theorem zm_X25_goesOn : zmt mX25_goesOn = y_X25_goesOn := rfl
theorem zm_X25_startOf : zmt mX25_startOf = y_X25_startOf := rfl
theorem zm_X6_thinks : zmt mX6_thinks = y_X6_thinks := rfl
theorem zm_X6_goes : zmt mX6_goes = y_X6_goes := rfl
theorem zm_X6_forgets : zmt mX6_forgets = y_X6_forgets := rfl
theorem zm_J11_max : zmt mJ11_max = y_J11_max := rfl
theorem zm_X26_init : zmt mX26_init = y_X26_init := rfl
theorem zm_X0_lessOf : zmt mX0_lessOf = y_X0_lessOf := rfl
theorem zm_X1_fits_2 : zmt mX1_fits_2 = y_X1_fits_2 := rfl
theorem zm_X6_notWaiting : zmt mX6_notWaiting = y_X6_notWaiting := rfl
theorem zm_X6_takes : zmt mX6_takes = y_X6_takes := rfl
theorem zm_X6_fits : zmt mX6_fits = y_X6_fits := rfl
theorem zm_J2_init : zmt mJ2_init = y_J2_init := rfl
theorem zm_X27_init : zmt mX27_init = y_X27_init := rfl
theorem zm_X27_does : zmt mX27_does = y_X27_does := rfl
theorem zm_X6_fewestMoves : zmt mX6_fewestMoves = y_X6_fewestMoves := rfl
theorem zm_X0_areTogether : zmt mX0_areTogether = y_X0_areTogether := rfl
theorem zm_X6_fitBoth : zmt mX6_fitBoth = y_X6_fitBoth := rfl
theorem zm_X6_takenTo : zmt mX6_takenTo = y_X6_takenTo := rfl
theorem zm_X6_begins : zmt mX6_begins = y_X6_begins := rfl
theorem zm_X26_from : zmt mX26_from = y_X26_from := rfl
theorem zm_X6_ways : zmt mX6_ways = y_X6_ways := rfl
theorem zm_X0_later : zmt mX0_later = y_X0_later := rfl
theorem zm_X12_init_2 : zmt mX12_init_2 = y_X12_init_2 := rfl
theorem zm_X1_firstTick : zmt mX1_firstTick = y_X1_firstTick := rfl
theorem zm_X6_first : zmt mX6_first = y_X6_first := rfl
theorem zm_X0_isHole : zmt mX0_isHole = y_X0_isHole := rfl
theorem zm_X28_init : zmt mX28_init = y_X28_init := rfl
theorem zm_X28_longest : zmt mX28_longest = y_X28_longest := rfl
theorem zm_X6_busy : zmt mX6_busy = y_X6_busy := rfl
theorem zm_J2_get : zmt mJ2_get = y_J2_get := rfl
theorem zm_X14_ask : zmt mX14_ask = y_X14_ask := rfl
theorem zm_X1_copy : zmt mX1_copy = y_X1_copy := rfl
theorem zm_X6_laysSums : zmt mX6_laysSums = y_X6_laysSums := rfl
theorem zm_X1_jobsThat : zmt mX1_jobsThat = y_X1_jobsThat := rfl
theorem zm_X1_heldNow : zmt mX1_heldNow = y_X1_heldNow := rfl
theorem zm_X6_ofThese : zmt mX6_ofThese = y_X6_ofThese := rfl
theorem zm_X6_heldBy : zmt mX6_heldBy = y_X6_heldBy := rfl
theorem zm_J4_init : zmt mJ4_init = y_J4_init := rfl
theorem zm_X2_init : zmt mX2_init = y_X2_init := rfl
theorem zm_J6_init : zmt mJ6_init = y_J6_init := rfl
theorem zm_X3_init : zmt mX3_init = y_X3_init := rfl
theorem zm_X4_init : zmt mX4_init = y_X4_init := rfl
theorem zm_X5_init : zmt mX5_init = y_X5_init := rfl
theorem zm_X1_shareOf : zmt mX1_shareOf = y_X1_shareOf := rfl
theorem zm_J4_put : zmt mJ4_put = y_J4_put := rfl
theorem zm_J19_init : zmt mJ19_init = y_J19_init := rfl
theorem zm_J20_init : zmt mJ20_init = y_J20_init := rfl
theorem zm_J21_init : zmt mJ21_init = y_J21_init := rfl
theorem zm_J4_getFirstEntry : zmt mJ4_getFirstEntry = y_J4_getFirstEntry := rfl
theorem zm_J23_init : zmt mJ23_init = y_J23_init := rfl
theorem zm_J4_keyIterator : zmt mJ4_keyIterator = y_J4_keyIterator := rfl
theorem zm_J25_init : zmt mJ25_init = y_J25_init := rfl
theorem zm_J4_navigableKeySet : zmt mJ4_navigableKeySet = y_J4_navigableKeySet := rfl
theorem zm_X15_next_2 : zmt mX15_next_2 = y_X15_next_2 := rfl
theorem zm_J20_checkForComodification : zmt mJ20_checkForComodification = y_J20_checkForComodification := rfl
theorem zm_J23_next_2 : zmt mJ23_next_2 = y_J23_next_2 := rfl
theorem zm_J22_nextEntry : zmt mJ22_nextEntry = y_J22_nextEntry := rfl
theorem zm_X9_whole : zmt mX9_whole = y_X9_whole := rfl
theorem zm_X12_byWidth : zmt mX12_byWidth = y_X12_byWidth := rfl
theorem zm_J2_add_2 : zmt mJ2_add_2 = y_J2_add_2 := rfl
theorem zm_J2_remove : zmt mJ2_remove = y_J2_remove := rfl
theorem zm_X14_init : zmt mX14_init = y_X14_init := rfl
theorem zm_X6_number : zmt mX6_number = y_X6_number := rfl
theorem zm_X6_takesSign : zmt mX6_takesSign = y_X6_takesSign := rfl
theorem zm_X6_happens : zmt mX6_happens = y_X6_happens := rfl
theorem zm_X1_stops : zmt mX1_stops = y_X1_stops := rfl
theorem zm_X1_forgets : zmt mX1_forgets = y_X1_forgets := rfl
theorem zm_X6_holds : zmt mX6_holds = y_X6_holds := rfl
theorem zm_X3_of : zmt mX3_of = y_X3_of := rfl
theorem zm_J32_init : zmt mJ32_init = y_J32_init := rfl
theorem zm_X1_isReady : zmt mX1_isReady = y_X1_isReady := rfl
theorem zm_J32_add : zmt mJ32_add = y_J32_add := rfl
theorem zm_X28_iterator : zmt mX28_iterator = y_X28_iterator := rfl
theorem zm_X6_isInLine : zmt mX6_isInLine = y_X6_isInLine := rfl
theorem zm_X6_isAhead : zmt mX6_isAhead = y_X6_isAhead := rfl
theorem zm_X16_init : zmt mX16_init = y_X16_init := rfl
theorem zm_X17_with : zmt mX17_with = y_X17_with := rfl
theorem zm_X18_with : zmt mX18_with = y_X18_with := rfl
theorem zm_J34_init : zmt mJ34_init = y_J34_init := rfl
theorem zm_J34_append : zmt mJ34_append = y_J34_append := rfl
theorem zm_J34_append_2 : zmt mJ34_append_2 = y_J34_append_2 := rfl
theorem zm_J34_append_3 : zmt mJ34_append_3 = y_J34_append_3 := rfl
theorem zm_J34_toString : zmt mJ34_toString = y_J34_toString := rfl
theorem zm_J34_append_4 : zmt mJ34_append_4 = y_J34_append_4 := rfl
theorem zm_J9_coder : zmt mJ9_coder = y_J9_coder := rfl
theorem zm_J9_isLatin1 : zmt mJ9_isLatin1 = y_J9_isLatin1 := rfl
theorem zm_J10_charAt : zmt mJ10_charAt = y_J10_charAt := rfl
theorem zm_X19_init : zmt mX19_init = y_X19_init := rfl
theorem zm_X1_mayKeep : zmt mX1_mayKeep = y_X1_mayKeep := rfl
theorem zm_X1_keep : zmt mX1_keep = y_X1_keep := rfl
theorem zm_X6_areColumns : zmt mX6_areColumns = y_X6_areColumns := rfl
theorem zm_X6_isSpan : zmt mX6_isSpan = y_X6_isSpan := rfl
theorem zm_X6_spanBits : zmt mX6_spanBits = y_X6_spanBits := rfl
theorem zm_X6_heldBits : zmt mX6_heldBits = y_X6_heldBits := rfl
theorem zm_X6_knownEnd : zmt mX6_knownEnd = y_X6_knownEnd := rfl
theorem zm_J8_init : zmt mJ8_init = y_J8_init := rfl
theorem zm_J4_getEntry : zmt mJ4_getEntry = y_J4_getEntry := rfl
theorem zm_X1_givesUp : zmt mX1_givesUp = y_X1_givesUp := rfl
theorem zm_J4_deleteEntry : zmt mJ4_deleteEntry = y_J4_deleteEntry := rfl
theorem zm_X1_uses : zmt mX1_uses = y_X1_uses := rfl
theorem zm_J0_isEmpty : zmt mJ0_isEmpty = y_J0_isEmpty := rfl
theorem zm_J6_peek : zmt mJ6_peek = y_J6_peek := rfl
theorem zm_J6_poll : zmt mJ6_poll = y_J6_poll := rfl
theorem zm_X1_lets : zmt mX1_lets = y_X1_lets := rfl
theorem zm_X1_isOver : zmt mX1_isOver = y_X1_isOver := rfl
theorem zm_X1_ends : zmt mX1_ends = y_X1_ends := rfl
theorem zm_X1_endsSpans : zmt mX1_endsSpans = y_X1_endsSpans := rfl
theorem zm_X6_ends : zmt mX6_ends = y_X6_ends := rfl
theorem zm_X3_clear : zmt mX3_clear = y_X3_clear := rfl
theorem zm_X1_lineUp : zmt mX1_lineUp = y_X1_lineUp := rfl
theorem zm_X1_isBarred : zmt mX1_isBarred = y_X1_isBarred := rfl
theorem zm_X1_fits : zmt mX1_fits = y_X1_fits := rfl
theorem zm_X1_starts : zmt mX1_starts = y_X1_starts := rfl
theorem zm_X0_nothing : zmt mX0_nothing = y_X0_nothing := rfl
theorem zm_X25_adds : zmt mX25_adds = y_X25_adds := rfl
theorem zm_X1_isPromised : zmt mX1_isPromised = y_X1_isPromised := rfl
theorem zm_X6_starts : zmt mX6_starts = y_X6_starts := rfl
theorem zm_X6_promises : zmt mX6_promises = y_X6_promises := rfl
theorem zm_X5_at : zmt mX5_at = y_X5_at := rfl
theorem zm_X21_of : zmt mX21_of = y_X21_of := rfl
theorem zm_X24_of : zmt mX24_of = y_X24_of := rfl
theorem zm_X23_of : zmt mX23_of = y_X23_of := rfl
theorem zm_X1_thinks : zmt mX1_thinks = y_X1_thinks := rfl
theorem zm_X12_copy : zmt mX12_copy = y_X12_copy := rfl
theorem zm_X25_waitingMany : zmt mX25_waitingMany = y_X25_waitingMany := rfl
theorem zm_X11_init : zmt mX11_init = y_X11_init := rfl
theorem zm_X1_takesNone : zmt mX1_takesNone = y_X1_takesNone := rfl
theorem zm_X1_takes : zmt mX1_takes = y_X1_takes := rfl
theorem zm_X6_place : zmt mX6_place = y_X6_place := rfl
theorem zm_J1_init : zmt mJ1_init = y_J1_init := rfl
theorem zm_X27_isDone : zmt mX27_isDone = y_X27_isDone := rfl
theorem zm_X6_areMoved : zmt mX6_areMoved = y_X6_areMoved := rfl
theorem zm_X6_isHolding : zmt mX6_isHolding = y_X6_isHolding := rfl
theorem zm_X1_fit : zmt mX1_fit = y_X1_fit := rfl
theorem zm_X6_sooner : zmt mX6_sooner = y_X6_sooner := rfl
theorem zm_X1_fits_3 : zmt mX1_fits_3 = y_X1_fits_3 := rfl
theorem zm_J2_contains : zmt mJ2_contains = y_J2_contains := rfl
theorem zm_X5_turnBehind : zmt mX5_turnBehind = y_X5_turnBehind := rfl
theorem zm_J11_min : zmt mJ11_min = y_J11_min := rfl
theorem zm_X6_change : zmt mX6_change = y_X6_change := rfl
theorem zm_J18_checkIndex : zmt mJ18_checkIndex = y_J18_checkIndex := rfl
theorem zm_J2_elementData : zmt mJ2_elementData = y_J2_elementData := rfl
theorem zm_X5_copy : zmt mX5_copy = y_X5_copy := rfl
theorem zm_J2_addAll : zmt mJ2_addAll = y_J2_addAll := rfl
theorem zm_X22_init : zmt mX22_init = y_X22_init := rfl
theorem zm_J6_add : zmt mJ6_add = y_J6_add := rfl
theorem zm_X3_like : zmt mX3_like = y_X3_like := rfl
theorem zm_J3_init : zmt mJ3_init = y_J3_init := rfl
theorem zm_J6_init_2 : zmt mJ6_init_2 = y_J6_init_2 := rfl
theorem zm_X7_init : zmt mX7_init = y_X7_init := rfl
theorem zm_J4_put_2 : zmt mJ4_put_2 = y_J4_put_2 := rfl
theorem zm_J0_init : zmt mJ0_init = y_J0_init := rfl
theorem zm_J22_init : zmt mJ22_init = y_J22_init := rfl
theorem zm_J24_init : zmt mJ24_init = y_J24_init := rfl
theorem zm_J27_init : zmt mJ27_init = y_J27_init := rfl
theorem zm_X8_init : zmt mX8_init = y_X8_init := rfl
theorem zm_X15_begin : zmt mX15_begin = y_X15_begin := rfl
theorem zm_J4_successor : zmt mJ4_successor = y_J4_successor := rfl
theorem zm_X9_number : zmt mX9_number = y_X9_number := rfl
theorem zm_X9_peek : zmt mX9_peek = y_X9_peek := rfl
theorem zm_X10_init : zmt mX10_init = y_X10_init := rfl
theorem zm_X13_init : zmt mX13_init = y_X13_init := rfl
theorem zm_J2_grow : zmt mJ2_grow = y_J2_grow := rfl
theorem zm_J2_fastRemove : zmt mJ2_fastRemove = y_J2_fastRemove := rfl
theorem zm_X6_isFigure : zmt mX6_isFigure = y_X6_isFigure := rfl
theorem zm_X3_remove : zmt mX3_remove = y_X3_remove := rfl
theorem zm_J4_init_2 : zmt mJ4_init_2 = y_J4_init_2 := rfl
theorem zm_J32_init_2 : zmt mJ32_init_2 = y_J32_init_2 := rfl
theorem zm_X15_init : zmt mX15_init = y_X15_init := rfl
theorem zm_J33_init : zmt mJ33_init = y_J33_init := rfl
theorem zm_J33_append : zmt mJ33_append = y_J33_append := rfl
theorem zm_J33_append_2 : zmt mJ33_append_2 = y_J33_append_2 := rfl
theorem zm_J33_append_3 : zmt mJ33_append_3 = y_J33_append_3 := rfl
theorem zm_J9_init : zmt mJ9_init = y_J9_init := rfl
theorem zm_J9_valueOf : zmt mJ9_valueOf = y_J9_valueOf := rfl
theorem zm_J9_checkIndex : zmt mJ9_checkIndex = y_J9_checkIndex := rfl
theorem zm_X5_isFree : zmt mX5_isFree = y_X5_isFree := rfl
theorem zm_X21_init : zmt mX21_init = y_X21_init := rfl
theorem zm_X5_add : zmt mX5_add = y_X5_add := rfl
theorem zm_J7_init : zmt mJ7_init = y_J7_init := rfl
theorem zm_J4_getEntryUsingComparator : zmt mJ4_getEntryUsingComparator = y_J4_getEntryUsingComparator := rfl
theorem zm_J18_requireNonNull : zmt mJ18_requireNonNull = y_J18_requireNonNull := rfl
theorem zm_X20_compareTo : zmt mX20_compareTo = y_X20_compareTo := rfl
theorem zm_X7_compareTo : zmt mX7_compareTo = y_X7_compareTo := rfl
theorem zm_J8_compareTo : zmt mJ8_compareTo = y_J8_compareTo := rfl
theorem zm_J9_compareTo : zmt mJ9_compareTo = y_J9_compareTo := rfl
theorem zm_J34_compareTo : zmt mJ34_compareTo = y_J34_compareTo := rfl
theorem zm_X5_lets : zmt mX5_lets = y_X5_lets := rfl
theorem zm_J4_fixAfterDeletion : zmt mJ4_fixAfterDeletion = y_J4_fixAfterDeletion := rfl
theorem zm_X1_charts : zmt mX1_charts = y_X1_charts := rfl
theorem zm_J6_size : zmt mJ6_size = y_J6_size := rfl
theorem zm_J35_size : zmt mJ35_size = y_J35_size := rfl
theorem zm_J27_size : zmt mJ27_size = y_J27_size := rfl
theorem zm_J19_size : zmt mJ19_size = y_J19_size := rfl
theorem zm_J6_siftDownComparable : zmt mJ6_siftDownComparable = y_J6_siftDownComparable := rfl
theorem zm_J6_siftDownUsingComparator : zmt mJ6_siftDownUsingComparator = y_J6_siftDownUsingComparator := rfl
theorem zm_J3_isEmpty : zmt mJ3_isEmpty = y_J3_isEmpty := rfl
theorem zm_J4_clear : zmt mJ4_clear = y_J4_clear := rfl
theorem zm_J4_putAll : zmt mJ4_putAll = y_J4_putAll := rfl
theorem zm_X4_compare_2 : zmt mX4_compare_2 = y_X4_compare_2 := rfl
theorem zm_X23_init : zmt mX23_init = y_X23_init := rfl
theorem zm_X24_init : zmt mX24_init = y_X24_init := rfl
theorem zm_X3_put : zmt mX3_put = y_X3_put := rfl
theorem zm_X20_meets : zmt mX20_meets = y_X20_meets := rfl
theorem zm_X1_lambda_lets_3 : zmt mX1_lambda_lets_3 = y_X1_lambda_lets_3 := rfl
theorem zm_X1_lambda_forgets_5 : zmt mX1_lambda_forgets_5 = y_X1_lambda_forgets_5 := rfl
theorem zm_X1_lambda_mayKeep_6 : zmt mX1_lambda_mayKeep_6 = y_X1_lambda_mayKeep_6 := rfl
theorem zm_X1_lambda_letsSpan_4 : zmt mX1_lambda_letsSpan_4 = y_X1_lambda_letsSpan_4 := rfl
theorem zm_X1_lambda_pass_2 : zmt mX1_lambda_pass_2 = y_X1_lambda_pass_2 := rfl
theorem zm_X1_lambda_fits_0 : zmt mX1_lambda_fits_0 = y_X1_lambda_fits_0 := rfl
theorem zm_X1_lambda_firstTick_1 : zmt mX1_lambda_firstTick_1 = y_X1_lambda_firstTick_1 := rfl
theorem zm_X0_lambda_holder_0 : zmt mX0_lambda_holder_0 = y_X0_lambda_holder_0 := rfl
theorem zm_X0_lambda_promised_1 : zmt mX0_lambda_promised_1 = y_X0_lambda_promised_1 := rfl
theorem zm_X0_lambda_shrunk_2 : zmt mX0_lambda_shrunk_2 = y_X0_lambda_shrunk_2 := rfl
theorem zm_X27_lambda_freeFor_0 : zmt mX27_lambda_freeFor_0 = y_X27_lambda_freeFor_0 := rfl
theorem zm_X0_lambda_areTogether_3 : zmt mX0_lambda_areTogether_3 = y_X0_lambda_areTogether_3 := rfl
theorem zm_X0_lambda_areTogether_4 : zmt mX0_lambda_areTogether_4 = y_X0_lambda_areTogether_4 := rfl
theorem zm_X26_matters : zmt mX26_matters = y_X26_matters := rfl
theorem zm_X11_copy : zmt mX11_copy = y_X11_copy := rfl
theorem zm_X1_takes_2 : zmt mX1_takes_2 = y_X1_takes_2 := rfl
theorem zm_X27_puts : zmt mX27_puts = y_X27_puts := rfl
theorem zm_X29_init : zmt mX29_init = y_X29_init := rfl
theorem zm_J32_addAll : zmt mJ32_addAll = y_J32_addAll := rfl
theorem zm_X6_moved : zmt mX6_moved = y_X6_moved := rfl
theorem zm_X1_take : zmt mX1_take = y_X1_take := rfl
theorem zm_J2_indexOf : zmt mJ2_indexOf = y_J2_indexOf := rfl
theorem zm_J16_checkIndex : zmt mJ16_checkIndex = y_J16_checkIndex := rfl
theorem zm_J2_toArray : zmt mJ2_toArray = y_J2_toArray := rfl
theorem zm_J6_toArray : zmt mJ6_toArray = y_J6_toArray := rfl
theorem zm_J0_toArray : zmt mJ0_toArray = y_J0_toArray := rfl
theorem zm_J2_grow_2 : zmt mJ2_grow_2 = y_J2_grow_2 := rfl
theorem zm_J6_offer : zmt mJ6_offer = y_J6_offer := rfl
theorem zm_J5_init : zmt mJ5_init = y_J5_init := rfl
theorem zm_J4_addEntryToEmptyMap : zmt mJ4_addEntryToEmptyMap = y_J4_addEntryToEmptyMap := rfl
theorem zm_X2_compare : zmt mX2_compare = y_X2_compare := rfl
theorem zm_X13_compare : zmt mX13_compare = y_X13_compare := rfl
theorem zm_X4_compare : zmt mX4_compare = y_X4_compare := rfl
theorem zm_X29_compare : zmt mX29_compare = y_X29_compare := rfl
theorem zm_J4_addEntry : zmt mJ4_addEntry = y_J4_addEntry := rfl
theorem zm_J26_init : zmt mJ26_init = y_J26_init := rfl
theorem zm_J30_init : zmt mJ30_init = y_J30_init := rfl
theorem zm_J8_stringSize : zmt mJ8_stringSize = y_J8_stringSize := rfl
theorem zm_J33_ensureCapacityInternal : zmt mJ33_ensureCapacityInternal = y_J33_ensureCapacityInternal := rfl
theorem zm_J33_isLatin1 : zmt mJ33_isLatin1 = y_J33_isLatin1 := rfl
theorem zm_J8_getChars : zmt mJ8_getChars = y_J8_getChars := rfl
theorem zm_J33_appendNull : zmt mJ33_appendNull = y_J33_appendNull := rfl
theorem zm_J33_putStringAt : zmt mJ33_putStringAt = y_J33_putStringAt := rfl
theorem zm_J10_canEncode : zmt mJ10_canEncode = y_J10_canEncode := rfl
theorem zm_J33_inflate : zmt mJ33_inflate = y_J33_inflate := rfl
theorem zm_J9_init_2 : zmt mJ9_init_2 = y_J9_init_2 := rfl
theorem zm_J29_toString : zmt mJ29_toString = y_J29_toString := rfl
theorem zm_J8_toString : zmt mJ8_toString = y_J8_toString := rfl
theorem zm_J9_toString : zmt mJ9_toString = y_J9_toString := rfl
theorem zm_X20_init : zmt mX20_init = y_X20_init := rfl
theorem zm_X20_compareTo_2 : zmt mX20_compareTo_2 = y_X20_compareTo_2 := rfl
theorem zm_J2_add_3 : zmt mJ2_add_3 = y_J2_add_3 := rfl
theorem zm_X7_compareTo_2 : zmt mX7_compareTo_2 = y_X7_compareTo_2 := rfl
theorem zm_J8_compareTo_2 : zmt mJ8_compareTo_2 = y_J8_compareTo_2 := rfl
theorem zm_J9_compareTo_2 : zmt mJ9_compareTo_2 = y_J9_compareTo_2 := rfl
theorem zm_J34_compareTo_2 : zmt mJ34_compareTo_2 = y_J34_compareTo_2 := rfl
theorem zm_J4_colorOf : zmt mJ4_colorOf = y_J4_colorOf := rfl
theorem zm_J4_parentOf : zmt mJ4_parentOf = y_J4_parentOf := rfl
theorem zm_J4_leftOf : zmt mJ4_leftOf = y_J4_leftOf := rfl
theorem zm_J4_rightOf : zmt mJ4_rightOf = y_J4_rightOf := rfl
theorem zm_J4_setColor : zmt mJ4_setColor = y_J4_setColor := rfl
theorem zm_J4_rotateLeft : zmt mJ4_rotateLeft = y_J4_rotateLeft := rfl
theorem zm_J4_rotateRight : zmt mJ4_rotateRight = y_J4_rotateRight := rfl
theorem zm_J4_comparator : zmt mJ4_comparator = y_J4_comparator := rfl
theorem zm_J18_equals : zmt mJ18_equals = y_J18_equals := rfl
theorem zm_J4_entrySet : zmt mJ4_entrySet = y_J4_entrySet := rfl
theorem zm_J4_buildFromSorted : zmt mJ4_buildFromSorted = y_J4_buildFromSorted := rfl
theorem zm_J3_putAll : zmt mJ3_putAll = y_J3_putAll := rfl
theorem zm_X21_hinders : zmt mX21_hinders = y_X21_hinders := rfl
theorem zm_X24_hinders : zmt mX24_hinders = y_X24_hinders := rfl
theorem zm_X23_hinders : zmt mX23_hinders = y_X23_hinders := rfl
theorem zm_X26_isOwn : zmt mX26_isOwn = y_X26_isOwn := rfl
theorem zm_X27_isMoved : zmt mX27_isMoved = y_X27_isMoved := rfl
theorem zm_X1_runFor : zmt mX1_runFor = y_X1_runFor := rfl
theorem zm_X27_freeFor : zmt mX27_freeFor = y_X27_freeFor := rfl
theorem zm_X28_fits : zmt mX28_fits = y_X28_fits := rfl
theorem zm_J27_comparator : zmt mJ27_comparator = y_J27_comparator := rfl
theorem zm_J32_comparator : zmt mJ32_comparator = y_J32_comparator := rfl
theorem zm_J4_addAllForTreeSet : zmt mJ4_addAllForTreeSet = y_J4_addAllForTreeSet := rfl
theorem zm_J0_addAll : zmt mJ0_addAll = y_J0_addAll := rfl
theorem zm_X6_foundBits : zmt mX6_foundBits = y_X6_foundBits := rfl
theorem zm_X6_elsewhere : zmt mX6_elsewhere = y_X6_elsewhere := rfl
theorem zm_J2_indexOfRange : zmt mJ2_indexOfRange = y_J2_indexOfRange := rfl
theorem zm_J31_copyOf : zmt mJ31_copyOf = y_J31_copyOf := rfl
theorem zm_J0_finishToArray : zmt mJ0_finishToArray = y_J0_finishToArray := rfl
theorem zm_J12_newLength : zmt mJ12_newLength = y_J12_newLength := rfl
theorem zm_J6_grow : zmt mJ6_grow = y_J6_grow := rfl
theorem zm_J6_siftUp : zmt mJ6_siftUp = y_J6_siftUp := rfl
theorem zm_J4_compare : zmt mJ4_compare = y_J4_compare := rfl
theorem zm_J17_init : zmt mJ17_init = y_J17_init := rfl
theorem zm_X2_compare_2 : zmt mX2_compare_2 = y_X2_compare_2 := rfl
theorem zm_X13_compare_2 : zmt mX13_compare_2 = y_X13_compare_2 := rfl
theorem zm_X29_compare_2 : zmt mX29_compare_2 = y_X29_compare_2 := rfl
theorem zm_J4_fixAfterInsertion : zmt mJ4_fixAfterInsertion = y_J4_fixAfterInsertion := rfl
theorem zm_J29_init_2 : zmt mJ29_init_2 = y_J29_init_2 := rfl
theorem zm_J33_newCapacity : zmt mJ33_newCapacity = y_J33_newCapacity := rfl
theorem zm_J31_copyOf_3 : zmt mJ31_copyOf_3 = y_J31_copyOf_3 := rfl
theorem zm_J33_inflateIfNeededFor : zmt mJ33_inflateIfNeededFor = y_J33_inflateIfNeededFor := rfl
theorem zm_J9_getBytes : zmt mJ9_getBytes = y_J9_getBytes := rfl
theorem zm_J10_inflate : zmt mJ10_inflate = y_J10_inflate := rfl
theorem zm_J33_getValue : zmt mJ33_getValue = y_J33_getValue := rfl
theorem zm_J34_length : zmt mJ34_length = y_J34_length := rfl
theorem zm_J31_copyOfRange : zmt mJ31_copyOfRange = y_J31_copyOfRange := rfl
theorem zm_J29_getLocalizedMessage : zmt mJ29_getLocalizedMessage = y_J29_getLocalizedMessage := rfl
theorem zm_J8_toString_2 : zmt mJ8_toString_2 = y_J8_toString_2 := rfl
theorem zm_X21_kind : zmt mX21_kind = y_X21_kind := rfl
theorem zm_X24_kind : zmt mX24_kind = y_X24_kind := rfl
theorem zm_X23_kind : zmt mX23_kind = y_X23_kind := rfl
theorem zm_J2_rangeCheckForAdd : zmt mJ2_rangeCheckForAdd = y_J2_rangeCheckForAdd := rfl
theorem zm_X7_comparedTo : zmt mX7_comparedTo = y_X7_comparedTo := rfl
theorem zm_J8_compare : zmt mJ8_compare = y_J8_compare := rfl
theorem zm_J33_compareTo : zmt mJ33_compareTo = y_J33_compareTo := rfl
theorem zm_J36_equals : zmt mJ36_equals = y_J36_equals := rfl
theorem zm_J8_equals : zmt mJ8_equals = y_J8_equals := rfl
theorem zm_J9_equals : zmt mJ9_equals = y_J9_equals := rfl
theorem zm_J35_init : zmt mJ35_init = y_J35_init := rfl
theorem zm_J4_computeRedLevel : zmt mJ4_computeRedLevel = y_J4_computeRedLevel := rfl
theorem zm_J4_buildFromSorted_2 : zmt mJ4_buildFromSorted_2 = y_J4_buildFromSorted_2 := rfl
theorem zm_J17_getKey : zmt mJ17_getKey = y_J17_getKey := rfl
theorem zm_J17_getValue : zmt mJ17_getValue = y_J17_getValue := rfl
theorem zm_J31_copyOf_2 : zmt mJ31_copyOf_2 = y_J31_copyOf_2 := rfl
theorem zm_J12_hugeLength : zmt mJ12_hugeLength = y_J12_hugeLength := rfl
theorem zm_J6_siftUpUsingComparator : zmt mJ6_siftUpUsingComparator = y_J6_siftUpUsingComparator := rfl
theorem zm_J6_siftUpComparable : zmt mJ6_siftUpComparable = y_J6_siftUpComparable := rfl
theorem zm_J33_length : zmt mJ33_length = y_J33_length := rfl
theorem zm_J31_copyOfRangeByte : zmt mJ31_copyOfRangeByte = y_J31_copyOfRangeByte := rfl
theorem zm_J29_getMessage : zmt mJ29_getMessage = y_J29_getMessage := rfl
theorem zm_J9_init_3 : zmt mJ9_init_3 = y_J9_init_3 := rfl
theorem zm_J10_equals : zmt mJ10_equals = y_J10_equals := rfl
theorem zm_J8_numberOfLeadingZeros : zmt mJ8_numberOfLeadingZeros = y_J8_numberOfLeadingZeros := rfl
theorem zm_J31_checkLength : zmt mJ31_checkLength = y_J31_checkLength := rfl
theorem zpt_0 : parseFieldDescriptor (zfo 0).2.2.1 = some (.array .byte) := by decide +kernel
theorem zpt_1 : parseFieldDescriptor (zfo 1).2.2.1 = some .int := by decide +kernel
theorem zpt_2 : parseFieldDescriptor (zfo 2).2.2.1 = some (.object "GangColumns$Cluster") := by decide +kernel
theorem zpt_3 : parseFieldDescriptor (zfo 3).2.2.1 = some (.object "GangColumns$Cluster") := by decide +kernel
theorem zpt_4 : parseFieldDescriptor (zfo 4).2.2.1 = some (.object "GangColumns") := by decide +kernel
theorem zpt_5 : parseFieldDescriptor (zfo 5).2.2.1 = some .int := by decide +kernel
theorem zpt_6 : parseFieldDescriptor (zfo 6).2.2.1 = some (.object "GangColumns") := by decide +kernel
theorem zpt_7 : parseFieldDescriptor (zfo 7).2.2.1 = some .int := by decide +kernel
theorem zpt_8 : parseFieldDescriptor (zfo 8).2.2.1 = some (.object "GangColumns") := by decide +kernel
theorem zpt_9 : parseFieldDescriptor (zfo 9).2.2.1 = some .int := by decide +kernel
theorem zpt_10 : parseFieldDescriptor (zfo 10).2.2.1 = some .int := by decide +kernel
theorem zpt_11 : parseFieldDescriptor (zfo 11).2.2.1 = some .int := by decide +kernel
theorem zpt_12 : parseFieldDescriptor (zfo 12).2.2.1 = some .int := by decide +kernel
theorem zpt_13 : parseFieldDescriptor (zfo 13).2.2.1 = some .int := by decide +kernel
theorem zpt_14 : parseFieldDescriptor (zfo 14).2.2.1 = some .int := by decide +kernel
theorem zpt_15 : parseFieldDescriptor (zfo 15).2.2.1 = some (.object "java/util/ArrayList") := by decide +kernel
theorem zpt_16 : parseFieldDescriptor (zfo 16).2.2.1 = some .int := by decide +kernel
theorem zpt_17 : parseFieldDescriptor (zfo 17).2.2.1 = some (.object "GangColumns") := by decide +kernel
theorem zpt_18 : parseFieldDescriptor (zfo 18).2.2.1 = some (.array (.object "GangColumns$Column")) := by decide +kernel
theorem zpt_19 : parseFieldDescriptor (zfo 19).2.2.1 = some (.array .int) := by decide +kernel
theorem zpt_20 : parseFieldDescriptor (zfo 20).2.2.1 = some (.array .int) := by decide +kernel
theorem zpt_21 : parseFieldDescriptor (zfo 21).2.2.1 = some (.array .long) := by decide +kernel
theorem zpt_22 : parseFieldDescriptor (zfo 22).2.2.1 = some (.array (.array .int)) := by decide +kernel
theorem zpt_23 : parseFieldDescriptor (zfo 23).2.2.1 = some (.object "java/util/ArrayList") := by decide +kernel
theorem zpt_24 : parseFieldDescriptor (zfo 24).2.2.1 = some (.object "java/util/ArrayList") := by decide +kernel
theorem zpt_25 : parseFieldDescriptor (zfo 25).2.2.1 = some (.object "java/util/TreeMap") := by decide +kernel
theorem zpt_26 : parseFieldDescriptor (zfo 26).2.2.1 = some (.object "java/util/PriorityQueue") := by decide +kernel
theorem zpt_27 : parseFieldDescriptor (zfo 27).2.2.1 = some (.object "java/util/ArrayList") := by decide +kernel
theorem zpt_28 : parseFieldDescriptor (zfo 28).2.2.1 = some (.object "GangColumns$Promises") := by decide +kernel
theorem zpt_29 : parseFieldDescriptor (zfo 29).2.2.1 = some (.object "GangColumns$Promises") := by decide +kernel
theorem zpt_30 : parseFieldDescriptor (zfo 30).2.2.1 = some .int := by decide +kernel
theorem zpt_31 : parseFieldDescriptor (zfo 31).2.2.1 = some .int := by decide +kernel
theorem zpt_32 : parseFieldDescriptor (zfo 32).2.2.1 = some .int := by decide +kernel
theorem zpt_33 : parseFieldDescriptor (zfo 33).2.2.1 = some .int := by decide +kernel
theorem zpt_34 : parseFieldDescriptor (zfo 34).2.2.1 = some .int := by decide +kernel
theorem zpt_35 : parseFieldDescriptor (zfo 35).2.2.1 = some .boolean := by decide +kernel
theorem zpt_36 : parseFieldDescriptor (zfo 36).2.2.1 = some (.array .long) := by decide +kernel
theorem zpt_37 : parseFieldDescriptor (zfo 37).2.2.1 = some (.array (.object "GangColumns$Job")) := by decide +kernel
theorem zpt_38 : parseFieldDescriptor (zfo 38).2.2.1 = some (.object "GangColumns$Cluster$InLine") := by decide +kernel
theorem zpt_39 : parseFieldDescriptor (zfo 39).2.2.1 = some .int := by decide +kernel
theorem zpt_40 : parseFieldDescriptor (zfo 40).2.2.1 = some (.array .int) := by decide +kernel
theorem zpt_41 : parseFieldDescriptor (zfo 41).2.2.1 = some (.array .boolean) := by decide +kernel
theorem zpt_42 : parseFieldDescriptor (zfo 42).2.2.1 = some (.object "GangColumns$Cluster") := by decide +kernel
theorem zpt_43 : parseFieldDescriptor (zfo 43).2.2.1 = some (.object "java/util/ArrayList") := by decide +kernel
theorem zpt_44 : parseFieldDescriptor (zfo 44).2.2.1 = some .int := by decide +kernel
theorem zpt_45 : parseFieldDescriptor (zfo 45).2.2.1 = some .int := by decide +kernel
theorem zpt_46 : parseFieldDescriptor (zfo 46).2.2.1 = some .int := by decide +kernel
theorem zpt_47 : parseFieldDescriptor (zfo 47).2.2.1 = some (.object "java/lang/Throwable") := by decide +kernel
theorem zpt_48 : parseFieldDescriptor (zfo 48).2.2.1 = some (.array (.object "java/lang/StackTraceElement")) := by decide +kernel
theorem zpt_49 : parseFieldDescriptor (zfo 49).2.2.1 = some (.object "java/util/List") := by decide +kernel
theorem zpt_50 : parseFieldDescriptor (zfo 50).2.2.1 = some (.object "java/lang/String") := by decide +kernel
theorem zpt_53 : parseFieldDescriptor (zfo 53).2.2.1 = some .int := by decide +kernel
theorem zpt_54 : parseFieldDescriptor (zfo 54).2.2.1 = some (.object "GangColumns$Cluster") := by decide +kernel
theorem zpt_55 : parseFieldDescriptor (zfo 55).2.2.1 = some (.object "java/util/ArrayList") := by decide +kernel
theorem zpt_56 : parseFieldDescriptor (zfo 56).2.2.1 = some (.object "GangColumns") := by decide +kernel
theorem zpt_57 : parseFieldDescriptor (zfo 57).2.2.1 = some (.array .boolean) := by decide +kernel
theorem zpt_58 : parseFieldDescriptor (zfo 58).2.2.1 = some .int := by decide +kernel
theorem zpt_59 : parseFieldDescriptor (zfo 59).2.2.1 = some (.object "GangColumns$FreeRuns") := by decide +kernel
theorem zpt_60 : parseFieldDescriptor (zfo 60).2.2.1 = some (.object "GangColumns$Job") := by decide +kernel
theorem zpt_61 : parseFieldDescriptor (zfo 61).2.2.1 = some (.object "GangColumns$Arm") := by decide +kernel
theorem zpt_62 : parseFieldDescriptor (zfo 62).2.2.1 = some .int := by decide +kernel
theorem zpt_63 : parseFieldDescriptor (zfo 63).2.2.1 = some .int := by decide +kernel
theorem zpt_64 : parseFieldDescriptor (zfo 64).2.2.1 = some .int := by decide +kernel
theorem zpt_65 : parseFieldDescriptor (zfo 65).2.2.1 = some .int := by decide +kernel
theorem zpt_66 : parseFieldDescriptor (zfo 66).2.2.1 = some .int := by decide +kernel
theorem zpt_67 : parseFieldDescriptor (zfo 67).2.2.1 = some (.array (.object "GangColumns$Arm")) := by decide +kernel
theorem zpt_68 : parseFieldDescriptor (zfo 68).2.2.1 = some (.array (.object "GangColumns$Arm")) := by decide +kernel
theorem zpt_69 : parseFieldDescriptor (zfo 69).2.2.1 = some .int := by decide +kernel
theorem zpt_70 : parseFieldDescriptor (zfo 70).2.2.1 = some .int := by decide +kernel
theorem zpt_71 : parseFieldDescriptor (zfo 71).2.2.1 = some .boolean := by decide +kernel
theorem zpt_72 : parseFieldDescriptor (zfo 72).2.2.1 = some .int := by decide +kernel
theorem zpt_73 : parseFieldDescriptor (zfo 73).2.2.1 = some .int := by decide +kernel
theorem zpt_74 : parseFieldDescriptor (zfo 74).2.2.1 = some .int := by decide +kernel
theorem zpt_75 : parseFieldDescriptor (zfo 75).2.2.1 = some .int := by decide +kernel
theorem zpt_76 : parseFieldDescriptor (zfo 76).2.2.1 = some .int := by decide +kernel
theorem zpt_77 : parseFieldDescriptor (zfo 77).2.2.1 = some (.object "GangColumns$Span") := by decide +kernel
theorem zpt_78 : parseFieldDescriptor (zfo 78).2.2.1 = some (.object "GangColumns$Job") := by decide +kernel
theorem zpt_79 : parseFieldDescriptor (zfo 79).2.2.1 = some (.object "GangColumns$Orders") := by decide +kernel
theorem zpt_80 : parseFieldDescriptor (zfo 80).2.2.1 = some (.object "java/util/ArrayList") := by decide +kernel
theorem zpt_81 : parseFieldDescriptor (zfo 81).2.2.1 = some (.object "GangColumns") := by decide +kernel
theorem zpt_82 : parseFieldDescriptor (zfo 82).2.2.1 = some (.object "GangColumns$Job") := by decide +kernel
theorem zpt_83 : parseFieldDescriptor (zfo 83).2.2.1 = some .int := by decide +kernel
theorem zpt_84 : parseFieldDescriptor (zfo 84).2.2.1 = some .int := by decide +kernel
theorem zpt_85 : parseFieldDescriptor (zfo 85).2.2.1 = some (.object "GangColumns") := by decide +kernel
theorem zpt_86 : parseFieldDescriptor (zfo 86).2.2.1 = some .int := by decide +kernel
theorem zpt_87 : parseFieldDescriptor (zfo 87).2.2.1 = some (.array .int) := by decide +kernel
theorem zpt_88 : parseFieldDescriptor (zfo 88).2.2.1 = some .int := by decide +kernel
theorem zpt_89 : parseFieldDescriptor (zfo 89).2.2.1 = some .int := by decide +kernel
theorem zpt_90 : parseFieldDescriptor (zfo 90).2.2.1 = some .int := by decide +kernel
theorem zpt_91 : parseFieldDescriptor (zfo 91).2.2.1 = some .int := by decide +kernel
theorem zpt_92 : parseFieldDescriptor (zfo 92).2.2.1 = some .int := by decide +kernel
theorem zpt_93 : parseFieldDescriptor (zfo 93).2.2.1 = some .long := by decide +kernel
theorem zpt_94 : parseFieldDescriptor (zfo 94).2.2.1 = some .int := by decide +kernel
theorem zpt_95 : parseFieldDescriptor (zfo 95).2.2.1 = some .int := by decide +kernel
theorem zpt_96 : parseFieldDescriptor (zfo 96).2.2.1 = some .int := by decide +kernel
theorem zpt_97 : parseFieldDescriptor (zfo 97).2.2.1 = some .int := by decide +kernel
theorem zpt_98 : parseFieldDescriptor (zfo 98).2.2.1 = some .int := by decide +kernel
theorem zpt_99 : parseFieldDescriptor (zfo 99).2.2.1 = some .int := by decide +kernel
theorem zpt_100 : parseFieldDescriptor (zfo 100).2.2.1 = some .int := by decide +kernel
theorem zpt_101 : parseFieldDescriptor (zfo 101).2.2.1 = some (.array .int) := by decide +kernel
theorem zpt_102 : parseFieldDescriptor (zfo 102).2.2.1 = some (.array .int) := by decide +kernel
theorem zpt_103 : parseFieldDescriptor (zfo 103).2.2.1 = some (.array .int) := by decide +kernel
theorem zpt_104 : parseFieldDescriptor (zfo 104).2.2.1 = some (.array .long) := by decide +kernel
theorem zpt_105 : parseFieldDescriptor (zfo 105).2.2.1 = some (.array .long) := by decide +kernel
theorem zpt_106 : parseFieldDescriptor (zfo 106).2.2.1 = some (.array .long) := by decide +kernel
theorem zpt_107 : parseFieldDescriptor (zfo 107).2.2.1 = some (.array .byte) := by decide +kernel
theorem zpt_108 : parseFieldDescriptor (zfo 108).2.2.1 = some .int := by decide +kernel
theorem zpt_109 : parseFieldDescriptor (zfo 109).2.2.1 = some .int := by decide +kernel
theorem zpt_110 : parseFieldDescriptor (zfo 110).2.2.1 = some .int := by decide +kernel
theorem zpt_111 : parseFieldDescriptor (zfo 111).2.2.1 = some (.array .int) := by decide +kernel
theorem zpt_112 : parseFieldDescriptor (zfo 112).2.2.1 = some (.array .int) := by decide +kernel
theorem zpt_113 : parseFieldDescriptor (zfo 113).2.2.1 = some (.array .int) := by decide +kernel
theorem zpt_114 : parseFieldDescriptor (zfo 114).2.2.1 = some .int := by decide +kernel
theorem zpt_115 : parseFieldDescriptor (zfo 115).2.2.1 = some .int := by decide +kernel
theorem zpt_116 : parseFieldDescriptor (zfo 116).2.2.1 = some .int := by decide +kernel
theorem zpt_117 : parseFieldDescriptor (zfo 117).2.2.1 = some .int := by decide +kernel
theorem zpt_118 : parseFieldDescriptor (zfo 118).2.2.1 = some .int := by decide +kernel
theorem zpt_119 : parseFieldDescriptor (zfo 119).2.2.1 = some (.array .int) := by decide +kernel
theorem zpt_120 : parseFieldDescriptor (zfo 120).2.2.1 = some (.array .int) := by decide +kernel
theorem zpt_121 : parseFieldDescriptor (zfo 121).2.2.1 = some (.array .int) := by decide +kernel
theorem zpt_122 : parseFieldDescriptor (zfo 122).2.2.1 = some (.array .int) := by decide +kernel
theorem zpt_123 : parseFieldDescriptor (zfo 123).2.2.1 = some (.array .int) := by decide +kernel
theorem zpt_124 : parseFieldDescriptor (zfo 124).2.2.1 = some .int := by decide +kernel
theorem zpt_125 : parseFieldDescriptor (zfo 125).2.2.1 = some (.array .int) := by decide +kernel
theorem zpt_126 : parseFieldDescriptor (zfo 126).2.2.1 = some .int := by decide +kernel
theorem zpt_127 : parseFieldDescriptor (zfo 127).2.2.1 = some .int := by decide +kernel
theorem zpt_128 : parseFieldDescriptor (zfo 128).2.2.1 = some (.array .byte) := by decide +kernel
theorem zpt_129 : parseFieldDescriptor (zfo 129).2.2.1 = some .byte := by decide +kernel
theorem zpt_132 : parseFieldDescriptor (zfo 132).2.2.1 = some (.array .byte) := by decide +kernel
theorem zpt_133 : parseFieldDescriptor (zfo 133).2.2.1 = some .byte := by decide +kernel
theorem zpt_135 : parseFieldDescriptor (zfo 135).2.2.1 = some .int := by decide +kernel
theorem zpt_136 : parseFieldDescriptor (zfo 136).2.2.1 = some .int := by decide +kernel
theorem zpt_137 : parseFieldDescriptor (zfo 137).2.2.1 = some (.array (.object "java/lang/Object")) := by decide +kernel
theorem zpt_138 : parseFieldDescriptor (zfo 138).2.2.1 = some .int := by decide +kernel
theorem zpt_139 : parseFieldDescriptor (zfo 139).2.2.1 = some .int := by decide +kernel
theorem zpt_140 : parseFieldDescriptor (zfo 140).2.2.1 = some .int := by decide +kernel
theorem zpt_141 : parseFieldDescriptor (zfo 141).2.2.1 = some .int := by decide +kernel
theorem zpt_142 : parseFieldDescriptor (zfo 142).2.2.1 = some (.object "java/util/ArrayList") := by decide +kernel
theorem zpt_143 : parseFieldDescriptor (zfo 143).2.2.1 = some (.array (.object "java/lang/Object")) := by decide +kernel
theorem zpt_144 : parseFieldDescriptor (zfo 144).2.2.1 = some .int := by decide +kernel
theorem zpt_145 : parseFieldDescriptor (zfo 145).2.2.1 = some (.object "java/util/Comparator") := by decide +kernel
theorem zpt_146 : parseFieldDescriptor (zfo 146).2.2.1 = some .int := by decide +kernel
theorem zpt_147 : parseFieldDescriptor (zfo 147).2.2.1 = some .int := by decide +kernel
theorem zpt_148 : parseFieldDescriptor (zfo 148).2.2.1 = some .int := by decide +kernel
theorem zpt_150 : parseFieldDescriptor (zfo 150).2.2.1 = some (.object "java/lang/Object") := by decide +kernel
theorem zpt_151 : parseFieldDescriptor (zfo 151).2.2.1 = some .int := by decide +kernel
theorem zpt_152 : parseFieldDescriptor (zfo 152).2.2.1 = some (.object "java/util/PriorityQueue") := by decide +kernel
theorem zpt_154 : parseFieldDescriptor (zfo 154).2.2.1 = some (.object "java/util/Collection") := by decide +kernel
theorem zpt_155 : parseFieldDescriptor (zfo 155).2.2.1 = some (.object "java/util/Comparator") := by decide +kernel
theorem zpt_156 : parseFieldDescriptor (zfo 156).2.2.1 = some (.object "java/util/TreeMap$Entry") := by decide +kernel
theorem zpt_157 : parseFieldDescriptor (zfo 157).2.2.1 = some .int := by decide +kernel
theorem zpt_158 : parseFieldDescriptor (zfo 158).2.2.1 = some .int := by decide +kernel
theorem zpt_159 : parseFieldDescriptor (zfo 159).2.2.1 = some (.object "java/util/TreeMap$EntrySet") := by decide +kernel
theorem zpt_160 : parseFieldDescriptor (zfo 160).2.2.1 = some (.object "java/util/TreeMap$KeySet") := by decide +kernel
theorem zpt_162 : parseFieldDescriptor (zfo 162).2.2.1 = some (.object "java/lang/Object") := by decide +kernel
theorem zpt_163 : parseFieldDescriptor (zfo 163).2.2.1 = some (.object "java/lang/Object") := by decide +kernel
theorem zpt_164 : parseFieldDescriptor (zfo 164).2.2.1 = some (.object "java/util/TreeMap$Entry") := by decide +kernel
theorem zpt_165 : parseFieldDescriptor (zfo 165).2.2.1 = some (.object "java/util/TreeMap$Entry") := by decide +kernel
theorem zpt_166 : parseFieldDescriptor (zfo 166).2.2.1 = some (.object "java/util/TreeMap$Entry") := by decide +kernel
theorem zpt_167 : parseFieldDescriptor (zfo 167).2.2.1 = some .boolean := by decide +kernel
theorem zpt_168 : parseFieldDescriptor (zfo 168).2.2.1 = some (.object "java/util/TreeMap$Entry") := by decide +kernel
theorem zpt_169 : parseFieldDescriptor (zfo 169).2.2.1 = some (.object "java/util/TreeMap$Entry") := by decide +kernel
theorem zpt_170 : parseFieldDescriptor (zfo 170).2.2.1 = some .int := by decide +kernel
theorem zpt_171 : parseFieldDescriptor (zfo 171).2.2.1 = some (.object "java/util/TreeMap") := by decide +kernel
theorem zpt_172 : parseFieldDescriptor (zfo 172).2.2.1 = some (.object "java/util/TreeMap") := by decide +kernel
theorem zpt_173 : parseFieldDescriptor (zfo 173).2.2.1 = some (.object "java/util/NavigableMap") := by decide +kernel
theorem zpt_174 : parseFieldDescriptor (zfo 174).2.2.1 = some (.object "java/util/TreeMap") := by decide +kernel
theorem zpt_175 : parseFieldDescriptor (zfo 175).2.2.1 = some (.object "java/util/NavigableMap") := by decide +kernel
theorem zok_of {mt : Nat → ZY} {y : ZY} {T : ZT} (h : ∀ q ∈ T, ∀ r ∈ q.2, ZSn mt y.1.cls y.1.name y.1.desc y.2.1 y.2.2.1 y.2.2.2 r.1 r.2) : ZOk mt y T := fun n b h1 pc o h2 => h (n, b) h1 (pc, o) h2

/-! all methods: the locals' number and the table -/
set_option maxRecDepth 100000
def ztbs : List (Nat × ZT) := [
  (4, t_L_law),
  (1, t_X0_init),
  (2, t_X6_init),
  (4, t_X0_weight),
  (4, t_X6_weight),
  (4, t_X0_limit),
  (4, t_X6_limit),
  (5, t_X0_ranked),
  (6, t_X6_ranked),
  (3, t_X0_rule),
  (4, t_X6_rule),
  (2, t_X0_used),
  (2, t_X6_used),
  (2, t_X0_feed),
  (2, t_X6_feed),
  (8, t_X0_job),
  (6, t_X6_job),
  (3, t_X0_off),
  (2, t_X6_off),
  (4, t_X0_of),
  (3, t_X6_of),
  (6, t_X0_arm),
  (4, t_X6_arm),
  (3, t_X0_line),
  (3, t_X6_line),
  (3, t_X0_rank),
  (4, t_X6_rank),
  (3, t_X0_hold),
  (4, t_X6_hold),
  (5, t_X0_text),
  (4, t_X6_text),
  (5, t_X0_keep),
  (5, t_X6_keep),
  (10, t_X0_every),
  (10, t_X6_every),
  (3, t_X0_free),
  (3, t_X6_free),
  (3, t_X0_step),
  (3, t_X6_step),
  (1, t_X0_pass),
  (1, t_X6_pass),
  (2, t_X0_holder),
  (2, t_X6_holder),
  (3, t_X0_promised),
  (6, t_X6_promised),
  (4, t_X0_foretell),
  (3, t_X6_foretell),
  (3, t_X0_plan),
  (5, t_X6_plan),
  (9, t_X0_byRule),
  (11, t_X6_byRule),
  (6, t_X0_shrunk),
  (5, t_X6_shrunk),
  (6, t_X0_moves),
  (3, t_X6_moves),
  (5, t_X0_together),
  (4, t_X6_together),
  (8, t_X0_gap),
  (8, t_X6_gap),
  (5, t_X0_orders),
  (4, t_X6_orders),
  (12, t_X0_costs),
  (11, t_X6_costs),
  (4, t_X0_earliest),
  (3, t_X6_earliest),
  (7, t_X0_holes),
  (10, t_X6_holes),
  (2, t_X0_led),
  (2, t_X6_led),
  (3, t_X0_chart),
  (4, t_X6_chart),
  (3, t_X0_event),
  (3, t_X6_event),
  (2, t_X0_started),
  (2, t_X6_started),
  (1, t_X0_image),
  (1, t_X6_image),
  (1, t_X0_back),
  (1, t_X6_back),
  (2, t_X0_count),
  (4, t_X6_count),
  (3, t_X1_init),
  (3, t_X6_lays),
  (1, t_X0_isAccount),
  (6, t_X0_within),
  (1, t_X6_isAccount),
  (6, t_X6_in),
  (3, t_X1_shares),
  (2, t_J4_values),
  (1, t_J2_iterator),
  (1, t_J6_iterator),
  (1, t_J35_iterator),
  (1, t_J27_iterator),
  (1, t_J19_iterator),
  (1, t_J32_iterator),
  (1, t_X15_hasNext),
  (1, t_J20_hasNext),
  (1, t_J21_hasNext),
  (1, t_J22_hasNext),
  (1, t_X15_next),
  (3, t_J20_next),
  (1, t_J21_next),
  (1, t_J23_next),
  (1, t_J24_next),
  (1, t_J25_next),
  (1, t_J8_intValue),
  (7, t_X6_byShare),
  (2, t_X0_isRule),
  (4, t_X0_ruled),
  (2, t_X6_isRule),
  (2, t_X0_jobAt),
  (1, t_J2_size),
  (2, t_X9_init),
  (4, t_X9_read),
  (3, t_X9_row),
  (11, t_X12_init),
  (2, t_J2_add),
  (3, t_X1_happens),
  (2, t_X6_isJob),
  (3, t_X6_at),
  (5, t_X6_readArms),
  (7, t_X6_comes),
  (5, t_X1_off),
  (4, t_X6_offs),
  (2, t_X0_promiseOf),
  (6, t_X12_columns),
  (1, t_X6_told),
  (4, t_X6_columnsOf),
  (2, t_X11_lasts),
  (1, t_X11_hasStarted),
  (3, t_X6_lasts),
  (4, t_X1_line),
  (1, t_J32_size),
  (5, t_X0_numberAt),
  (4, t_X6_linesUp),
  (3, t_X17_init),
  (3, t_X16_does),
  (2, t_X6_isWaiting),
  (4, t_X6_sets),
  (3, t_X18_init),
  (3, t_X12_text),
  (1, t_J9_length),
  (2, t_J9_charAt),
  (3, t_X6_writesNumber),
  (2, t_X6_writes),
  (8, t_X0_isSpan),
  (1, t_J4_size),
  (6, t_X0_kept),
  (7, t_X6_isSpanTold),
  (3, t_X6_spans),
  (2, t_X6_bits),
  (6, t_X6_overlaps),
  (7, t_X6_keeps),
  (3, t_X0_givesBack),
  (1, t_J8_valueOf),
  (3, t_J4_get),
  (2, t_X1_letsSpan),
  (4, t_J4_remove),
  (3, t_X6_spanAt),
  (3, t_X1_tick),
  (4, t_X6_ticks),
  (7, t_X1_pass),
  (8, t_X6_passes),
  (1, t_X0_isColumn),
  (5, t_X0_heldBy),
  (1, t_X6_isColumn),
  (4, t_X6_holderOf),
  (3, t_X6_promisedBits),
  (7, t_X25_init),
  (5, t_X25_goesOn),
  (2, t_X25_startOf),
  (3, t_X6_thinks),
  (2, t_X6_goes),
  (1, t_X6_forgets),
  (2, t_J11_max),
  (4, t_X26_init),
  (4, t_X0_lessOf),
  (4, t_X1_fits_2),
  (2, t_X6_notWaiting),
  (3, t_X6_takes),
  (7, t_X6_fits),
  (1, t_J2_init),
  (3, t_X27_init),
  (6, t_X27_does),
  (4, t_X6_fewestMoves),
  (5, t_X0_areTogether),
  (4, t_X6_fitBoth),
  (7, t_X6_takenTo),
  (6, t_X6_begins),
  (6, t_X26_from),
  (7, t_X6_ways),
  (2, t_X0_later),
  (3, t_X12_init_2),
  (11, t_X1_firstTick),
  (3, t_X6_first),
  (5, t_X0_isHole),
  (2, t_X28_init),
  (4, t_X28_longest),
  (10, t_X6_busy),
  (2, t_J2_get),
  (2, t_X14_ask),
  (5, t_X1_copy),
  (3, t_X6_laysSums),
  (5, t_X1_jobsThat),
  (4, t_X1_heldNow),
  (4, t_X6_ofThese),
  (5, t_X6_heldBy),
  (1, t_J4_init),
  (1, t_X2_init),
  (2, t_J6_init),
  (1, t_X3_init),
  (2, t_X4_init),
  (1, t_X5_init),
  (2, t_X1_shareOf),
  (3, t_J4_put),
  (2, t_J19_init),
  (2, t_J20_init),
  (2, t_J21_init),
  (2, t_J4_getFirstEntry),
  (3, t_J23_init),
  (1, t_J4_keyIterator),
  (3, t_J25_init),
  (2, t_J4_navigableKeySet),
  (3, t_X15_next_2),
  (1, t_J20_checkForComodification),
  (1, t_J23_next_2),
  (2, t_J22_nextEntry),
  (3, t_X9_whole),
  (6, t_X12_byWidth),
  (4, t_J2_add_2),
  (4, t_J2_remove),
  (4, t_X14_init),
  (4, t_X6_number),
  (2, t_X6_takesSign),
  (4, t_X6_happens),
  (5, t_X1_stops),
  (2, t_X1_forgets),
  (3, t_X6_holds),
  (2, t_X3_of),
  (2, t_J32_init),
  (2, t_X1_isReady),
  (2, t_J32_add),
  (1, t_X28_iterator),
  (3, t_X6_isInLine),
  (4, t_X6_isAhead),
  (2, t_X16_init),
  (3, t_X17_with),
  (3, t_X18_with),
  (1, t_J34_init),
  (2, t_J34_append),
  (2, t_J34_append_2),
  (2, t_J34_append_3),
  (1, t_J34_toString),
  (2, t_J34_append_4),
  (1, t_J9_coder),
  (1, t_J9_isLatin1),
  (2, t_J10_charAt),
  (7, t_X19_init),
  (4, t_X1_mayKeep),
  (3, t_X1_keep),
  (2, t_X6_areColumns),
  (2, t_X6_isSpan),
  (2, t_X6_spanBits),
  (3, t_X6_heldBits),
  (3, t_X6_knownEnd),
  (2, t_J8_init),
  (5, t_J4_getEntry),
  (6, t_X1_givesUp),
  (3, t_J4_deleteEntry),
  (4, t_X1_uses),
  (1, t_J0_isEmpty),
  (1, t_J6_peek),
  (6, t_J6_poll),
  (4, t_X1_lets),
  (6, t_X1_isOver),
  (7, t_X1_ends),
  (4, t_X1_endsSpans),
  (5, t_X6_ends),
  (2, t_X3_clear),
  (4, t_X1_lineUp),
  (5, t_X1_isBarred),
  (3, t_X1_fits),
  (8, t_X1_starts),
  (1, t_X0_nothing),
  (2, t_X25_adds),
  (9, t_X1_isPromised),
  (3, t_X6_starts),
  (4, t_X6_promises),
  (5, t_X5_at),
  (1, t_X21_of),
  (1, t_X24_of),
  (1, t_X23_of),
  (4, t_X1_thinks),
  (3, t_X12_copy),
  (1, t_X25_waitingMany),
  (4, t_X11_init),
  (2, t_X1_takesNone),
  (8, t_X1_takes),
  (6, t_X6_place),
  (1, t_J1_init),
  (6, t_X27_isDone),
  (4, t_X6_areMoved),
  (3, t_X6_isHolding),
  (5, t_X1_fit),
  (3, t_X6_sooner),
  (4, t_X1_fits_3),
  (2, t_J2_contains),
  (11, t_X5_turnBehind),
  (2, t_J11_min),
  (6, t_X6_change),
  (2, t_J18_checkIndex),
  (2, t_J2_elementData),
  (2, t_X5_copy),
  (6, t_J2_addAll),
  (3, t_X22_init),
  (2, t_J6_add),
  (2, t_X3_like),
  (1, t_J3_init),
  (3, t_J6_init_2),
  (5, t_X7_init),
  (10, t_J4_put_2),
  (1, t_J0_init),
  (3, t_J22_init),
  (3, t_J24_init),
  (2, t_J27_init),
  (3, t_X8_init),
  (3, t_X15_begin),
  (3, t_J4_successor),
  (4, t_X9_number),
  (1, t_X9_peek),
  (2, t_X10_init),
  (1, t_X13_init),
  (1, t_J2_grow),
  (4, t_J2_fastRemove),
  (1, t_X6_isFigure),
  (2, t_X3_remove),
  (2, t_J4_init_2),
  (2, t_J32_init_2),
  (2, t_X15_init),
  (2, t_J33_init),
  (4, t_J33_append),
  (3, t_J33_append_2),
  (2, t_J33_append_3),
  (2, t_J9_init),
  (1, t_J9_valueOf),
  (2, t_J9_checkIndex),
  (5, t_X5_isFree),
  (2, t_X21_init),
  (3, t_X5_add),
  (1, t_J7_init),
  (6, t_J4_getEntryUsingComparator),
  (1, t_J18_requireNonNull),
  (2, t_X20_compareTo),
  (2, t_X7_compareTo),
  (2, t_J8_compareTo),
  (2, t_J9_compareTo),
  (2, t_J34_compareTo),
  (3, t_X5_lets),
  (3, t_J4_fixAfterDeletion),
  (6, t_X1_charts),
  (1, t_J6_size),
  (1, t_J35_size),
  (1, t_J27_size),
  (1, t_J19_size),
  (9, t_J6_siftDownComparable),
  (9, t_J6_siftDownUsingComparator),
  (1, t_J3_isEmpty),
  (1, t_J4_clear),
  (4, t_J4_putAll),
  (7, t_X4_compare_2),
  (4, t_X23_init),
  (4, t_X24_init),
  (3, t_X3_put),
  (3, t_X20_meets),
  (2, t_X1_lambda_lets_3),
  (2, t_X1_lambda_forgets_5),
  (1, t_X1_lambda_mayKeep_6),
  (2, t_X1_lambda_letsSpan_4),
  (1, t_X1_lambda_pass_2),
  (2, t_X1_lambda_fits_0),
  (2, t_X1_lambda_firstTick_1),
  (1, t_X0_lambda_holder_0),
  (1, t_X0_lambda_promised_1),
  (2, t_X0_lambda_shrunk_2),
  (4, t_X27_lambda_freeFor_0),
  (3, t_X0_lambda_areTogether_3),
  (3, t_X0_lambda_areTogether_4),
  (2, t_X26_matters),
  (2, t_X11_copy),
  (6, t_X1_takes_2),
  (7, t_X27_puts),
  (1, t_X29_init),
  (4, t_J32_addAll),
  (4, t_X6_moved),
  (6, t_X1_take),
  (2, t_J2_indexOf),
  (3, t_J16_checkIndex),
  (1, t_J2_toArray),
  (1, t_J6_toArray),
  (4, t_J0_toArray),
  (4, t_J2_grow_2),
  (3, t_J6_offer),
  (1, t_J5_init),
  (3, t_J4_addEntryToEmptyMap),
  (3, t_X2_compare),
  (3, t_X13_compare),
  (3, t_X4_compare),
  (3, t_X29_compare),
  (6, t_J4_addEntry),
  (1, t_J26_init),
  (5, t_J30_init),
  (4, t_J8_stringSize),
  (3, t_J33_ensureCapacityInternal),
  (1, t_J33_isLatin1),
  (7, t_J8_getChars),
  (3, t_J33_appendNull),
  (3, t_J33_putStringAt),
  (1, t_J10_canEncode),
  (2, t_J33_inflate),
  (5, t_J9_init_2),
  (3, t_J29_toString),
  (1, t_J8_toString),
  (1, t_J9_toString),
  (3, t_X20_init),
  (2, t_X20_compareTo_2),
  (5, t_J2_add_3),
  (3, t_X7_compareTo_2),
  (2, t_J8_compareTo_2),
  (5, t_J9_compareTo_2),
  (2, t_J34_compareTo_2),
  (1, t_J4_colorOf),
  (1, t_J4_parentOf),
  (1, t_J4_leftOf),
  (1, t_J4_rightOf),
  (2, t_J4_setColor),
  (3, t_J4_rotateLeft),
  (3, t_J4_rotateRight),
  (1, t_J4_comparator),
  (2, t_J18_equals),
  (2, t_J4_entrySet),
  (5, t_J4_buildFromSorted),
  (4, t_J3_putAll),
  (2, t_X21_hinders),
  (2, t_X24_hinders),
  (2, t_X23_hinders),
  (2, t_X26_isOwn),
  (5, t_X27_isMoved),
  (8, t_X1_runFor),
  (7, t_X27_freeFor),
  (5, t_X28_fits),
  (1, t_J27_comparator),
  (1, t_J32_comparator),
  (4, t_J4_addAllForTreeSet),
  (5, t_J0_addAll),
  (3, t_X6_foundBits),
  (6, t_X6_elsewhere),
  (6, t_J2_indexOfRange),
  (2, t_J31_copyOf),
  (4, t_J0_finishToArray),
  (4, t_J12_newLength),
  (4, t_J6_grow),
  (3, t_J6_siftUp),
  (3, t_J4_compare),
  (4, t_J17_init),
  (3, t_X2_compare_2),
  (3, t_X13_compare_2),
  (3, t_X29_compare_2),
  (3, t_J4_fixAfterInsertion),
  (5, t_J29_init_2),
  (6, t_J33_newCapacity),
  (3, t_J31_copyOf_3),
  (2, t_J33_inflateIfNeededFor),
  (4, t_J9_getBytes),
  (5, t_J10_inflate),
  (1, t_J33_getValue),
  (1, t_J34_length),
  (3, t_J31_copyOfRange),
  (1, t_J29_getLocalizedMessage),
  (3, t_J8_toString_2),
  (1, t_X21_kind),
  (1, t_X24_kind),
  (1, t_X23_kind),
  (2, t_J2_rangeCheckForAdd),
  (6, t_X7_comparedTo),
  (2, t_J8_compare),
  (6, t_J33_compareTo),
  (2, t_J36_equals),
  (2, t_J8_equals),
  (3, t_J9_equals),
  (2, t_J35_init),
  (1, t_J4_computeRedLevel),
  (14, t_J4_buildFromSorted_2),
  (1, t_J17_getKey),
  (1, t_J17_getValue),
  (4, t_J31_copyOf_2),
  (3, t_J12_hugeLength),
  (6, t_J6_siftUpUsingComparator),
  (6, t_J6_siftUpComparable),
  (1, t_J33_length),
  (5, t_J31_copyOfRangeByte),
  (1, t_J29_getMessage),
  (3, t_J9_init_3),
  (3, t_J10_equals),
  (2, t_J8_numberOfLeadingZeros),
  (2, t_J31_checkLength)]
def ztb (k : Nat) : Nat × ZT := ztbs.getD k (0, [])
theorem zt_L_law : ztb mL_law = (4, t_L_law) := rfl
theorem zt_X0_init : ztb mX0_init = (1, t_X0_init) := rfl
theorem zt_X6_init : ztb mX6_init = (2, t_X6_init) := rfl
theorem zt_X0_weight : ztb mX0_weight = (4, t_X0_weight) := rfl
theorem zt_X6_weight : ztb mX6_weight = (4, t_X6_weight) := rfl
theorem zt_X0_limit : ztb mX0_limit = (4, t_X0_limit) := rfl
theorem zt_X6_limit : ztb mX6_limit = (4, t_X6_limit) := rfl
theorem zt_X0_ranked : ztb mX0_ranked = (5, t_X0_ranked) := rfl
theorem zt_X6_ranked : ztb mX6_ranked = (6, t_X6_ranked) := rfl
theorem zt_X0_rule : ztb mX0_rule = (3, t_X0_rule) := rfl
theorem zt_X6_rule : ztb mX6_rule = (4, t_X6_rule) := rfl
theorem zt_X0_used : ztb mX0_used = (2, t_X0_used) := rfl
theorem zt_X6_used : ztb mX6_used = (2, t_X6_used) := rfl
theorem zt_X0_feed : ztb mX0_feed = (2, t_X0_feed) := rfl
theorem zt_X6_feed : ztb mX6_feed = (2, t_X6_feed) := rfl
theorem zt_X0_job : ztb mX0_job = (8, t_X0_job) := rfl
theorem zt_X6_job : ztb mX6_job = (6, t_X6_job) := rfl
theorem zt_X0_off : ztb mX0_off = (3, t_X0_off) := rfl
theorem zt_X6_off : ztb mX6_off = (2, t_X6_off) := rfl
theorem zt_X0_of : ztb mX0_of = (4, t_X0_of) := rfl
theorem zt_X6_of : ztb mX6_of = (3, t_X6_of) := rfl
theorem zt_X0_arm : ztb mX0_arm = (6, t_X0_arm) := rfl
theorem zt_X6_arm : ztb mX6_arm = (4, t_X6_arm) := rfl
theorem zt_X0_line : ztb mX0_line = (3, t_X0_line) := rfl
theorem zt_X6_line : ztb mX6_line = (3, t_X6_line) := rfl
theorem zt_X0_rank : ztb mX0_rank = (3, t_X0_rank) := rfl
theorem zt_X6_rank : ztb mX6_rank = (4, t_X6_rank) := rfl
theorem zt_X0_hold : ztb mX0_hold = (3, t_X0_hold) := rfl
theorem zt_X6_hold : ztb mX6_hold = (4, t_X6_hold) := rfl
theorem zt_X0_text : ztb mX0_text = (5, t_X0_text) := rfl
theorem zt_X6_text : ztb mX6_text = (4, t_X6_text) := rfl
theorem zt_X0_keep : ztb mX0_keep = (5, t_X0_keep) := rfl
theorem zt_X6_keep : ztb mX6_keep = (5, t_X6_keep) := rfl
theorem zt_X0_every : ztb mX0_every = (10, t_X0_every) := rfl
theorem zt_X6_every : ztb mX6_every = (10, t_X6_every) := rfl
theorem zt_X0_free : ztb mX0_free = (3, t_X0_free) := rfl
theorem zt_X6_free : ztb mX6_free = (3, t_X6_free) := rfl
theorem zt_X0_step : ztb mX0_step = (3, t_X0_step) := rfl
theorem zt_X6_step : ztb mX6_step = (3, t_X6_step) := rfl
theorem zt_X0_pass : ztb mX0_pass = (1, t_X0_pass) := rfl
theorem zt_X6_pass : ztb mX6_pass = (1, t_X6_pass) := rfl
theorem zt_X0_holder : ztb mX0_holder = (2, t_X0_holder) := rfl
theorem zt_X6_holder : ztb mX6_holder = (2, t_X6_holder) := rfl
theorem zt_X0_promised : ztb mX0_promised = (3, t_X0_promised) := rfl
theorem zt_X6_promised : ztb mX6_promised = (6, t_X6_promised) := rfl
theorem zt_X0_foretell : ztb mX0_foretell = (4, t_X0_foretell) := rfl
theorem zt_X6_foretell : ztb mX6_foretell = (3, t_X6_foretell) := rfl
theorem zt_X0_plan : ztb mX0_plan = (3, t_X0_plan) := rfl
theorem zt_X6_plan : ztb mX6_plan = (5, t_X6_plan) := rfl
theorem zt_X0_byRule : ztb mX0_byRule = (9, t_X0_byRule) := rfl
theorem zt_X6_byRule : ztb mX6_byRule = (11, t_X6_byRule) := rfl
theorem zt_X0_shrunk : ztb mX0_shrunk = (6, t_X0_shrunk) := rfl
theorem zt_X6_shrunk : ztb mX6_shrunk = (5, t_X6_shrunk) := rfl
theorem zt_X0_moves : ztb mX0_moves = (6, t_X0_moves) := rfl
theorem zt_X6_moves : ztb mX6_moves = (3, t_X6_moves) := rfl
theorem zt_X0_together : ztb mX0_together = (5, t_X0_together) := rfl
theorem zt_X6_together : ztb mX6_together = (4, t_X6_together) := rfl
theorem zt_X0_gap : ztb mX0_gap = (8, t_X0_gap) := rfl
theorem zt_X6_gap : ztb mX6_gap = (8, t_X6_gap) := rfl
theorem zt_X0_orders : ztb mX0_orders = (5, t_X0_orders) := rfl
theorem zt_X6_orders : ztb mX6_orders = (4, t_X6_orders) := rfl
theorem zt_X0_costs : ztb mX0_costs = (12, t_X0_costs) := rfl
theorem zt_X6_costs : ztb mX6_costs = (11, t_X6_costs) := rfl
theorem zt_X0_earliest : ztb mX0_earliest = (4, t_X0_earliest) := rfl
theorem zt_X6_earliest : ztb mX6_earliest = (3, t_X6_earliest) := rfl
theorem zt_X0_holes : ztb mX0_holes = (7, t_X0_holes) := rfl
theorem zt_X6_holes : ztb mX6_holes = (10, t_X6_holes) := rfl
theorem zt_X0_led : ztb mX0_led = (2, t_X0_led) := rfl
theorem zt_X6_led : ztb mX6_led = (2, t_X6_led) := rfl
theorem zt_X0_chart : ztb mX0_chart = (3, t_X0_chart) := rfl
theorem zt_X6_chart : ztb mX6_chart = (4, t_X6_chart) := rfl
theorem zt_X0_event : ztb mX0_event = (3, t_X0_event) := rfl
theorem zt_X6_event : ztb mX6_event = (3, t_X6_event) := rfl
theorem zt_X0_started : ztb mX0_started = (2, t_X0_started) := rfl
theorem zt_X6_started : ztb mX6_started = (2, t_X6_started) := rfl
theorem zt_X0_image : ztb mX0_image = (1, t_X0_image) := rfl
theorem zt_X6_image : ztb mX6_image = (1, t_X6_image) := rfl
theorem zt_X0_back : ztb mX0_back = (1, t_X0_back) := rfl
theorem zt_X6_back : ztb mX6_back = (1, t_X6_back) := rfl
theorem zt_X0_count : ztb mX0_count = (2, t_X0_count) := rfl
theorem zt_X6_count : ztb mX6_count = (4, t_X6_count) := rfl
theorem zt_X1_init : ztb mX1_init = (3, t_X1_init) := rfl
theorem zt_X6_lays : ztb mX6_lays = (3, t_X6_lays) := rfl
theorem zt_X0_isAccount : ztb mX0_isAccount = (1, t_X0_isAccount) := rfl
theorem zt_X0_within : ztb mX0_within = (6, t_X0_within) := rfl
theorem zt_X6_isAccount : ztb mX6_isAccount = (1, t_X6_isAccount) := rfl
theorem zt_X6_in : ztb mX6_in = (6, t_X6_in) := rfl
theorem zt_X1_shares : ztb mX1_shares = (3, t_X1_shares) := rfl
theorem zt_J4_values : ztb mJ4_values = (2, t_J4_values) := rfl
theorem zt_J2_iterator : ztb mJ2_iterator = (1, t_J2_iterator) := rfl
theorem zt_J6_iterator : ztb mJ6_iterator = (1, t_J6_iterator) := rfl
theorem zt_J35_iterator : ztb mJ35_iterator = (1, t_J35_iterator) := rfl
theorem zt_J27_iterator : ztb mJ27_iterator = (1, t_J27_iterator) := rfl
theorem zt_J19_iterator : ztb mJ19_iterator = (1, t_J19_iterator) := rfl
theorem zt_J32_iterator : ztb mJ32_iterator = (1, t_J32_iterator) := rfl
theorem zt_X15_hasNext : ztb mX15_hasNext = (1, t_X15_hasNext) := rfl
theorem zt_J20_hasNext : ztb mJ20_hasNext = (1, t_J20_hasNext) := rfl
theorem zt_J21_hasNext : ztb mJ21_hasNext = (1, t_J21_hasNext) := rfl
theorem zt_J22_hasNext : ztb mJ22_hasNext = (1, t_J22_hasNext) := rfl
theorem zt_X15_next : ztb mX15_next = (1, t_X15_next) := rfl
theorem zt_J20_next : ztb mJ20_next = (3, t_J20_next) := rfl
theorem zt_J21_next : ztb mJ21_next = (1, t_J21_next) := rfl
theorem zt_J23_next : ztb mJ23_next = (1, t_J23_next) := rfl
theorem zt_J24_next : ztb mJ24_next = (1, t_J24_next) := rfl
theorem zt_J25_next : ztb mJ25_next = (1, t_J25_next) := rfl
theorem zt_J8_intValue : ztb mJ8_intValue = (1, t_J8_intValue) := rfl
theorem zt_X6_byShare : ztb mX6_byShare = (7, t_X6_byShare) := rfl
theorem zt_X0_isRule : ztb mX0_isRule = (2, t_X0_isRule) := rfl
theorem zt_X0_ruled : ztb mX0_ruled = (4, t_X0_ruled) := rfl
theorem zt_X6_isRule : ztb mX6_isRule = (2, t_X6_isRule) := rfl
theorem zt_X0_jobAt : ztb mX0_jobAt = (2, t_X0_jobAt) := rfl
theorem zt_J2_size : ztb mJ2_size = (1, t_J2_size) := rfl
theorem zt_X9_init : ztb mX9_init = (2, t_X9_init) := rfl
theorem zt_X9_read : ztb mX9_read = (4, t_X9_read) := rfl
theorem zt_X9_row : ztb mX9_row = (3, t_X9_row) := rfl
theorem zt_X12_init : ztb mX12_init = (11, t_X12_init) := rfl
theorem zt_J2_add : ztb mJ2_add = (2, t_J2_add) := rfl
theorem zt_X1_happens : ztb mX1_happens = (3, t_X1_happens) := rfl
theorem zt_X6_isJob : ztb mX6_isJob = (2, t_X6_isJob) := rfl
theorem zt_X6_at : ztb mX6_at = (3, t_X6_at) := rfl
theorem zt_X6_readArms : ztb mX6_readArms = (5, t_X6_readArms) := rfl
theorem zt_X6_comes : ztb mX6_comes = (7, t_X6_comes) := rfl
theorem zt_X1_off : ztb mX1_off = (5, t_X1_off) := rfl
theorem zt_X6_offs : ztb mX6_offs = (4, t_X6_offs) := rfl
theorem zt_X0_promiseOf : ztb mX0_promiseOf = (2, t_X0_promiseOf) := rfl
theorem zt_X12_columns : ztb mX12_columns = (6, t_X12_columns) := rfl
theorem zt_X6_told : ztb mX6_told = (1, t_X6_told) := rfl
theorem zt_X6_columnsOf : ztb mX6_columnsOf = (4, t_X6_columnsOf) := rfl
theorem zt_X11_lasts : ztb mX11_lasts = (2, t_X11_lasts) := rfl
theorem zt_X11_hasStarted : ztb mX11_hasStarted = (1, t_X11_hasStarted) := rfl
theorem zt_X6_lasts : ztb mX6_lasts = (3, t_X6_lasts) := rfl
theorem zt_X1_line : ztb mX1_line = (4, t_X1_line) := rfl
theorem zt_J32_size : ztb mJ32_size = (1, t_J32_size) := rfl
theorem zt_X0_numberAt : ztb mX0_numberAt = (5, t_X0_numberAt) := rfl
theorem zt_X6_linesUp : ztb mX6_linesUp = (4, t_X6_linesUp) := rfl
theorem zt_X17_init : ztb mX17_init = (3, t_X17_init) := rfl
theorem zt_X16_does : ztb mX16_does = (3, t_X16_does) := rfl
theorem zt_X6_isWaiting : ztb mX6_isWaiting = (2, t_X6_isWaiting) := rfl
theorem zt_X6_sets : ztb mX6_sets = (4, t_X6_sets) := rfl
theorem zt_X18_init : ztb mX18_init = (3, t_X18_init) := rfl
theorem zt_X12_text : ztb mX12_text = (3, t_X12_text) := rfl
theorem zt_J9_length : ztb mJ9_length = (1, t_J9_length) := rfl
theorem zt_J9_charAt : ztb mJ9_charAt = (2, t_J9_charAt) := rfl
theorem zt_X6_writesNumber : ztb mX6_writesNumber = (3, t_X6_writesNumber) := rfl
theorem zt_X6_writes : ztb mX6_writes = (2, t_X6_writes) := rfl
theorem zt_X0_isSpan : ztb mX0_isSpan = (8, t_X0_isSpan) := rfl
theorem zt_J4_size : ztb mJ4_size = (1, t_J4_size) := rfl
theorem zt_X0_kept : ztb mX0_kept = (6, t_X0_kept) := rfl
theorem zt_X6_isSpanTold : ztb mX6_isSpanTold = (7, t_X6_isSpanTold) := rfl
theorem zt_X6_spans : ztb mX6_spans = (3, t_X6_spans) := rfl
theorem zt_X6_bits : ztb mX6_bits = (2, t_X6_bits) := rfl
theorem zt_X6_overlaps : ztb mX6_overlaps = (6, t_X6_overlaps) := rfl
theorem zt_X6_keeps : ztb mX6_keeps = (7, t_X6_keeps) := rfl
theorem zt_X0_givesBack : ztb mX0_givesBack = (3, t_X0_givesBack) := rfl
theorem zt_J8_valueOf : ztb mJ8_valueOf = (1, t_J8_valueOf) := rfl
theorem zt_J4_get : ztb mJ4_get = (3, t_J4_get) := rfl
theorem zt_X1_letsSpan : ztb mX1_letsSpan = (2, t_X1_letsSpan) := rfl
theorem zt_J4_remove : ztb mJ4_remove = (4, t_J4_remove) := rfl
theorem zt_X6_spanAt : ztb mX6_spanAt = (3, t_X6_spanAt) := rfl
theorem zt_X1_tick : ztb mX1_tick = (3, t_X1_tick) := rfl
theorem zt_X6_ticks : ztb mX6_ticks = (4, t_X6_ticks) := rfl
theorem zt_X1_pass : ztb mX1_pass = (7, t_X1_pass) := rfl
theorem zt_X6_passes : ztb mX6_passes = (8, t_X6_passes) := rfl
theorem zt_X0_isColumn : ztb mX0_isColumn = (1, t_X0_isColumn) := rfl
theorem zt_X0_heldBy : ztb mX0_heldBy = (5, t_X0_heldBy) := rfl
theorem zt_X6_isColumn : ztb mX6_isColumn = (1, t_X6_isColumn) := rfl
theorem zt_X6_holderOf : ztb mX6_holderOf = (4, t_X6_holderOf) := rfl
theorem zt_X6_promisedBits : ztb mX6_promisedBits = (3, t_X6_promisedBits) := rfl
theorem zt_X25_init : ztb mX25_init = (7, t_X25_init) := rfl
theorem zt_X25_goesOn : ztb mX25_goesOn = (5, t_X25_goesOn) := rfl
theorem zt_X25_startOf : ztb mX25_startOf = (2, t_X25_startOf) := rfl
theorem zt_X6_thinks : ztb mX6_thinks = (3, t_X6_thinks) := rfl
theorem zt_X6_goes : ztb mX6_goes = (2, t_X6_goes) := rfl
theorem zt_X6_forgets : ztb mX6_forgets = (1, t_X6_forgets) := rfl
theorem zt_J11_max : ztb mJ11_max = (2, t_J11_max) := rfl
theorem zt_X26_init : ztb mX26_init = (4, t_X26_init) := rfl
theorem zt_X0_lessOf : ztb mX0_lessOf = (4, t_X0_lessOf) := rfl
theorem zt_X1_fits_2 : ztb mX1_fits_2 = (4, t_X1_fits_2) := rfl
theorem zt_X6_notWaiting : ztb mX6_notWaiting = (2, t_X6_notWaiting) := rfl
theorem zt_X6_takes : ztb mX6_takes = (3, t_X6_takes) := rfl
theorem zt_X6_fits : ztb mX6_fits = (7, t_X6_fits) := rfl
theorem zt_J2_init : ztb mJ2_init = (1, t_J2_init) := rfl
theorem zt_X27_init : ztb mX27_init = (3, t_X27_init) := rfl
theorem zt_X27_does : ztb mX27_does = (6, t_X27_does) := rfl
theorem zt_X6_fewestMoves : ztb mX6_fewestMoves = (4, t_X6_fewestMoves) := rfl
theorem zt_X0_areTogether : ztb mX0_areTogether = (5, t_X0_areTogether) := rfl
theorem zt_X6_fitBoth : ztb mX6_fitBoth = (4, t_X6_fitBoth) := rfl
theorem zt_X6_takenTo : ztb mX6_takenTo = (7, t_X6_takenTo) := rfl
theorem zt_X6_begins : ztb mX6_begins = (6, t_X6_begins) := rfl
theorem zt_X26_from : ztb mX26_from = (6, t_X26_from) := rfl
theorem zt_X6_ways : ztb mX6_ways = (7, t_X6_ways) := rfl
theorem zt_X0_later : ztb mX0_later = (2, t_X0_later) := rfl
theorem zt_X12_init_2 : ztb mX12_init_2 = (3, t_X12_init_2) := rfl
theorem zt_X1_firstTick : ztb mX1_firstTick = (11, t_X1_firstTick) := rfl
theorem zt_X6_first : ztb mX6_first = (3, t_X6_first) := rfl
theorem zt_X0_isHole : ztb mX0_isHole = (5, t_X0_isHole) := rfl
theorem zt_X28_init : ztb mX28_init = (2, t_X28_init) := rfl
theorem zt_X28_longest : ztb mX28_longest = (4, t_X28_longest) := rfl
theorem zt_X6_busy : ztb mX6_busy = (10, t_X6_busy) := rfl
theorem zt_J2_get : ztb mJ2_get = (2, t_J2_get) := rfl
theorem zt_X14_ask : ztb mX14_ask = (2, t_X14_ask) := rfl
theorem zt_X1_copy : ztb mX1_copy = (5, t_X1_copy) := rfl
theorem zt_X6_laysSums : ztb mX6_laysSums = (3, t_X6_laysSums) := rfl
theorem zt_X1_jobsThat : ztb mX1_jobsThat = (5, t_X1_jobsThat) := rfl
theorem zt_X1_heldNow : ztb mX1_heldNow = (4, t_X1_heldNow) := rfl
theorem zt_X6_ofThese : ztb mX6_ofThese = (4, t_X6_ofThese) := rfl
theorem zt_X6_heldBy : ztb mX6_heldBy = (5, t_X6_heldBy) := rfl
theorem zt_J4_init : ztb mJ4_init = (1, t_J4_init) := rfl
theorem zt_X2_init : ztb mX2_init = (1, t_X2_init) := rfl
theorem zt_J6_init : ztb mJ6_init = (2, t_J6_init) := rfl
theorem zt_X3_init : ztb mX3_init = (1, t_X3_init) := rfl
theorem zt_X4_init : ztb mX4_init = (2, t_X4_init) := rfl
theorem zt_X5_init : ztb mX5_init = (1, t_X5_init) := rfl
theorem zt_X1_shareOf : ztb mX1_shareOf = (2, t_X1_shareOf) := rfl
theorem zt_J4_put : ztb mJ4_put = (3, t_J4_put) := rfl
theorem zt_J19_init : ztb mJ19_init = (2, t_J19_init) := rfl
theorem zt_J20_init : ztb mJ20_init = (2, t_J20_init) := rfl
theorem zt_J21_init : ztb mJ21_init = (2, t_J21_init) := rfl
theorem zt_J4_getFirstEntry : ztb mJ4_getFirstEntry = (2, t_J4_getFirstEntry) := rfl
theorem zt_J23_init : ztb mJ23_init = (3, t_J23_init) := rfl
theorem zt_J4_keyIterator : ztb mJ4_keyIterator = (1, t_J4_keyIterator) := rfl
theorem zt_J25_init : ztb mJ25_init = (3, t_J25_init) := rfl
theorem zt_J4_navigableKeySet : ztb mJ4_navigableKeySet = (2, t_J4_navigableKeySet) := rfl
theorem zt_X15_next_2 : ztb mX15_next_2 = (3, t_X15_next_2) := rfl
theorem zt_J20_checkForComodification : ztb mJ20_checkForComodification = (1, t_J20_checkForComodification) := rfl
theorem zt_J23_next_2 : ztb mJ23_next_2 = (1, t_J23_next_2) := rfl
theorem zt_J22_nextEntry : ztb mJ22_nextEntry = (2, t_J22_nextEntry) := rfl
theorem zt_X9_whole : ztb mX9_whole = (3, t_X9_whole) := rfl
theorem zt_X12_byWidth : ztb mX12_byWidth = (6, t_X12_byWidth) := rfl
theorem zt_J2_add_2 : ztb mJ2_add_2 = (4, t_J2_add_2) := rfl
theorem zt_J2_remove : ztb mJ2_remove = (4, t_J2_remove) := rfl
theorem zt_X14_init : ztb mX14_init = (4, t_X14_init) := rfl
theorem zt_X6_number : ztb mX6_number = (4, t_X6_number) := rfl
theorem zt_X6_takesSign : ztb mX6_takesSign = (2, t_X6_takesSign) := rfl
theorem zt_X6_happens : ztb mX6_happens = (4, t_X6_happens) := rfl
theorem zt_X1_stops : ztb mX1_stops = (5, t_X1_stops) := rfl
theorem zt_X1_forgets : ztb mX1_forgets = (2, t_X1_forgets) := rfl
theorem zt_X6_holds : ztb mX6_holds = (3, t_X6_holds) := rfl
theorem zt_X3_of : ztb mX3_of = (2, t_X3_of) := rfl
theorem zt_J32_init : ztb mJ32_init = (2, t_J32_init) := rfl
theorem zt_X1_isReady : ztb mX1_isReady = (2, t_X1_isReady) := rfl
theorem zt_J32_add : ztb mJ32_add = (2, t_J32_add) := rfl
theorem zt_X28_iterator : ztb mX28_iterator = (1, t_X28_iterator) := rfl
theorem zt_X6_isInLine : ztb mX6_isInLine = (3, t_X6_isInLine) := rfl
theorem zt_X6_isAhead : ztb mX6_isAhead = (4, t_X6_isAhead) := rfl
theorem zt_X16_init : ztb mX16_init = (2, t_X16_init) := rfl
theorem zt_X17_with : ztb mX17_with = (3, t_X17_with) := rfl
theorem zt_X18_with : ztb mX18_with = (3, t_X18_with) := rfl
theorem zt_J34_init : ztb mJ34_init = (1, t_J34_init) := rfl
theorem zt_J34_append : ztb mJ34_append = (2, t_J34_append) := rfl
theorem zt_J34_append_2 : ztb mJ34_append_2 = (2, t_J34_append_2) := rfl
theorem zt_J34_append_3 : ztb mJ34_append_3 = (2, t_J34_append_3) := rfl
theorem zt_J34_toString : ztb mJ34_toString = (1, t_J34_toString) := rfl
theorem zt_J34_append_4 : ztb mJ34_append_4 = (2, t_J34_append_4) := rfl
theorem zt_J9_coder : ztb mJ9_coder = (1, t_J9_coder) := rfl
theorem zt_J9_isLatin1 : ztb mJ9_isLatin1 = (1, t_J9_isLatin1) := rfl
theorem zt_J10_charAt : ztb mJ10_charAt = (2, t_J10_charAt) := rfl
theorem zt_X19_init : ztb mX19_init = (7, t_X19_init) := rfl
theorem zt_X1_mayKeep : ztb mX1_mayKeep = (4, t_X1_mayKeep) := rfl
theorem zt_X1_keep : ztb mX1_keep = (3, t_X1_keep) := rfl
theorem zt_X6_areColumns : ztb mX6_areColumns = (2, t_X6_areColumns) := rfl
theorem zt_X6_isSpan : ztb mX6_isSpan = (2, t_X6_isSpan) := rfl
theorem zt_X6_spanBits : ztb mX6_spanBits = (2, t_X6_spanBits) := rfl
theorem zt_X6_heldBits : ztb mX6_heldBits = (3, t_X6_heldBits) := rfl
theorem zt_X6_knownEnd : ztb mX6_knownEnd = (3, t_X6_knownEnd) := rfl
theorem zt_J8_init : ztb mJ8_init = (2, t_J8_init) := rfl
theorem zt_J4_getEntry : ztb mJ4_getEntry = (5, t_J4_getEntry) := rfl
theorem zt_X1_givesUp : ztb mX1_givesUp = (6, t_X1_givesUp) := rfl
theorem zt_J4_deleteEntry : ztb mJ4_deleteEntry = (3, t_J4_deleteEntry) := rfl
theorem zt_X1_uses : ztb mX1_uses = (4, t_X1_uses) := rfl
theorem zt_J0_isEmpty : ztb mJ0_isEmpty = (1, t_J0_isEmpty) := rfl
theorem zt_J6_peek : ztb mJ6_peek = (1, t_J6_peek) := rfl
theorem zt_J6_poll : ztb mJ6_poll = (6, t_J6_poll) := rfl
theorem zt_X1_lets : ztb mX1_lets = (4, t_X1_lets) := rfl
theorem zt_X1_isOver : ztb mX1_isOver = (6, t_X1_isOver) := rfl
theorem zt_X1_ends : ztb mX1_ends = (7, t_X1_ends) := rfl
theorem zt_X1_endsSpans : ztb mX1_endsSpans = (4, t_X1_endsSpans) := rfl
theorem zt_X6_ends : ztb mX6_ends = (5, t_X6_ends) := rfl
theorem zt_X3_clear : ztb mX3_clear = (2, t_X3_clear) := rfl
theorem zt_X1_lineUp : ztb mX1_lineUp = (4, t_X1_lineUp) := rfl
theorem zt_X1_isBarred : ztb mX1_isBarred = (5, t_X1_isBarred) := rfl
theorem zt_X1_fits : ztb mX1_fits = (3, t_X1_fits) := rfl
theorem zt_X1_starts : ztb mX1_starts = (8, t_X1_starts) := rfl
theorem zt_X0_nothing : ztb mX0_nothing = (1, t_X0_nothing) := rfl
theorem zt_X25_adds : ztb mX25_adds = (2, t_X25_adds) := rfl
theorem zt_X1_isPromised : ztb mX1_isPromised = (9, t_X1_isPromised) := rfl
theorem zt_X6_starts : ztb mX6_starts = (3, t_X6_starts) := rfl
theorem zt_X6_promises : ztb mX6_promises = (4, t_X6_promises) := rfl
theorem zt_X5_at : ztb mX5_at = (5, t_X5_at) := rfl
theorem zt_X21_of : ztb mX21_of = (1, t_X21_of) := rfl
theorem zt_X24_of : ztb mX24_of = (1, t_X24_of) := rfl
theorem zt_X23_of : ztb mX23_of = (1, t_X23_of) := rfl
theorem zt_X1_thinks : ztb mX1_thinks = (4, t_X1_thinks) := rfl
theorem zt_X12_copy : ztb mX12_copy = (3, t_X12_copy) := rfl
theorem zt_X25_waitingMany : ztb mX25_waitingMany = (1, t_X25_waitingMany) := rfl
theorem zt_X11_init : ztb mX11_init = (4, t_X11_init) := rfl
theorem zt_X1_takesNone : ztb mX1_takesNone = (2, t_X1_takesNone) := rfl
theorem zt_X1_takes : ztb mX1_takes = (8, t_X1_takes) := rfl
theorem zt_X6_place : ztb mX6_place = (6, t_X6_place) := rfl
theorem zt_J1_init : ztb mJ1_init = (1, t_J1_init) := rfl
theorem zt_X27_isDone : ztb mX27_isDone = (6, t_X27_isDone) := rfl
theorem zt_X6_areMoved : ztb mX6_areMoved = (4, t_X6_areMoved) := rfl
theorem zt_X6_isHolding : ztb mX6_isHolding = (3, t_X6_isHolding) := rfl
theorem zt_X1_fit : ztb mX1_fit = (5, t_X1_fit) := rfl
theorem zt_X6_sooner : ztb mX6_sooner = (3, t_X6_sooner) := rfl
theorem zt_X1_fits_3 : ztb mX1_fits_3 = (4, t_X1_fits_3) := rfl
theorem zt_J2_contains : ztb mJ2_contains = (2, t_J2_contains) := rfl
theorem zt_X5_turnBehind : ztb mX5_turnBehind = (11, t_X5_turnBehind) := rfl
theorem zt_J11_min : ztb mJ11_min = (2, t_J11_min) := rfl
theorem zt_X6_change : ztb mX6_change = (6, t_X6_change) := rfl
theorem zt_J18_checkIndex : ztb mJ18_checkIndex = (2, t_J18_checkIndex) := rfl
theorem zt_J2_elementData : ztb mJ2_elementData = (2, t_J2_elementData) := rfl
theorem zt_X5_copy : ztb mX5_copy = (2, t_X5_copy) := rfl
theorem zt_J2_addAll : ztb mJ2_addAll = (6, t_J2_addAll) := rfl
theorem zt_X22_init : ztb mX22_init = (3, t_X22_init) := rfl
theorem zt_J6_add : ztb mJ6_add = (2, t_J6_add) := rfl
theorem zt_X3_like : ztb mX3_like = (2, t_X3_like) := rfl
theorem zt_J3_init : ztb mJ3_init = (1, t_J3_init) := rfl
theorem zt_J6_init_2 : ztb mJ6_init_2 = (3, t_J6_init_2) := rfl
theorem zt_X7_init : ztb mX7_init = (5, t_X7_init) := rfl
theorem zt_J4_put_2 : ztb mJ4_put_2 = (10, t_J4_put_2) := rfl
theorem zt_J0_init : ztb mJ0_init = (1, t_J0_init) := rfl
theorem zt_J22_init : ztb mJ22_init = (3, t_J22_init) := rfl
theorem zt_J24_init : ztb mJ24_init = (3, t_J24_init) := rfl
theorem zt_J27_init : ztb mJ27_init = (2, t_J27_init) := rfl
theorem zt_X8_init : ztb mX8_init = (3, t_X8_init) := rfl
theorem zt_X15_begin : ztb mX15_begin = (3, t_X15_begin) := rfl
theorem zt_J4_successor : ztb mJ4_successor = (3, t_J4_successor) := rfl
theorem zt_X9_number : ztb mX9_number = (4, t_X9_number) := rfl
theorem zt_X9_peek : ztb mX9_peek = (1, t_X9_peek) := rfl
theorem zt_X10_init : ztb mX10_init = (2, t_X10_init) := rfl
theorem zt_X13_init : ztb mX13_init = (1, t_X13_init) := rfl
theorem zt_J2_grow : ztb mJ2_grow = (1, t_J2_grow) := rfl
theorem zt_J2_fastRemove : ztb mJ2_fastRemove = (4, t_J2_fastRemove) := rfl
theorem zt_X6_isFigure : ztb mX6_isFigure = (1, t_X6_isFigure) := rfl
theorem zt_X3_remove : ztb mX3_remove = (2, t_X3_remove) := rfl
theorem zt_J4_init_2 : ztb mJ4_init_2 = (2, t_J4_init_2) := rfl
theorem zt_J32_init_2 : ztb mJ32_init_2 = (2, t_J32_init_2) := rfl
theorem zt_X15_init : ztb mX15_init = (2, t_X15_init) := rfl
theorem zt_J33_init : ztb mJ33_init = (2, t_J33_init) := rfl
theorem zt_J33_append : ztb mJ33_append = (4, t_J33_append) := rfl
theorem zt_J33_append_2 : ztb mJ33_append_2 = (3, t_J33_append_2) := rfl
theorem zt_J33_append_3 : ztb mJ33_append_3 = (2, t_J33_append_3) := rfl
theorem zt_J9_init : ztb mJ9_init = (2, t_J9_init) := rfl
theorem zt_J9_valueOf : ztb mJ9_valueOf = (1, t_J9_valueOf) := rfl
theorem zt_J9_checkIndex : ztb mJ9_checkIndex = (2, t_J9_checkIndex) := rfl
theorem zt_X5_isFree : ztb mX5_isFree = (5, t_X5_isFree) := rfl
theorem zt_X21_init : ztb mX21_init = (2, t_X21_init) := rfl
theorem zt_X5_add : ztb mX5_add = (3, t_X5_add) := rfl
theorem zt_J7_init : ztb mJ7_init = (1, t_J7_init) := rfl
theorem zt_J4_getEntryUsingComparator : ztb mJ4_getEntryUsingComparator = (6, t_J4_getEntryUsingComparator) := rfl
theorem zt_J18_requireNonNull : ztb mJ18_requireNonNull = (1, t_J18_requireNonNull) := rfl
theorem zt_X20_compareTo : ztb mX20_compareTo = (2, t_X20_compareTo) := rfl
theorem zt_X7_compareTo : ztb mX7_compareTo = (2, t_X7_compareTo) := rfl
theorem zt_J8_compareTo : ztb mJ8_compareTo = (2, t_J8_compareTo) := rfl
theorem zt_J9_compareTo : ztb mJ9_compareTo = (2, t_J9_compareTo) := rfl
theorem zt_J34_compareTo : ztb mJ34_compareTo = (2, t_J34_compareTo) := rfl
theorem zt_X5_lets : ztb mX5_lets = (3, t_X5_lets) := rfl
theorem zt_J4_fixAfterDeletion : ztb mJ4_fixAfterDeletion = (3, t_J4_fixAfterDeletion) := rfl
theorem zt_X1_charts : ztb mX1_charts = (6, t_X1_charts) := rfl
theorem zt_J6_size : ztb mJ6_size = (1, t_J6_size) := rfl
theorem zt_J35_size : ztb mJ35_size = (1, t_J35_size) := rfl
theorem zt_J27_size : ztb mJ27_size = (1, t_J27_size) := rfl
theorem zt_J19_size : ztb mJ19_size = (1, t_J19_size) := rfl
theorem zt_J6_siftDownComparable : ztb mJ6_siftDownComparable = (9, t_J6_siftDownComparable) := rfl
theorem zt_J6_siftDownUsingComparator : ztb mJ6_siftDownUsingComparator = (9, t_J6_siftDownUsingComparator) := rfl
theorem zt_J3_isEmpty : ztb mJ3_isEmpty = (1, t_J3_isEmpty) := rfl
theorem zt_J4_clear : ztb mJ4_clear = (1, t_J4_clear) := rfl
theorem zt_J4_putAll : ztb mJ4_putAll = (4, t_J4_putAll) := rfl
theorem zt_X4_compare_2 : ztb mX4_compare_2 = (7, t_X4_compare_2) := rfl
theorem zt_X23_init : ztb mX23_init = (4, t_X23_init) := rfl
theorem zt_X24_init : ztb mX24_init = (4, t_X24_init) := rfl
theorem zt_X3_put : ztb mX3_put = (3, t_X3_put) := rfl
theorem zt_X20_meets : ztb mX20_meets = (3, t_X20_meets) := rfl
theorem zt_X1_lambda_lets_3 : ztb mX1_lambda_lets_3 = (2, t_X1_lambda_lets_3) := rfl
theorem zt_X1_lambda_forgets_5 : ztb mX1_lambda_forgets_5 = (2, t_X1_lambda_forgets_5) := rfl
theorem zt_X1_lambda_mayKeep_6 : ztb mX1_lambda_mayKeep_6 = (1, t_X1_lambda_mayKeep_6) := rfl
theorem zt_X1_lambda_letsSpan_4 : ztb mX1_lambda_letsSpan_4 = (2, t_X1_lambda_letsSpan_4) := rfl
theorem zt_X1_lambda_pass_2 : ztb mX1_lambda_pass_2 = (1, t_X1_lambda_pass_2) := rfl
theorem zt_X1_lambda_fits_0 : ztb mX1_lambda_fits_0 = (2, t_X1_lambda_fits_0) := rfl
theorem zt_X1_lambda_firstTick_1 : ztb mX1_lambda_firstTick_1 = (2, t_X1_lambda_firstTick_1) := rfl
theorem zt_X0_lambda_holder_0 : ztb mX0_lambda_holder_0 = (1, t_X0_lambda_holder_0) := rfl
theorem zt_X0_lambda_promised_1 : ztb mX0_lambda_promised_1 = (1, t_X0_lambda_promised_1) := rfl
theorem zt_X0_lambda_shrunk_2 : ztb mX0_lambda_shrunk_2 = (2, t_X0_lambda_shrunk_2) := rfl
theorem zt_X27_lambda_freeFor_0 : ztb mX27_lambda_freeFor_0 = (4, t_X27_lambda_freeFor_0) := rfl
theorem zt_X0_lambda_areTogether_3 : ztb mX0_lambda_areTogether_3 = (3, t_X0_lambda_areTogether_3) := rfl
theorem zt_X0_lambda_areTogether_4 : ztb mX0_lambda_areTogether_4 = (3, t_X0_lambda_areTogether_4) := rfl
theorem zt_X26_matters : ztb mX26_matters = (2, t_X26_matters) := rfl
theorem zt_X11_copy : ztb mX11_copy = (2, t_X11_copy) := rfl
theorem zt_X1_takes_2 : ztb mX1_takes_2 = (6, t_X1_takes_2) := rfl
theorem zt_X27_puts : ztb mX27_puts = (7, t_X27_puts) := rfl
theorem zt_X29_init : ztb mX29_init = (1, t_X29_init) := rfl
theorem zt_J32_addAll : ztb mJ32_addAll = (4, t_J32_addAll) := rfl
theorem zt_X6_moved : ztb mX6_moved = (4, t_X6_moved) := rfl
theorem zt_X1_take : ztb mX1_take = (6, t_X1_take) := rfl
theorem zt_J2_indexOf : ztb mJ2_indexOf = (2, t_J2_indexOf) := rfl
theorem zt_J16_checkIndex : ztb mJ16_checkIndex = (3, t_J16_checkIndex) := rfl
theorem zt_J2_toArray : ztb mJ2_toArray = (1, t_J2_toArray) := rfl
theorem zt_J6_toArray : ztb mJ6_toArray = (1, t_J6_toArray) := rfl
theorem zt_J0_toArray : ztb mJ0_toArray = (4, t_J0_toArray) := rfl
theorem zt_J2_grow_2 : ztb mJ2_grow_2 = (4, t_J2_grow_2) := rfl
theorem zt_J6_offer : ztb mJ6_offer = (3, t_J6_offer) := rfl
theorem zt_J5_init : ztb mJ5_init = (1, t_J5_init) := rfl
theorem zt_J4_addEntryToEmptyMap : ztb mJ4_addEntryToEmptyMap = (3, t_J4_addEntryToEmptyMap) := rfl
theorem zt_X2_compare : ztb mX2_compare = (3, t_X2_compare) := rfl
theorem zt_X13_compare : ztb mX13_compare = (3, t_X13_compare) := rfl
theorem zt_X4_compare : ztb mX4_compare = (3, t_X4_compare) := rfl
theorem zt_X29_compare : ztb mX29_compare = (3, t_X29_compare) := rfl
theorem zt_J4_addEntry : ztb mJ4_addEntry = (6, t_J4_addEntry) := rfl
theorem zt_J26_init : ztb mJ26_init = (1, t_J26_init) := rfl
theorem zt_J30_init : ztb mJ30_init = (5, t_J30_init) := rfl
theorem zt_J8_stringSize : ztb mJ8_stringSize = (4, t_J8_stringSize) := rfl
theorem zt_J33_ensureCapacityInternal : ztb mJ33_ensureCapacityInternal = (3, t_J33_ensureCapacityInternal) := rfl
theorem zt_J33_isLatin1 : ztb mJ33_isLatin1 = (1, t_J33_isLatin1) := rfl
theorem zt_J8_getChars : ztb mJ8_getChars = (7, t_J8_getChars) := rfl
theorem zt_J33_appendNull : ztb mJ33_appendNull = (3, t_J33_appendNull) := rfl
theorem zt_J33_putStringAt : ztb mJ33_putStringAt = (3, t_J33_putStringAt) := rfl
theorem zt_J10_canEncode : ztb mJ10_canEncode = (1, t_J10_canEncode) := rfl
theorem zt_J33_inflate : ztb mJ33_inflate = (2, t_J33_inflate) := rfl
theorem zt_J9_init_2 : ztb mJ9_init_2 = (5, t_J9_init_2) := rfl
theorem zt_J29_toString : ztb mJ29_toString = (3, t_J29_toString) := rfl
theorem zt_J8_toString : ztb mJ8_toString = (1, t_J8_toString) := rfl
theorem zt_J9_toString : ztb mJ9_toString = (1, t_J9_toString) := rfl
theorem zt_X20_init : ztb mX20_init = (3, t_X20_init) := rfl
theorem zt_X20_compareTo_2 : ztb mX20_compareTo_2 = (2, t_X20_compareTo_2) := rfl
theorem zt_J2_add_3 : ztb mJ2_add_3 = (5, t_J2_add_3) := rfl
theorem zt_X7_compareTo_2 : ztb mX7_compareTo_2 = (3, t_X7_compareTo_2) := rfl
theorem zt_J8_compareTo_2 : ztb mJ8_compareTo_2 = (2, t_J8_compareTo_2) := rfl
theorem zt_J9_compareTo_2 : ztb mJ9_compareTo_2 = (5, t_J9_compareTo_2) := rfl
theorem zt_J34_compareTo_2 : ztb mJ34_compareTo_2 = (2, t_J34_compareTo_2) := rfl
theorem zt_J4_colorOf : ztb mJ4_colorOf = (1, t_J4_colorOf) := rfl
theorem zt_J4_parentOf : ztb mJ4_parentOf = (1, t_J4_parentOf) := rfl
theorem zt_J4_leftOf : ztb mJ4_leftOf = (1, t_J4_leftOf) := rfl
theorem zt_J4_rightOf : ztb mJ4_rightOf = (1, t_J4_rightOf) := rfl
theorem zt_J4_setColor : ztb mJ4_setColor = (2, t_J4_setColor) := rfl
theorem zt_J4_rotateLeft : ztb mJ4_rotateLeft = (3, t_J4_rotateLeft) := rfl
theorem zt_J4_rotateRight : ztb mJ4_rotateRight = (3, t_J4_rotateRight) := rfl
theorem zt_J4_comparator : ztb mJ4_comparator = (1, t_J4_comparator) := rfl
theorem zt_J18_equals : ztb mJ18_equals = (2, t_J18_equals) := rfl
theorem zt_J4_entrySet : ztb mJ4_entrySet = (2, t_J4_entrySet) := rfl
theorem zt_J4_buildFromSorted : ztb mJ4_buildFromSorted = (5, t_J4_buildFromSorted) := rfl
theorem zt_J3_putAll : ztb mJ3_putAll = (4, t_J3_putAll) := rfl
theorem zt_X21_hinders : ztb mX21_hinders = (2, t_X21_hinders) := rfl
theorem zt_X24_hinders : ztb mX24_hinders = (2, t_X24_hinders) := rfl
theorem zt_X23_hinders : ztb mX23_hinders = (2, t_X23_hinders) := rfl
theorem zt_X26_isOwn : ztb mX26_isOwn = (2, t_X26_isOwn) := rfl
theorem zt_X27_isMoved : ztb mX27_isMoved = (5, t_X27_isMoved) := rfl
theorem zt_X1_runFor : ztb mX1_runFor = (8, t_X1_runFor) := rfl
theorem zt_X27_freeFor : ztb mX27_freeFor = (7, t_X27_freeFor) := rfl
theorem zt_X28_fits : ztb mX28_fits = (5, t_X28_fits) := rfl
theorem zt_J27_comparator : ztb mJ27_comparator = (1, t_J27_comparator) := rfl
theorem zt_J32_comparator : ztb mJ32_comparator = (1, t_J32_comparator) := rfl
theorem zt_J4_addAllForTreeSet : ztb mJ4_addAllForTreeSet = (4, t_J4_addAllForTreeSet) := rfl
theorem zt_J0_addAll : ztb mJ0_addAll = (5, t_J0_addAll) := rfl
theorem zt_X6_foundBits : ztb mX6_foundBits = (3, t_X6_foundBits) := rfl
theorem zt_X6_elsewhere : ztb mX6_elsewhere = (6, t_X6_elsewhere) := rfl
theorem zt_J2_indexOfRange : ztb mJ2_indexOfRange = (6, t_J2_indexOfRange) := rfl
theorem zt_J31_copyOf : ztb mJ31_copyOf = (2, t_J31_copyOf) := rfl
theorem zt_J0_finishToArray : ztb mJ0_finishToArray = (4, t_J0_finishToArray) := rfl
theorem zt_J12_newLength : ztb mJ12_newLength = (4, t_J12_newLength) := rfl
theorem zt_J6_grow : ztb mJ6_grow = (4, t_J6_grow) := rfl
theorem zt_J6_siftUp : ztb mJ6_siftUp = (3, t_J6_siftUp) := rfl
theorem zt_J4_compare : ztb mJ4_compare = (3, t_J4_compare) := rfl
theorem zt_J17_init : ztb mJ17_init = (4, t_J17_init) := rfl
theorem zt_X2_compare_2 : ztb mX2_compare_2 = (3, t_X2_compare_2) := rfl
theorem zt_X13_compare_2 : ztb mX13_compare_2 = (3, t_X13_compare_2) := rfl
theorem zt_X29_compare_2 : ztb mX29_compare_2 = (3, t_X29_compare_2) := rfl
theorem zt_J4_fixAfterInsertion : ztb mJ4_fixAfterInsertion = (3, t_J4_fixAfterInsertion) := rfl
theorem zt_J29_init_2 : ztb mJ29_init_2 = (5, t_J29_init_2) := rfl
theorem zt_J33_newCapacity : ztb mJ33_newCapacity = (6, t_J33_newCapacity) := rfl
theorem zt_J31_copyOf_3 : ztb mJ31_copyOf_3 = (3, t_J31_copyOf_3) := rfl
theorem zt_J33_inflateIfNeededFor : ztb mJ33_inflateIfNeededFor = (2, t_J33_inflateIfNeededFor) := rfl
theorem zt_J9_getBytes : ztb mJ9_getBytes = (4, t_J9_getBytes) := rfl
theorem zt_J10_inflate : ztb mJ10_inflate = (5, t_J10_inflate) := rfl
theorem zt_J33_getValue : ztb mJ33_getValue = (1, t_J33_getValue) := rfl
theorem zt_J34_length : ztb mJ34_length = (1, t_J34_length) := rfl
theorem zt_J31_copyOfRange : ztb mJ31_copyOfRange = (3, t_J31_copyOfRange) := rfl
theorem zt_J29_getLocalizedMessage : ztb mJ29_getLocalizedMessage = (1, t_J29_getLocalizedMessage) := rfl
theorem zt_J8_toString_2 : ztb mJ8_toString_2 = (3, t_J8_toString_2) := rfl
theorem zt_X21_kind : ztb mX21_kind = (1, t_X21_kind) := rfl
theorem zt_X24_kind : ztb mX24_kind = (1, t_X24_kind) := rfl
theorem zt_X23_kind : ztb mX23_kind = (1, t_X23_kind) := rfl
theorem zt_J2_rangeCheckForAdd : ztb mJ2_rangeCheckForAdd = (2, t_J2_rangeCheckForAdd) := rfl
theorem zt_X7_comparedTo : ztb mX7_comparedTo = (6, t_X7_comparedTo) := rfl
theorem zt_J8_compare : ztb mJ8_compare = (2, t_J8_compare) := rfl
theorem zt_J33_compareTo : ztb mJ33_compareTo = (6, t_J33_compareTo) := rfl
theorem zt_J36_equals : ztb mJ36_equals = (2, t_J36_equals) := rfl
theorem zt_J8_equals : ztb mJ8_equals = (2, t_J8_equals) := rfl
theorem zt_J9_equals : ztb mJ9_equals = (3, t_J9_equals) := rfl
theorem zt_J35_init : ztb mJ35_init = (2, t_J35_init) := rfl
theorem zt_J4_computeRedLevel : ztb mJ4_computeRedLevel = (1, t_J4_computeRedLevel) := rfl
theorem zt_J4_buildFromSorted_2 : ztb mJ4_buildFromSorted_2 = (14, t_J4_buildFromSorted_2) := rfl
theorem zt_J17_getKey : ztb mJ17_getKey = (1, t_J17_getKey) := rfl
theorem zt_J17_getValue : ztb mJ17_getValue = (1, t_J17_getValue) := rfl
theorem zt_J31_copyOf_2 : ztb mJ31_copyOf_2 = (4, t_J31_copyOf_2) := rfl
theorem zt_J12_hugeLength : ztb mJ12_hugeLength = (3, t_J12_hugeLength) := rfl
theorem zt_J6_siftUpUsingComparator : ztb mJ6_siftUpUsingComparator = (6, t_J6_siftUpUsingComparator) := rfl
theorem zt_J6_siftUpComparable : ztb mJ6_siftUpComparable = (6, t_J6_siftUpComparable) := rfl
theorem zt_J33_length : ztb mJ33_length = (1, t_J33_length) := rfl
theorem zt_J31_copyOfRangeByte : ztb mJ31_copyOfRangeByte = (5, t_J31_copyOfRangeByte) := rfl
theorem zt_J29_getMessage : ztb mJ29_getMessage = (1, t_J29_getMessage) := rfl
theorem zt_J9_init_3 : ztb mJ9_init_3 = (3, t_J9_init_3) := rfl
theorem zt_J10_equals : ztb mJ10_equals = (3, t_J10_equals) := rfl
theorem zt_J8_numberOfLeadingZeros : ztb mJ8_numberOfLeadingZeros = (2, t_J8_numberOfLeadingZeros) := rfl
theorem zt_J31_checkLength : ztb mJ31_checkLength = (2, t_J31_checkLength) := rfl

abbrev b_X_init : ByteArray := prog_1_method_5_code
abbrev y_X_init : MethodName := ⟨"PpmTrees", "<init>", "(II)V"⟩
abbrev b_O_init : ByteArray := object_method_1_code
abbrev y_O_init : MethodName := ⟨"java/lang/Object", "<init>", "()V"⟩
abbrev b_AL_init : ByteArray := prog_25_method_2_code
abbrev y_AL_init : MethodName := ⟨"java/util/ArrayList", "<init>", "()V"⟩
abbrev b_AbL_init : ByteArray := prog_24_method_1_code
abbrev y_AbL_init : MethodName := ⟨"java/util/AbstractList", "<init>", "()V"⟩
abbrev b_AbC_init : ByteArray := prog_23_method_1_code
abbrev y_AbC_init : MethodName := ⟨"java/util/AbstractCollection", "<init>", "()V"⟩
abbrev b_Wr_init : ByteArray := prog_9_method_1_code
abbrev y_Wr_init : MethodName := ⟨"PpmTrees$Writer", "<init>", "(I)V"⟩
abbrev b_Ra_init : ByteArray := prog_5_method_1_code
abbrev y_Ra_init : MethodName := ⟨"PpmTrees$Range", "<init>", "()V"⟩
abbrev b_Re_init : ByteArray := prog_6_method_1_code
abbrev y_Re_init : MethodName := ⟨"PpmTrees$Reader", "<init>", "(LPpmTrees;)V"⟩
abbrev b_P1_init : ByteArray := prog_2_method_1_code
abbrev y_P1_init : MethodName := ⟨"PpmTrees$1", "<init>", "(LPpmTrees;)V"⟩
abbrev b_P2_init : ByteArray := prog_3_method_1_code
abbrev y_P2_init : MethodName := ⟨"PpmTrees$2", "<init>", "(LPpmTrees;)V"⟩
abbrev b_Su_init : ByteArray := prog_7_method_1_code
abbrev y_Su_init : MethodName := ⟨"PpmTrees$Sum", "<init>", "()V"⟩
abbrev b_X_nearest : ByteArray := prog_1_method_2_code
abbrev y_X_nearest : MethodName := ⟨"PpmTrees", "nearest", "(III)I"⟩
abbrev b_Ma_min : ByteArray := prog_18_method_69_code
abbrev y_Ma_min : MethodName := ⟨"java/lang/Math", "min", "(II)I"⟩
abbrev b_Ma_max : ByteArray := prog_18_method_65_code
abbrev y_Ma_max : MethodName := ⟨"java/lang/Math", "max", "(II)I"⟩
abbrev b_Mo_init : ByteArray := prog_4_method_1_code
abbrev y_Mo_init : MethodName := ⟨"PpmTrees$Model", "<init>", "(II)V"⟩
abbrev b_Mo_begin : ByteArray := prog_4_method_2_code
abbrev y_Mo_begin : MethodName := ⟨"PpmTrees$Model", "begin", "()V"⟩
abbrev b_X_clear : ByteArray := prog_1_method_6_code
abbrev y_X_clear : MethodName := ⟨"PpmTrees", "clear", "()I"⟩
abbrev b_X_add : ByteArray := prog_1_method_7_code
abbrev y_X_add : MethodName := ⟨"PpmTrees", "add", "(I)I"⟩
abbrev b_X_isIn : ByteArray := prog_1_method_1_code
abbrev y_X_isIn : MethodName := ⟨"PpmTrees", "isIn", "(III)Z"⟩
abbrev b_X_fill : ByteArray := prog_1_method_8_code
abbrev y_X_fill : MethodName := ⟨"PpmTrees", "fill", "(III)I"⟩
abbrev b_X_drawn : ByteArray := prog_1_method_9_code
abbrev y_X_drawn : MethodName := ⟨"PpmTrees", "drawn", "(IIII)I"⟩
abbrev b_X_size : ByteArray := prog_1_method_11_code
abbrev y_X_size : MethodName := ⟨"PpmTrees", "size", "(I)I"⟩
abbrev b_X_octet : ByteArray := prog_1_method_12_code
abbrev y_X_octet : MethodName := ⟨"PpmTrees", "octet", "(II)I"⟩
abbrev b_X_row : ByteArray := prog_1_method_10_code
abbrev y_X_row : MethodName := ⟨"PpmTrees", "row", "(I)[I"⟩
abbrev b_X_alter : ByteArray := prog_1_method_13_code
abbrev y_X_alter : MethodName := ⟨"PpmTrees", "alter", "(II)I"⟩
abbrev b_X_cut : ByteArray := prog_1_method_14_code
abbrev y_X_cut : MethodName := ⟨"PpmTrees", "cut", "(I)I"⟩
abbrev b_X_pack : ByteArray := prog_1_method_15_code
abbrev y_X_pack : MethodName := ⟨"PpmTrees", "pack", "()I"⟩
abbrev b_Wr_begin : ByteArray := prog_9_method_2_code
abbrev y_Wr_begin : MethodName := ⟨"PpmTrees$Writer", "begin", "()V"⟩
abbrev b_Ra_begin : ByteArray := prog_5_method_2_code
abbrev y_Ra_begin : MethodName := ⟨"PpmTrees$Range", "begin", "()V"⟩
abbrev b_X_tell : ByteArray := prog_1_method_3_code
abbrev y_X_tell : MethodName := ⟨"PpmTrees", "tell", "(LPpmTrees$Model;ILPpmTrees$Taker;)I"⟩
abbrev b_Ar_fill : ByteArray := prog_26_method_111_code
abbrev y_Ar_fill : MethodName := ⟨"java/util/Arrays", "fill", "([ZZ)V"⟩
abbrev b_Mo_context : ByteArray := prog_4_method_7_code
abbrev y_Mo_context : MethodName := ⟨"PpmTrees$Model", "context", "(I)I"⟩
abbrev b_Mo_childOf : ByteArray := prog_4_method_6_code
abbrev y_Mo_childOf : MethodName := ⟨"PpmTrees$Model", "childOf", "(II)I"⟩
abbrev b_P1_pointed : ByteArray := prog_2_method_2_code
abbrev y_P1_pointed : MethodName := ⟨"PpmTrees$1", "pointed", "(I)I"⟩
abbrev b_P2_pointed : ByteArray := prog_3_method_2_code
abbrev y_P2_pointed : MethodName := ⟨"PpmTrees$2", "pointed", "(I)I"⟩
abbrev b_Re_pointed : ByteArray := prog_6_method_5_code
abbrev y_Re_pointed : MethodName := ⟨"PpmTrees$Reader", "pointed", "(I)I"⟩
abbrev b_Su_pointed : ByteArray := prog_7_method_2_code
abbrev y_Su_pointed : MethodName := ⟨"PpmTrees$Sum", "pointed", "(I)I"⟩
abbrev b_P1_take : ByteArray := prog_2_method_3_code
abbrev y_P1_take : MethodName := ⟨"PpmTrees$1", "take", "(III)V"⟩
abbrev b_Ra_span : ByteArray := prog_5_method_3_code
abbrev y_Ra_span : MethodName := ⟨"PpmTrees$Range", "span", "(III)V"⟩
abbrev b_Ra_widen : ByteArray := prog_5_method_4_code
abbrev y_Ra_widen : MethodName := ⟨"PpmTrees$Range", "widen", "(I)V"⟩
abbrev b_Re_moved : ByteArray := prog_6_method_4_code
abbrev y_Re_moved : MethodName := ⟨"PpmTrees$Reader", "moved", "(I)V"⟩
abbrev b_Re_next : ByteArray := prog_6_method_3_code
abbrev y_Re_next : MethodName := ⟨"PpmTrees$Reader", "next", "()I"⟩
abbrev b_Wr_moved : ByteArray := prog_9_method_3_code
abbrev y_Wr_moved : MethodName := ⟨"PpmTrees$Writer", "moved", "(I)V"⟩
abbrev b_Wr_put : ByteArray := prog_9_method_4_code
abbrev y_Wr_put : MethodName := ⟨"PpmTrees$Writer", "put", "(I)V"⟩
abbrev b_Wr_one : ByteArray := prog_9_method_5_code
abbrev y_Wr_one : MethodName := ⟨"PpmTrees$Writer", "one", "(I)V"⟩
abbrev b_P2_take : ByteArray := prog_3_method_3_code
abbrev y_P2_take : MethodName := ⟨"PpmTrees$2", "take", "(III)V"⟩
abbrev b_Su_take : ByteArray := prog_7_method_3_code
abbrev y_Su_take : MethodName := ⟨"PpmTrees$Sum", "take", "(III)V"⟩
abbrev b_X_flat : ByteArray := prog_1_method_4_code
abbrev y_X_flat : MethodName := ⟨"PpmTrees", "flat", "(ILPpmTrees$Taker;)I"⟩
abbrev b_Mo_learns : ByteArray := prog_4_method_10_code
abbrev y_Mo_learns : MethodName := ⟨"PpmTrees$Model", "learns", "(II)Z"⟩
abbrev b_Mo_bear : ByteArray := prog_4_method_8_code
abbrev y_Mo_bear : MethodName := ⟨"PpmTrees$Model", "bear", "(II)V"⟩
abbrev b_Mo_halve : ByteArray := prog_4_method_9_code
abbrev y_Mo_halve : MethodName := ⟨"PpmTrees$Model", "halve", "(I)V"⟩
abbrev b_Mo_remember : ByteArray := prog_4_method_11_code
abbrev y_Mo_remember : MethodName := ⟨"PpmTrees$Model", "remember", "(I)V"⟩
abbrev b_Wr_end : ByteArray := prog_9_method_6_code
abbrev y_Wr_end : MethodName := ⟨"PpmTrees$Writer", "end", "()I"⟩
abbrev b_X_open : ByteArray := prog_1_method_16_code
abbrev y_X_open : MethodName := ⟨"PpmTrees", "open", "()I"⟩
abbrev b_Mo_take : ByteArray := prog_4_method_3_code
abbrev y_Mo_take : MethodName := ⟨"PpmTrees$Model", "take", "(LPpmTrees$Model;)V"⟩
abbrev b_Re_begin : ByteArray := prog_6_method_2_code
abbrev y_Re_begin : MethodName := ⟨"PpmTrees$Reader", "begin", "()V"⟩
abbrev b_Re_isBeyond : ByteArray := prog_6_method_6_code
abbrev y_Re_isBeyond : MethodName := ⟨"PpmTrees$Reader", "isBeyond", "()Z"⟩
abbrev b_X_isAsWritten : ByteArray := prog_1_method_17_code
abbrev y_X_isAsWritten : MethodName := ⟨"PpmTrees", "isAsWritten", "()Z"⟩
abbrev b_X_place : ByteArray := prog_1_method_18_code
abbrev y_X_place : MethodName := ⟨"PpmTrees", "place", "()I"⟩
abbrev b_X_told : ByteArray := prog_1_method_19_code
abbrev y_X_told : MethodName := ⟨"PpmTrees", "told", "(I)I"⟩
abbrev b_X_sign : ByteArray := prog_1_method_20_code
abbrev y_X_sign : MethodName := ⟨"PpmTrees", "sign", "(II)I"⟩
abbrev b_X_nodes : ByteArray := prog_1_method_22_code
abbrev y_X_nodes : MethodName := ⟨"PpmTrees", "nodes", "(I)I"⟩
abbrev b_X_isEnd : ByteArray := prog_1_method_21_code
abbrev y_X_isEnd : MethodName := ⟨"PpmTrees", "isEnd", "(I)Z"⟩
abbrev b_X_latest : ByteArray := prog_1_method_24_code
abbrev y_X_latest : MethodName := ⟨"PpmTrees", "latest", "(II)I"⟩
abbrev b_X_restarted : ByteArray := prog_1_method_25_code
abbrev y_X_restarted : MethodName := ⟨"PpmTrees", "restarted", "(I)I"⟩
abbrev b_X_reset : ByteArray := prog_1_method_26_code
abbrev y_X_reset : MethodName := ⟨"PpmTrees", "reset", "(I)I"⟩
abbrev b_X_equal : ByteArray := prog_1_method_27_code
abbrev y_X_equal : MethodName := ⟨"PpmTrees", "equal", "()I"⟩
abbrev b_Mo_isLike : ByteArray := prog_4_method_5_code
abbrev y_Mo_isLike : MethodName := ⟨"PpmTrees$Model", "isLike", "(LPpmTrees$Model;)Z"⟩
abbrev b_Mo_areLike : ByteArray := prog_4_method_4_code
abbrev y_Mo_areLike : MethodName := ⟨"PpmTrees$Model", "areLike", "([I[II)Z"⟩
abbrev b_X_save : ByteArray := prog_1_method_28_code
abbrev y_X_save : MethodName := ⟨"PpmTrees", "save", "(I)I"⟩
abbrev b_AL_size : ByteArray := prog_25_method_8_code
abbrev y_AL_size : MethodName := ⟨"java/util/ArrayList", "size", "()I"⟩
abbrev b_AL_add : ByteArray := prog_25_method_25_code
abbrev y_AL_add : MethodName := ⟨"java/util/ArrayList", "add", "(Ljava/lang/Object;)Z"⟩
abbrev b_AL_add2 : ByteArray := prog_25_method_24_code
abbrev y_AL_add2 : MethodName := ⟨"java/util/ArrayList", "add", "(Ljava/lang/Object;[Ljava/lang/Object;I)V"⟩
abbrev b_AL_grow : ByteArray := prog_25_method_7_code
abbrev y_AL_grow : MethodName := ⟨"java/util/ArrayList", "grow", "()[Ljava/lang/Object;"⟩
abbrev b_AL_grow2 : ByteArray := prog_25_method_6_code
abbrev y_AL_grow2 : MethodName := ⟨"java/util/ArrayList", "grow", "(I)[Ljava/lang/Object;"⟩
abbrev b_AS_newLength : ByteArray := prog_32_method_27_code
abbrev y_AS_newLength : MethodName := ⟨"jdk/internal/util/ArraysSupport", "newLength", "(III)I"⟩
abbrev b_AS_hugeLength : ByteArray := prog_32_method_28_code
abbrev y_AS_hugeLength : MethodName := ⟨"jdk/internal/util/ArraysSupport", "hugeLength", "(II)I"⟩
abbrev b_Ar_copyOf : ByteArray := prog_26_method_119_code
abbrev y_Ar_copyOf : MethodName := ⟨"java/util/Arrays", "copyOf", "([Ljava/lang/Object;I)[Ljava/lang/Object;"⟩
abbrev b_Ar_copyOf2 : ByteArray := prog_26_method_120_code
abbrev y_Ar_copyOf2 : MethodName := ⟨"java/util/Arrays", "copyOf", "([Ljava/lang/Object;ILjava/lang/Class;)[Ljava/lang/Object;"⟩
abbrev b_X_restore : ByteArray := prog_1_method_29_code
abbrev y_X_restore : MethodName := ⟨"PpmTrees", "restore", "(II)I"⟩
abbrev b_AL_get : ByteArray := prog_25_method_20_code
abbrev y_AL_get : MethodName := ⟨"java/util/ArrayList", "get", "(I)Ljava/lang/Object;"⟩
abbrev b_Ob_checkIndex : ByteArray := prog_29_method_17_code
abbrev y_Ob_checkIndex : MethodName := ⟨"java/util/Objects", "checkIndex", "(II)I"⟩
abbrev b_Pr_checkIndex : ByteArray := prog_33_method_11_code
abbrev y_Pr_checkIndex : MethodName := ⟨"jdk/internal/util/Preconditions", "checkIndex", "(IILjava/util/function/BiFunction;)I"⟩
abbrev b_AL_elementData : ByteArray := prog_25_method_18_code
abbrev y_AL_elementData : MethodName := ⟨"java/util/ArrayList", "elementData", "(I)Ljava/lang/Object;"⟩
abbrev b_X_forget : ByteArray := prog_1_method_30_code
abbrev y_X_forget : MethodName := ⟨"PpmTrees", "forget", "()I"⟩
abbrev b_AL_clear : ByteArray := prog_25_method_40_code
abbrev y_AL_clear : MethodName := ⟨"java/util/ArrayList", "clear", "()V"⟩
abbrev b_X_cost : ByteArray := prog_1_method_31_code
abbrev y_X_cost : MethodName := ⟨"PpmTrees", "cost", "(II)I"⟩
abbrev b_L_cell : ByteArray := method_2_code
abbrev y_L_cell : MethodName := ⟨"PpmTreesLaw", "cell", "([II)I"⟩
abbrev b_L_node : ByteArray := method_3_code
abbrev y_L_node : MethodName := ⟨"PpmTreesLaw", "node", "(LPpmTrees;III[J)I"⟩
abbrev b_Ai_init : ByteArray := prog_13_method_2_code
abbrev y_Ai_init : MethodName := ⟨"java/lang/ArrayIndexOutOfBoundsException", "<init>", "(Ljava/lang/String;)V"⟩
abbrev b_Io_init : ByteArray := prog_16_method_2_code
abbrev y_Io_init : MethodName := ⟨"java/lang/IndexOutOfBoundsException", "<init>", "(Ljava/lang/String;)V"⟩
abbrev b_Rt_init : ByteArray := prog_19_method_2_code
abbrev y_Rt_init : MethodName := ⟨"java/lang/RuntimeException", "<init>", "(Ljava/lang/String;)V"⟩
abbrev b_Ex_init : ByteArray := prog_15_method_2_code
abbrev y_Ex_init : MethodName := ⟨"java/lang/Exception", "<init>", "(Ljava/lang/String;)V"⟩
abbrev b_Th_init : ByteArray := prog_22_method_2_code
abbrev y_Th_init : MethodName := ⟨"java/lang/Throwable", "<init>", "(Ljava/lang/String;)V"⟩
abbrev b_Th_fillInStackTrace : ByteArray := prog_22_method_18_code
abbrev y_Th_fillInStackTrace : MethodName := ⟨"java/lang/Throwable", "fillInStackTrace", "()Ljava/lang/Throwable;"⟩
abbrev b_Th_init2 : ByteArray := prog_22_method_1_code
abbrev y_Th_init2 : MethodName := ⟨"java/lang/Throwable", "<init>", "()V"⟩
abbrev b_X_node : ByteArray := prog_1_method_23_code
abbrev y_X_node : MethodName := ⟨"PpmTrees", "node", "(III)I"⟩
abbrev b_Ai_init2 : ByteArray := prog_13_method_1_code
abbrev y_Ai_init2 : MethodName := ⟨"java/lang/ArrayIndexOutOfBoundsException", "<init>", "()V"⟩
abbrev b_Io_init2 : ByteArray := prog_16_method_1_code
abbrev y_Io_init2 : MethodName := ⟨"java/lang/IndexOutOfBoundsException", "<init>", "()V"⟩
abbrev b_Rt_init2 : ByteArray := prog_19_method_1_code
abbrev y_Rt_init2 : MethodName := ⟨"java/lang/RuntimeException", "<init>", "()V"⟩
abbrev b_Ex_init2 : ByteArray := prog_15_method_1_code
abbrev y_Ex_init2 : MethodName := ⟨"java/lang/Exception", "<init>", "()V"⟩
abbrev b_T_init : ByteArray := prog_11_method_1_code
abbrev y_T_init : MethodName := ⟨"PpmTreesModel", "<init>", "(II)V"⟩
abbrev b_T_begin : ByteArray := prog_11_method_11_code
abbrev y_T_begin : MethodName := ⟨"PpmTreesModel", "begin", "(I)V"⟩
abbrev b_T_thrown : ByteArray := prog_11_method_2_code
abbrev y_T_thrown : MethodName := ⟨"PpmTreesModel", "thrown", "()I"⟩
abbrev b_T_clear : ByteArray := prog_11_method_4_code
abbrev y_T_clear : MethodName := ⟨"PpmTreesModel", "clear", "()I"⟩
abbrev b_T_add : ByteArray := prog_11_method_5_code
abbrev y_T_add : MethodName := ⟨"PpmTreesModel", "add", "(I)I"⟩
abbrev b_T_in : ByteArray := prog_11_method_3_code
abbrev y_T_in : MethodName := ⟨"PpmTreesModel", "in", "(III)Z"⟩
abbrev b_T_fill : ByteArray := prog_11_method_6_code
abbrev y_T_fill : MethodName := ⟨"PpmTreesModel", "fill", "(III)I"⟩
abbrev b_T_size : ByteArray := prog_11_method_7_code
abbrev y_T_size : MethodName := ⟨"PpmTreesModel", "size", "(I)I"⟩
abbrev b_T_octet : ByteArray := prog_11_method_8_code
abbrev y_T_octet : MethodName := ⟨"PpmTreesModel", "octet", "(II)I"⟩
abbrev b_T_alter : ByteArray := prog_11_method_9_code
abbrev y_T_alter : MethodName := ⟨"PpmTreesModel", "alter", "(II)I"⟩
abbrev b_T_cut : ByteArray := prog_11_method_10_code
abbrev y_T_cut : MethodName := ⟨"PpmTreesModel", "cut", "(I)I"⟩
abbrev b_T_pack : ByteArray := prog_11_method_28_code
abbrev y_T_pack : MethodName := ⟨"PpmTreesModel", "pack", "()I"⟩
abbrev b_T_writeAll : ByteArray := prog_11_method_27_code
abbrev y_T_writeAll : MethodName := ⟨"PpmTreesModel", "writeAll", "(I[II)V"⟩
abbrev b_T_beginSign : ByteArray := prog_11_method_15_code
abbrev y_T_beginSign : MethodName := ⟨"PpmTreesModel", "beginSign", "()V"⟩
abbrev b_T_look : ByteArray := prog_11_method_16_code
abbrev y_T_look : MethodName := ⟨"PpmTreesModel", "look", "(II)V"⟩
abbrev b_T_context : ByteArray := prog_11_method_14_code
abbrev y_T_context : MethodName := ⟨"PpmTreesModel", "context", "(II)I"⟩
abbrev b_T_child : ByteArray := prog_11_method_13_code
abbrev y_T_child : MethodName := ⟨"PpmTreesModel", "child", "(III)I"⟩
abbrev b_T_isFound : ByteArray := prog_11_method_19_code
abbrev y_T_isFound : MethodName := ⟨"PpmTreesModel", "isFound", "(I)Z"⟩
abbrev b_T_below : ByteArray := prog_11_method_18_code
abbrev y_T_below : MethodName := ⟨"PpmTreesModel", "below", "(I)I"⟩
abbrev b_T_exclude : ByteArray := prog_11_method_17_code
abbrev y_T_exclude : MethodName := ⟨"PpmTreesModel", "exclude", "()V"⟩
abbrev b_T_write : ByteArray := prog_11_method_26_code
abbrev y_T_write : MethodName := ⟨"PpmTreesModel", "write", "()V"⟩
abbrev b_T_narrow : ByteArray := prog_11_method_25_code
abbrev y_T_narrow : MethodName := ⟨"PpmTreesModel", "narrow", "()V"⟩
abbrev b_T_put : ByteArray := prog_11_method_24_code
abbrev y_T_put : MethodName := ⟨"PpmTreesModel", "put", "(I)V"⟩
abbrev b_T_bit : ByteArray := prog_11_method_23_code
abbrev y_T_bit : MethodName := ⟨"PpmTreesModel", "bit", "(I)V"⟩
abbrev b_T_flat : ByteArray := prog_11_method_20_code
abbrev y_T_flat : MethodName := ⟨"PpmTreesModel", "flat", "(I)V"⟩
abbrev b_T_learn : ByteArray := prog_11_method_21_code
abbrev y_T_learn : MethodName := ⟨"PpmTreesModel", "learn", "(III)V"⟩
abbrev b_T_halve : ByteArray := prog_11_method_22_code
abbrev y_T_halve : MethodName := ⟨"PpmTreesModel", "halve", "(II)V"⟩
abbrev b_T_told : ByteArray := prog_11_method_29_code
abbrev y_T_told : MethodName := ⟨"PpmTreesModel", "told", "(I)I"⟩
abbrev b_T_sign : ByteArray := prog_11_method_30_code
abbrev y_T_sign : MethodName := ⟨"PpmTreesModel", "sign", "(II)I"⟩
abbrev b_T_open : ByteArray := prog_11_method_35_code
abbrev y_T_open : MethodName := ⟨"PpmTreesModel", "open", "()I"⟩
abbrev b_T_copy : ByteArray := prog_11_method_12_code
abbrev y_T_copy : MethodName := ⟨"PpmTreesModel", "copy", "(II)V"⟩
abbrev b_T_next : ByteArray := prog_11_method_31_code
abbrev y_T_next : MethodName := ⟨"PpmTreesModel", "next", "()I"⟩
abbrev b_T_readSign : ByteArray := prog_11_method_34_code
abbrev y_T_readSign : MethodName := ⟨"PpmTreesModel", "readSign", "(I)I"⟩
abbrev b_T_asked : ByteArray := prog_11_method_32_code
abbrev y_T_asked : MethodName := ⟨"PpmTreesModel", "asked", "(I)I"⟩
abbrev b_T_read : ByteArray := prog_11_method_33_code
abbrev y_T_read : MethodName := ⟨"PpmTreesModel", "read", "()V"⟩
abbrev b_T_place : ByteArray := prog_11_method_36_code
abbrev y_T_place : MethodName := ⟨"PpmTreesModel", "place", "()I"⟩
abbrev b_T_nodes : ByteArray := prog_11_method_37_code
abbrev y_T_nodes : MethodName := ⟨"PpmTreesModel", "nodes", "(I)I"⟩
abbrev b_T_node : ByteArray := prog_11_method_38_code
abbrev y_T_node : MethodName := ⟨"PpmTreesModel", "node", "(III)I"⟩
abbrev b_T_latest : ByteArray := prog_11_method_39_code
abbrev y_T_latest : MethodName := ⟨"PpmTreesModel", "latest", "(II)I"⟩
abbrev b_T_restarted : ByteArray := prog_11_method_40_code
abbrev y_T_restarted : MethodName := ⟨"PpmTreesModel", "restarted", "(I)I"⟩
abbrev b_T_reset : ByteArray := prog_11_method_41_code
abbrev y_T_reset : MethodName := ⟨"PpmTreesModel", "reset", "(I)I"⟩
abbrev b_T_equal : ByteArray := prog_11_method_42_code
abbrev y_T_equal : MethodName := ⟨"PpmTreesModel", "equal", "()I"⟩
abbrev b_T_save : ByteArray := prog_11_method_43_code
abbrev y_T_save : MethodName := ⟨"PpmTreesModel", "save", "(I)I"⟩
abbrev b_T_restore : ByteArray := prog_11_method_44_code
abbrev y_T_restore : MethodName := ⟨"PpmTreesModel", "restore", "(II)I"⟩
abbrev b_T_forget : ByteArray := prog_11_method_45_code
abbrev y_T_forget : MethodName := ⟨"PpmTreesModel", "forget", "()I"⟩
abbrev b_T_cost : ByteArray := prog_11_method_47_code
abbrev y_T_cost : MethodName := ⟨"PpmTreesModel", "cost", "(II)I"⟩
abbrev b_T_bitsOf : ByteArray := prog_11_method_46_code
abbrev y_T_bitsOf : MethodName := ⟨"PpmTreesModel", "bitsOf", "()I"⟩
set_option maxRecDepth 20000 in
theorem w_0 : (Cond.initialized "PpmTreesLaw") ∈ Tg := mTg (mT1 0 rfl) rfl
set_option maxRecDepth 20000 in
theorem w_1 : (Cond.initialized "PpmTrees") ∈ Tg := mTg (mT1 1 rfl) rfl
set_option maxRecDepth 20000 in
theorem w_2 : (Cond.initialized "java/util/AbstractCollection") ∈ Tg := mTg (mT1 2 rfl) rfl
set_option maxRecDepth 20000 in
theorem w_3 : (Cond.initialized "java/util/AbstractList") ∈ Tg := mTg (mT1 3 rfl) rfl
set_option maxRecDepth 20000 in
theorem w_4 : (Cond.initialized "java/util/ArrayList") ∈ Tg := mTg (mT1 4 rfl) rfl
set_option maxRecDepth 20000 in
theorem w_5 : (Cond.initialized "PpmTrees$Range") ∈ Tg := mTg (mT1 5 rfl) rfl
set_option maxRecDepth 20000 in
theorem w_6 : (Cond.initialized "PpmTrees$Writer") ∈ Tg := mTg (mT1 6 rfl) rfl
set_option maxRecDepth 20000 in
theorem w_7 : (Cond.initialized "PpmTrees$Reader") ∈ Tg := mTg (mT1 7 rfl) rfl
set_option maxRecDepth 20000 in
theorem w_8 : (Cond.initialized "PpmTrees$1") ∈ Tg := mTg (mT1 8 rfl) rfl
set_option maxRecDepth 20000 in
theorem w_9 : (Cond.initialized "PpmTrees$2") ∈ Tg := mTg (mT1 9 rfl) rfl
set_option maxRecDepth 20000 in
theorem w_10 : (Cond.initialized "PpmTrees$Sum") ∈ Tg := mTg (mT1 10 rfl) rfl
set_option maxRecDepth 20000 in
theorem w_11 : (Cond.initialized "java/lang/Math") ∈ Tg := mTg (mT1 11 rfl) rfl
set_option maxRecDepth 20000 in
theorem w_12 : (Cond.initialized "PpmTrees$Model") ∈ Tg := mTg (mT1 12 rfl) rfl
set_option maxRecDepth 20000 in
theorem w_13 : (Cond.initialized "PpmTreesModel") ∈ Tg := mTg (mT1 13 rfl) rfl
set_option maxRecDepth 20000 in
theorem w_14 : (Cond.initialized "java/util/Arrays") ∈ Tg := mTg (mT1 14 rfl) rfl
set_option maxRecDepth 20000 in
theorem w_15 : (Cond.initialized "java/lang/System") ∈ Tg := mTg (mT1 15 rfl) rfl
set_option maxRecDepth 20000 in
theorem w_16 : (Cond.initialized "java/lang/Throwable") ∈ Tg := mTg (mT1 16 rfl) rfl
set_option maxRecDepth 20000 in
theorem w_17 : (Cond.initialized "java/lang/Exception") ∈ Tg := mTg (mT1 17 rfl) rfl
set_option maxRecDepth 20000 in
theorem w_18 : (Cond.initialized "java/lang/RuntimeException") ∈ Tg := mTg (mT1 18 rfl) rfl
set_option maxRecDepth 20000 in
theorem w_19 : (Cond.initialized "java/lang/IndexOutOfBoundsException") ∈ Tg := mTg (mT1 19 rfl) rfl
set_option maxRecDepth 20000 in
theorem w_20 : (Cond.initialized "java/lang/ArrayIndexOutOfBoundsException") ∈ Tg := mTg (mT1 20 rfl) rfl
set_option maxRecDepth 20000 in
theorem w_21 : (Cond.initialized "java/lang/String") ∈ Tg := mTg (mT1 21 rfl) rfl
set_option maxRecDepth 20000 in
theorem w_22 : (Cond.initialized "jdk/internal/util/ArraysSupport") ∈ Tg := mTg (mT1 22 rfl) rfl
set_option maxRecDepth 20000 in
theorem w_23 : (Cond.initialized "java/util/Objects") ∈ Tg := mTg (mT1 23 rfl) rfl
set_option maxRecDepth 20000 in
theorem w_24 : (Cond.initialized "jdk/internal/util/Preconditions") ∈ Tg := mTg (mT1 24 rfl) rfl
set_option maxRecDepth 20000 in
theorem w_25 : (Cond.classLink "PpmTreesLaw" 8 "PpmTrees") ∈ Tg := mTg (mT1 25 rfl) rfl
set_option maxRecDepth 20000 in
theorem w_26 : (Cond.instantiable "PpmTrees" 29) ∈ Tg := mTg (mT1 26 rfl) rfl
set_option maxRecDepth 20000 in
theorem w_27 : (Cond.methodLink "PpmTreesLaw" 21 ⟨"PpmTrees", "<init>", "(II)V"⟩) ∈ Tg := mTg (mT1 27 rfl) rfl
set_option maxRecDepth 20000 in
theorem w_28 : (Cond.instanceMethod ⟨"PpmTrees", "<init>", "(II)V"⟩) ∈ Tg := mTg (mT1 28 rfl) rfl
set_option maxRecDepth 20000 in
theorem w_29 : (Cond.code ⟨"PpmTrees", "<init>", "(II)V"⟩ prog_1_method_5_code 5 (Option.none : Option FieldType)) ∈ Tg := mTg (mT1 29 rfl) rfl
set_option maxRecDepth 20000 in
theorem w_30 : (Cond.methodLink "PpmTrees" 67 ⟨"java/lang/Object", "<init>", "()V"⟩) ∈ Tg := mTg (mT1 30 rfl) rfl
set_option maxRecDepth 20000 in
theorem w_31 : (Cond.instanceMethod ⟨"java/lang/Object", "<init>", "()V"⟩) ∈ Tg := mTg (mT1 31 rfl) rfl
set_option maxRecDepth 20000 in
theorem w_32 : (Cond.code ⟨"java/lang/Object", "<init>", "()V"⟩ object_method_1_code 1 (Option.none : Option FieldType)) ∈ Tg := mTg (mT1 32 rfl) rfl
set_option maxRecDepth 20000 in
theorem w_33 : (Cond.classLink "PpmTrees" 27 "PpmTrees$Model") ∈ Tg := mTg (mT1 33 rfl) rfl
set_option maxRecDepth 20000 in
theorem w_35 : (Cond.classLink "PpmTrees" 80 "java/util/ArrayList") ∈ Tg := mTg (mT1 35 rfl) rfl
set_option maxRecDepth 20000 in
theorem w_36 : (Cond.instantiable "java/util/ArrayList" 3) ∈ Tg := mTg (mT1 36 rfl) rfl
set_option maxRecDepth 20000 in
theorem w_37 : (Cond.methodLink "PpmTrees" 82 ⟨"java/util/ArrayList", "<init>", "()V"⟩) ∈ Tg := mTg (mT1 37 rfl) rfl
set_option maxRecDepth 20000 in
theorem w_38 : (Cond.instanceMethod ⟨"java/util/ArrayList", "<init>", "()V"⟩) ∈ Tg := mTg (mT1 38 rfl) rfl
set_option maxRecDepth 20000 in
theorem w_39 : (Cond.code ⟨"java/util/ArrayList", "<init>", "()V"⟩ prog_25_method_2_code 1 (Option.none : Option FieldType)) ∈ Tg := mTg (mT1 39 rfl) rfl
set_option maxRecDepth 20000 in
theorem w_40 : (Cond.methodLink "java/util/ArrayList" 1 ⟨"java/util/AbstractList", "<init>", "()V"⟩) ∈ Tg := mTg (mT1 40 rfl) rfl
set_option maxRecDepth 20000 in
theorem w_41 : (Cond.instanceMethod ⟨"java/util/AbstractList", "<init>", "()V"⟩) ∈ Tg := mTg (mT1 41 rfl) rfl
set_option maxRecDepth 20000 in
theorem w_42 : (Cond.code ⟨"java/util/AbstractList", "<init>", "()V"⟩ prog_24_method_1_code 1 (Option.none : Option FieldType)) ∈ Tg := mTg (mT1 42 rfl) rfl
set_option maxRecDepth 20000 in
theorem w_43 : (Cond.methodLink "java/util/AbstractList" 1 ⟨"java/util/AbstractCollection", "<init>", "()V"⟩) ∈ Tg := mTg (mT1 43 rfl) rfl
set_option maxRecDepth 20000 in
theorem w_44 : (Cond.instanceMethod ⟨"java/util/AbstractCollection", "<init>", "()V"⟩) ∈ Tg := mTg (mT1 44 rfl) rfl
set_option maxRecDepth 20000 in
theorem w_45 : (Cond.code ⟨"java/util/AbstractCollection", "<init>", "()V"⟩ prog_23_method_1_code 1 (Option.none : Option FieldType)) ∈ Tg := mTg (mT1 45 rfl) rfl
set_option maxRecDepth 20000 in
theorem w_46 : (Cond.methodLink "java/util/AbstractCollection" 1 ⟨"java/lang/Object", "<init>", "()V"⟩) ∈ Tg := mTg (mT1 46 rfl) rfl
set_option maxRecDepth 20000 in
theorem w_47 : (Cond.fieldLink "java/util/ArrayList" 39 "java/util/ArrayList" "DEFAULTCAPACITY_EMPTY_ELEMENTDATA" "[Ljava/lang/Object;") ∈ Tg := mTg (mT1 47 rfl) rfl
set_option maxRecDepth 20000 in
theorem w_49 : (Cond.fieldLink "java/util/ArrayList" 9 "java/util/ArrayList" "elementData" "[Ljava/lang/Object;") ∈ Tg := mTg (mT1 49 rfl) rfl
set_option maxRecDepth 20000 in
theorem w_50 : (Cond.fieldLink "java/util/ArrayList" 48 "java/util/ArrayList" "size" "I") ∈ Tg := mTg (mT1 50 rfl) rfl
set_option maxRecDepth 20000 in
theorem w_51 : (Cond.fieldLink "java/util/AbstractList" 7 "java/util/AbstractList" "modCount" "I") ∈ Tg := mTg (mT1 51 rfl) rfl
set_option maxRecDepth 20000 in
theorem w_52 : (Cond.fieldLink "java/util/ArrayList" 63 "java/util/ArrayList" "modCount" "I") ∈ Tg := mTg (mT1 52 rfl) rfl
set_option maxRecDepth 20000 in
theorem w_53 : (Cond.sameField "java/util/ArrayList" "java/util/AbstractList" "modCount" "I") ∈ Tg := mTg (mT1 53 rfl) rfl
set_option maxRecDepth 20000 in
theorem w_61 : (Cond.arrayClass FieldType.boolean) ∈ Tg := mTg (mT1 61 rfl) rfl
set_option maxRecDepth 20000 in
theorem w_62 : (Cond.arrayClass FieldType.int) ∈ Tg := mTg (mT1 62 rfl) rfl
set_option maxRecDepth 20000 in
theorem w_63 : (Cond.classLink "PpmTrees" 99 "PpmTrees$Writer") ∈ Tg := mTg (mT1 63 rfl) rfl
set_option maxRecDepth 20000 in
theorem w_64 : (Cond.instantiable "PpmTrees$Writer" 5) ∈ Tg := mTg (mT1 64 rfl) rfl
set_option maxRecDepth 20000 in
theorem w_65 : (Cond.methodLink "PpmTrees" 101 ⟨"PpmTrees$Writer", "<init>", "(I)V"⟩) ∈ Tg := mTg (mT1 65 rfl) rfl
set_option maxRecDepth 20000 in
theorem w_66 : (Cond.instanceMethod ⟨"PpmTrees$Writer", "<init>", "(I)V"⟩) ∈ Tg := mTg (mT1 66 rfl) rfl
set_option maxRecDepth 20000 in
theorem w_67 : (Cond.code ⟨"PpmTrees$Writer", "<init>", "(I)V"⟩ prog_9_method_1_code 2 (Option.none : Option FieldType)) ∈ Tg := mTg (mT1 67 rfl) rfl
set_option maxRecDepth 20000 in
theorem w_69 : (Cond.instanceMethod ⟨"PpmTrees$Range", "<init>", "()V"⟩) ∈ Tg := mTg (mT1 69 rfl) rfl
set_option maxRecDepth 20000 in
theorem w_70 : (Cond.code ⟨"PpmTrees$Range", "<init>", "()V"⟩ prog_5_method_1_code 1 (Option.none : Option FieldType)) ∈ Tg := mTg (mT1 70 rfl) rfl
set_option maxRecDepth 20000 in
theorem w_71 : (Cond.methodLink "PpmTrees$Range" 3 ⟨"java/lang/Object", "<init>", "()V"⟩) ∈ Tg := mTg (mT1 71 rfl) rfl
set_option maxRecDepth 20000 in
theorem w_72 : (Cond.fieldLink "PpmTrees$Writer" 9 "PpmTrees$Writer" "bytes" "[B") ∈ Tg := mTg (mT1 72 rfl) rfl
set_option maxRecDepth 20000 in
theorem w_74 : (Cond.fieldLink "PpmTrees$Writer" 18 "PpmTrees$Writer" "bits" "I") ∈ Tg := mTg (mT1 74 rfl) rfl
set_option maxRecDepth 20000 in
theorem w_76 : (Cond.fieldLink "PpmTrees$Writer" 22 "PpmTrees$Writer" "held" "I") ∈ Tg := mTg (mT1 76 rfl) rfl
set_option maxRecDepth 20000 in
theorem w_77 : (Cond.fieldLink "PpmTrees$Range" 9 "PpmTrees$Range" "low" "I") ∈ Tg := mTg (mT1 77 rfl) rfl
set_option maxRecDepth 20000 in
theorem w_78 : (Cond.fieldLink "PpmTrees$Reader" 36 "PpmTrees$Reader" "low" "I") ∈ Tg := mTg (mT1 78 rfl) rfl
set_option maxRecDepth 20000 in
theorem w_79 : (Cond.sameField "PpmTrees$Reader" "PpmTrees$Range" "low" "I") ∈ Tg := mTg (mT1 79 rfl) rfl
set_option maxRecDepth 20000 in
theorem w_80 : (Cond.fieldLink "PpmTrees$Writer" 33 "PpmTrees$Writer" "low" "I") ∈ Tg := mTg (mT1 80 rfl) rfl
set_option maxRecDepth 20000 in
theorem w_81 : (Cond.sameField "PpmTrees$Writer" "PpmTrees$Range" "low" "I") ∈ Tg := mTg (mT1 81 rfl) rfl
set_option maxRecDepth 20000 in
theorem w_82 : (Cond.fieldLink "PpmTrees$Range" 16 "PpmTrees$Range" "high" "I") ∈ Tg := mTg (mT1 82 rfl) rfl
set_option maxRecDepth 20000 in
theorem w_83 : (Cond.fieldLink "PpmTrees$Reader" 39 "PpmTrees$Reader" "high" "I") ∈ Tg := mTg (mT1 83 rfl) rfl
set_option maxRecDepth 20000 in
theorem w_84 : (Cond.sameField "PpmTrees$Reader" "PpmTrees$Range" "high" "I") ∈ Tg := mTg (mT1 84 rfl) rfl
set_option maxRecDepth 20000 in
theorem w_96 : (Cond.arrayClass FieldType.byte) ∈ Tg := mTg (mT1 96 rfl) rfl
set_option maxRecDepth 20000 in
theorem w_97 : (Cond.classLink "PpmTrees" 111 "PpmTrees$Reader") ∈ Tg := mTg (mT1 97 rfl) rfl
set_option maxRecDepth 20000 in
theorem w_98 : (Cond.instantiable "PpmTrees$Reader" 5) ∈ Tg := mTg (mT1 98 rfl) rfl
set_option maxRecDepth 20000 in
theorem w_100 : (Cond.instanceMethod ⟨"PpmTrees$Reader", "<init>", "(LPpmTrees;)V"⟩) ∈ Tg := mTg (mT1 100 rfl) rfl
set_option maxRecDepth 20000 in
theorem w_101 : (Cond.code ⟨"PpmTrees$Reader", "<init>", "(LPpmTrees;)V"⟩ prog_6_method_1_code 2 (Option.none : Option FieldType)) ∈ Tg := mTg (mT1 101 rfl) rfl
set_option maxRecDepth 20000 in
theorem w_103 : (Cond.fieldLink "PpmTrees$Reader" 16 "PpmTrees$Reader" "number" "I") ∈ Tg := mTg (mT1 103 rfl) rfl
set_option maxRecDepth 20000 in
theorem w_104 : (Cond.fieldLink "PpmTrees$Reader" 20 "PpmTrees$Reader" "taken" "I") ∈ Tg := mTg (mT1 104 rfl) rfl
set_option maxRecDepth 20000 in
theorem w_105 : (Cond.fieldLink "PpmTrees$Reader" 1 "PpmTrees$Reader" "this$0" "LPpmTrees;") ∈ Tg := mTg (mT1 105 rfl) rfl
set_option maxRecDepth 20000 in
theorem w_115 : (Cond.classLink "PpmTrees" 129 "PpmTrees$1") ∈ Tg := mTg (mT1 115 rfl) rfl
set_option maxRecDepth 20000 in
theorem w_116 : (Cond.instantiable "PpmTrees$1" 1) ∈ Tg := mTg (mT1 116 rfl) rfl
set_option maxRecDepth 20000 in
theorem w_117 : (Cond.methodLink "PpmTrees" 131 ⟨"PpmTrees$1", "<init>", "(LPpmTrees;)V"⟩) ∈ Tg := mTg (mT1 117 rfl) rfl
set_option maxRecDepth 20000 in
theorem w_118 : (Cond.instanceMethod ⟨"PpmTrees$1", "<init>", "(LPpmTrees;)V"⟩) ∈ Tg := mTg (mT1 118 rfl) rfl
set_option maxRecDepth 20000 in
theorem w_119 : (Cond.code ⟨"PpmTrees$1", "<init>", "(LPpmTrees;)V"⟩ prog_2_method_1_code 2 (Option.none : Option FieldType)) ∈ Tg := mTg (mT1 119 rfl) rfl
set_option maxRecDepth 20000 in
theorem w_120 : (Cond.methodLink "PpmTrees$1" 7 ⟨"java/lang/Object", "<init>", "()V"⟩) ∈ Tg := mTg (mT1 120 rfl) rfl
set_option maxRecDepth 20000 in
theorem w_121 : (Cond.fieldLink "PpmTrees$1" 1 "PpmTrees$1" "this$0" "LPpmTrees;") ∈ Tg := mTg (mT1 121 rfl) rfl
set_option maxRecDepth 20000 in
theorem w_125 : (Cond.classLink "PpmTrees" 136 "PpmTrees$2") ∈ Tg := mTg (mT1 125 rfl) rfl
set_option maxRecDepth 20000 in
theorem w_126 : (Cond.instantiable "PpmTrees$2" 1) ∈ Tg := mTg (mT1 126 rfl) rfl
set_option maxRecDepth 20000 in
theorem w_127 : (Cond.methodLink "PpmTrees" 138 ⟨"PpmTrees$2", "<init>", "(LPpmTrees;)V"⟩) ∈ Tg := mTg (mT1 127 rfl) rfl
set_option maxRecDepth 20000 in
theorem w_128 : (Cond.instanceMethod ⟨"PpmTrees$2", "<init>", "(LPpmTrees;)V"⟩) ∈ Tg := mTg (mT1 128 rfl) rfl
set_option maxRecDepth 20000 in
theorem w_129 : (Cond.code ⟨"PpmTrees$2", "<init>", "(LPpmTrees;)V"⟩ prog_3_method_1_code 2 (Option.none : Option FieldType)) ∈ Tg := mTg (mT1 129 rfl) rfl
set_option maxRecDepth 20000 in
theorem w_130 : (Cond.methodLink "PpmTrees$2" 7 ⟨"java/lang/Object", "<init>", "()V"⟩) ∈ Tg := mTg (mT1 130 rfl) rfl
set_option maxRecDepth 20000 in
theorem w_131 : (Cond.fieldLink "PpmTrees$2" 1 "PpmTrees$2" "this$0" "LPpmTrees;") ∈ Tg := mTg (mT1 131 rfl) rfl
set_option maxRecDepth 20000 in
theorem w_135 : (Cond.classLink "PpmTrees" 142 "PpmTrees$Sum") ∈ Tg := mTg (mT1 135 rfl) rfl
set_option maxRecDepth 20000 in
theorem w_136 : (Cond.instantiable "PpmTrees$Sum" 1) ∈ Tg := mTg (mT1 136 rfl) rfl
set_option maxRecDepth 20000 in
theorem w_138 : (Cond.instanceMethod ⟨"PpmTrees$Sum", "<init>", "()V"⟩) ∈ Tg := mTg (mT1 138 rfl) rfl
set_option maxRecDepth 20000 in
theorem w_139 : (Cond.code ⟨"PpmTrees$Sum", "<init>", "()V"⟩ prog_7_method_1_code 1 (Option.none : Option FieldType)) ∈ Tg := mTg (mT1 139 rfl) rfl
set_option maxRecDepth 20000 in
theorem w_140 : (Cond.methodLink "PpmTrees$Sum" 1 ⟨"java/lang/Object", "<init>", "()V"⟩) ∈ Tg := mTg (mT1 140 rfl) rfl
set_option maxRecDepth 20000 in
theorem w_141 : (Cond.fieldLink "PpmTrees$Sum" 7 "PpmTrees$Sum" "all" "I") ∈ Tg := mTg (mT1 141 rfl) rfl
set_option maxRecDepth 20000 in
theorem w_146 : (Cond.methodLink "PpmTrees" 149 ⟨"PpmTrees", "nearest", "(III)I"⟩) ∈ Tg := mTg (mT1 146 rfl) rfl
set_option maxRecDepth 20000 in
theorem w_147 : (Cond.static ⟨"PpmTrees", "nearest", "(III)I"⟩) ∈ Tg := mTg (mT1 147 rfl) rfl
set_option maxRecDepth 20000 in
theorem w_148 : (Cond.code ⟨"PpmTrees", "nearest", "(III)I"⟩ prog_1_method_2_code 3 (Option.some FieldType.int)) ∈ Tg := mTg (mT1 148 rfl) rfl
set_option maxRecDepth 20000 in
theorem w_149 : (Cond.methodLink "PpmTrees" 1 ⟨"java/lang/Math", "min", "(II)I"⟩) ∈ Tg := mTg (mT1 149 rfl) rfl
set_option maxRecDepth 20000 in
theorem w_150 : (Cond.static ⟨"java/lang/Math", "min", "(II)I"⟩) ∈ Tg := mTg (mT1 150 rfl) rfl
set_option maxRecDepth 20000 in
theorem w_151 : (Cond.code ⟨"java/lang/Math", "min", "(II)I"⟩ prog_18_method_69_code 2 (Option.some FieldType.int)) ∈ Tg := mTg (mT1 151 rfl) rfl
set_option maxRecDepth 20000 in
theorem w_152 : (Cond.methodLink "PpmTrees" 7 ⟨"java/lang/Math", "max", "(II)I"⟩) ∈ Tg := mTg (mT1 152 rfl) rfl
set_option maxRecDepth 20000 in
theorem w_153 : (Cond.static ⟨"java/lang/Math", "max", "(II)I"⟩) ∈ Tg := mTg (mT1 153 rfl) rfl
set_option maxRecDepth 20000 in
theorem w_154 : (Cond.code ⟨"java/lang/Math", "max", "(II)I"⟩ prog_18_method_65_code 2 (Option.some FieldType.int)) ∈ Tg := mTg (mT1 154 rfl) rfl
set_option maxRecDepth 20000 in
theorem w_155 : (Cond.instantiable "PpmTrees$Model" 10) ∈ Tg := mTg (mT1 155 rfl) rfl
set_option maxRecDepth 20000 in
theorem w_156 : (Cond.methodLink "PpmTrees" 153 ⟨"PpmTrees$Model", "<init>", "(II)V"⟩) ∈ Tg := mTg (mT1 156 rfl) rfl
set_option maxRecDepth 20000 in
theorem w_157 : (Cond.instanceMethod ⟨"PpmTrees$Model", "<init>", "(II)V"⟩) ∈ Tg := mTg (mT1 157 rfl) rfl
set_option maxRecDepth 20000 in
theorem w_158 : (Cond.code ⟨"PpmTrees$Model", "<init>", "(II)V"⟩ prog_4_method_1_code 3 (Option.none : Option FieldType)) ∈ Tg := mTg (mT1 158 rfl) rfl
set_option maxRecDepth 20000 in
theorem w_159 : (Cond.methodLink "PpmTrees$Model" 3 ⟨"java/lang/Object", "<init>", "()V"⟩) ∈ Tg := mTg (mT1 159 rfl) rfl
set_option maxRecDepth 20000 in
theorem w_160 : (Cond.methodLink "PpmTrees$Model" 37 ⟨"PpmTrees$Model", "begin", "()V"⟩) ∈ Tg := mTg (mT1 160 rfl) rfl
set_option maxRecDepth 20000 in
theorem w_161 : (Cond.instanceMethod ⟨"PpmTrees$Model", "begin", "()V"⟩) ∈ Tg := mTg (mT1 161 rfl) rfl
set_option maxRecDepth 20000 in
theorem w_162 : (Cond.selects "PpmTrees$Model" ⟨"PpmTrees$Model", "begin", "()V"⟩ ⟨"PpmTrees$Model", "begin", "()V"⟩) ∈ Tg := mTg (mT1 162 rfl) rfl
set_option maxRecDepth 20000 in
theorem w_163 : (Cond.code ⟨"PpmTrees$Model", "begin", "()V"⟩ prog_4_method_2_code 1 (Option.none : Option FieldType)) ∈ Tg := mTg (mT1 163 rfl) rfl
set_option maxRecDepth 20000 in
theorem w_164 : (Cond.fieldLink "PpmTrees$Model" 15 "PpmTrees$Model" "order" "I") ∈ Tg := mTg (mT1 164 rfl) rfl
set_option maxRecDepth 20000 in
theorem w_166 : (Cond.fieldLink "PpmTrees$Model" 19 "PpmTrees$Model" "room" "I") ∈ Tg := mTg (mT1 166 rfl) rfl
set_option maxRecDepth 20000 in
theorem w_168 : (Cond.fieldLink "PpmTrees$Model" 22 "PpmTrees$Model" "parents" "[I") ∈ Tg := mTg (mT1 168 rfl) rfl
set_option maxRecDepth 20000 in
theorem w_170 : (Cond.fieldLink "PpmTrees$Model" 25 "PpmTrees$Model" "bytes" "[I") ∈ Tg := mTg (mT1 170 rfl) rfl
set_option maxRecDepth 20000 in
theorem w_172 : (Cond.fieldLink "PpmTrees$Model" 28 "PpmTrees$Model" "counts" "[I") ∈ Tg := mTg (mT1 172 rfl) rfl
set_option maxRecDepth 20000 in
theorem w_174 : (Cond.fieldLink "PpmTrees$Model" 31 "PpmTrees$Model" "firsts" "[I") ∈ Tg := mTg (mT1 174 rfl) rfl
set_option maxRecDepth 20000 in
theorem w_176 : (Cond.fieldLink "PpmTrees$Model" 34 "PpmTrees$Model" "nexts" "[I") ∈ Tg := mTg (mT1 176 rfl) rfl
set_option maxRecDepth 20000 in
theorem w_178 : (Cond.fieldLink "PpmTrees$Model" 40 "PpmTrees$Model" "size" "I") ∈ Tg := mTg (mT1 178 rfl) rfl
set_option maxRecDepth 20000 in
theorem w_180 : (Cond.fieldLink "PpmTrees$Model" 9 "PpmTrees$Model" "late" "[I") ∈ Tg := mTg (mT1 180 rfl) rfl
set_option maxRecDepth 20000 in
theorem w_182 : (Cond.fieldLink "PpmTrees$Model" 43 "PpmTrees$Model" "lateMany" "I") ∈ Tg := mTg (mT1 182 rfl) rfl
set_option maxRecDepth 20000 in
theorem w_205 : (Cond.fieldLink "PpmTrees" 10 "PpmTrees" "isExcluded" "[Z") ∈ Tg := mTg (mT1 205 rfl) rfl
set_option maxRecDepth 20000 in
theorem w_206 : (Cond.fieldLink "PpmTrees" 22 "PpmTrees" "excluded" "I") ∈ Tg := mTg (mT1 206 rfl) rfl
set_option maxRecDepth 20000 in
theorem w_207 : (Cond.fieldLink "PpmTrees" 60 "PpmTrees" "escapes" "I") ∈ Tg := mTg (mT1 207 rfl) rfl
set_option maxRecDepth 20000 in
theorem w_208 : (Cond.fieldLink "PpmTrees" 57 "PpmTrees" "found" "I") ∈ Tg := mTg (mT1 208 rfl) rfl
set_option maxRecDepth 20000 in
theorem w_209 : (Cond.fieldLink "PpmTrees" 73 "PpmTrees" "ends" "[LPpmTrees$Model;") ∈ Tg := mTg (mT1 209 rfl) rfl
set_option maxRecDepth 20000 in
theorem w_210 : (Cond.fieldLink "PpmTrees" 77 "PpmTrees" "restarts" "[I") ∈ Tg := mTg (mT1 210 rfl) rfl
set_option maxRecDepth 20000 in
theorem w_211 : (Cond.fieldLink "PpmTrees" 83 "PpmTrees" "kept" "Ljava/util/List;") ∈ Tg := mTg (mT1 211 rfl) rfl
set_option maxRecDepth 20000 in
theorem w_212 : (Cond.fieldLink "PpmTrees" 156 "PpmTrees" "before" "LPpmTrees$Model;") ∈ Tg := mTg (mT1 212 rfl) rfl
set_option maxRecDepth 20000 in
theorem w_213 : (Cond.fieldLink "PpmTrees" 87 "PpmTrees" "text" "[I") ∈ Tg := mTg (mT1 213 rfl) rfl
set_option maxRecDepth 20000 in
theorem w_214 : (Cond.fieldLink "PpmTrees" 160 "PpmTrees" "textSize" "I") ∈ Tg := mTg (mT1 214 rfl) rfl
set_option maxRecDepth 20000 in
theorem w_216 : (Cond.fieldLink "PpmTrees" 90 "PpmTrees" "out" "[I") ∈ Tg := mTg (mT1 216 rfl) rfl
set_option maxRecDepth 20000 in
theorem w_218 : (Cond.fieldLink "PpmTrees" 172 "PpmTrees" "outSize" "I") ∈ Tg := mTg (mT1 218 rfl) rfl
set_option maxRecDepth 20000 in
theorem w_219 : (Cond.fieldLink "PpmTrees" 93 "PpmTrees" "received" "[I") ∈ Tg := mTg (mT1 219 rfl) rfl
set_option maxRecDepth 20000 in
theorem w_220 : (Cond.fieldLink "PpmTrees" 175 "PpmTrees" "receivedSize" "I") ∈ Tg := mTg (mT1 220 rfl) rfl
set_option maxRecDepth 20000 in
theorem w_221 : (Cond.fieldLink "PpmTrees" 96 "PpmTrees" "fresh" "[I") ∈ Tg := mTg (mT1 221 rfl) rfl
set_option maxRecDepth 20000 in
theorem w_223 : (Cond.fieldLink "PpmTrees" 104 "PpmTrees" "writer" "LPpmTrees$Writer;") ∈ Tg := mTg (mT1 223 rfl) rfl
set_option maxRecDepth 20000 in
theorem w_225 : (Cond.fieldLink "PpmTrees" 108 "PpmTrees" "again" "LPpmTrees$Writer;") ∈ Tg := mTg (mT1 225 rfl) rfl
set_option maxRecDepth 20000 in
theorem w_227 : (Cond.fieldLink "PpmTrees" 116 "PpmTrees" "reader" "LPpmTrees$Reader;") ∈ Tg := mTg (mT1 227 rfl) rfl
set_option maxRecDepth 20000 in
theorem w_228 : (Cond.fieldLink "PpmTrees" 120 "PpmTrees" "place" "I") ∈ Tg := mTg (mT1 228 rfl) rfl
set_option maxRecDepth 20000 in
theorem w_229 : (Cond.fieldLink "PpmTrees" 206 "PpmTrees" "isPacked" "Z") ∈ Tg := mTg (mT1 229 rfl) rfl
set_option maxRecDepth 20000 in
theorem w_230 : (Cond.fieldLink "PpmTrees" 213 "PpmTrees" "bitsTold" "I") ∈ Tg := mTg (mT1 230 rfl) rfl
set_option maxRecDepth 20000 in
theorem w_231 : (Cond.fieldLink "PpmTrees" 216 "PpmTrees" "escapesTold" "I") ∈ Tg := mTg (mT1 231 rfl) rfl
set_option maxRecDepth 20000 in
theorem w_232 : (Cond.fieldLink "PpmTrees" 188 "PpmTrees" "restartsTold" "I") ∈ Tg := mTg (mT1 232 rfl) rfl
set_option maxRecDepth 20000 in
theorem w_233 : (Cond.fieldLink "PpmTrees" 219 "PpmTrees" "signsTold" "I") ∈ Tg := mTg (mT1 233 rfl) rfl
set_option maxRecDepth 20000 in
theorem w_234 : (Cond.fieldLink "PpmTrees" 123 "PpmTrees" "excludedTold" "[I") ∈ Tg := mTg (mT1 234 rfl) rfl
set_option maxRecDepth 20000 in
theorem w_235 : (Cond.fieldLink "PpmTrees" 126 "PpmTrees" "foundTold" "[I") ∈ Tg := mTg (mT1 235 rfl) rfl
set_option maxRecDepth 20000 in
theorem w_236 : (Cond.fieldLink "PpmTrees" 132 "PpmTrees" "writing" "LPpmTrees$Taker;") ∈ Tg := mTg (mT1 236 rfl) rfl
set_option maxRecDepth 20000 in
theorem w_237 : (Cond.fieldLink "PpmTrees" 139 "PpmTrees" "reading" "LPpmTrees$Taker;") ∈ Tg := mTg (mT1 237 rfl) rfl
set_option maxRecDepth 20000 in
theorem w_238 : (Cond.fieldLink "PpmTrees" 145 "PpmTrees" "sum" "LPpmTrees$Sum;") ∈ Tg := mTg (mT1 238 rfl) rfl
set_option maxRecDepth 20000 in
theorem w_298 : (Cond.methodLink "PpmTreesLaw" 27 ⟨"PpmTrees", "clear", "()I"⟩) ∈ Tg := mTg (mT2 58 rfl) rfl
set_option maxRecDepth 20000 in
theorem w_299 : (Cond.instanceMethod ⟨"PpmTrees", "clear", "()I"⟩) ∈ Tg := mTg (mT2 59 rfl) rfl
set_option maxRecDepth 20000 in
theorem w_300 : (Cond.selects "PpmTrees" ⟨"PpmTrees", "clear", "()I"⟩ ⟨"PpmTrees", "clear", "()I"⟩) ∈ Tg := mTg (mT2 60 rfl) rfl
set_option maxRecDepth 20000 in
theorem w_301 : (Cond.code ⟨"PpmTrees", "clear", "()I"⟩ prog_1_method_6_code 2 (Option.some FieldType.int)) ∈ Tg := mTg (mT2 61 rfl) rfl
set_option maxRecDepth 20000 in
theorem w_302 : (Cond.methodLink "PpmTreesLaw" 32 ⟨"PpmTrees", "add", "(I)I"⟩) ∈ Tg := mTg (mT2 62 rfl) rfl
set_option maxRecDepth 20000 in
theorem w_303 : (Cond.instanceMethod ⟨"PpmTrees", "add", "(I)I"⟩) ∈ Tg := mTg (mT2 63 rfl) rfl
set_option maxRecDepth 20000 in
theorem w_304 : (Cond.selects "PpmTrees" ⟨"PpmTrees", "add", "(I)I"⟩ ⟨"PpmTrees", "add", "(I)I"⟩) ∈ Tg := mTg (mT2 64 rfl) rfl
set_option maxRecDepth 20000 in
theorem w_305 : (Cond.code ⟨"PpmTrees", "add", "(I)I"⟩ prog_1_method_7_code 2 (Option.some FieldType.int)) ∈ Tg := mTg (mT2 65 rfl) rfl
set_option maxRecDepth 20000 in
theorem w_306 : (Cond.methodLink "PpmTrees" 163 ⟨"PpmTrees", "isIn", "(III)Z"⟩) ∈ Tg := mTg (mT2 66 rfl) rfl
set_option maxRecDepth 20000 in
theorem w_307 : (Cond.static ⟨"PpmTrees", "isIn", "(III)Z"⟩) ∈ Tg := mTg (mT2 67 rfl) rfl
set_option maxRecDepth 20000 in
theorem w_308 : (Cond.code ⟨"PpmTrees", "isIn", "(III)Z"⟩ prog_1_method_1_code 3 (Option.some FieldType.boolean)) ∈ Tg := mTg (mT2 68 rfl) rfl
set_option maxRecDepth 20000 in
theorem w_309 : (Cond.methodLink "PpmTreesLaw" 37 ⟨"PpmTrees", "fill", "(III)I"⟩) ∈ Tg := mTg (mT2 69 rfl) rfl
set_option maxRecDepth 20000 in
theorem w_310 : (Cond.instanceMethod ⟨"PpmTrees", "fill", "(III)I"⟩) ∈ Tg := mTg (mT2 70 rfl) rfl
set_option maxRecDepth 20000 in
theorem w_311 : (Cond.selects "PpmTrees" ⟨"PpmTrees", "fill", "(III)I"⟩ ⟨"PpmTrees", "fill", "(III)I"⟩) ∈ Tg := mTg (mT2 71 rfl) rfl
set_option maxRecDepth 20000 in
theorem w_312 : (Cond.code ⟨"PpmTrees", "fill", "(III)I"⟩ prog_1_method_8_code 7 (Option.some FieldType.int)) ∈ Tg := mTg (mT2 72 rfl) rfl
set_option maxRecDepth 20000 in
theorem w_313 : (Cond.constant "PpmTrees" 167 (1103515245 : Int32)) ∈ Tg := mTg (mT2 73 rfl) rfl
set_option maxRecDepth 20000 in
theorem w_314 : (Cond.methodLink "PpmTrees" 168 ⟨"PpmTrees", "drawn", "(IIII)I"⟩) ∈ Tg := mTg (mT2 74 rfl) rfl
set_option maxRecDepth 20000 in
theorem w_316 : (Cond.instanceMethod ⟨"PpmTrees", "drawn", "(IIII)I"⟩) ∈ Tg := mTg (mT2 76 rfl) rfl
set_option maxRecDepth 20000 in
theorem w_317 : (Cond.code ⟨"PpmTrees", "drawn", "(IIII)I"⟩ prog_1_method_9_code 6 (Option.some FieldType.int)) ∈ Tg := mTg (mT2 77 rfl) rfl
set_option maxRecDepth 20000 in
theorem w_318 : (Cond.methodLink "PpmTreesLaw" 41 ⟨"PpmTrees", "size", "(I)I"⟩) ∈ Tg := mTg (mT2 78 rfl) rfl
set_option maxRecDepth 20000 in
theorem w_319 : (Cond.instanceMethod ⟨"PpmTrees", "size", "(I)I"⟩) ∈ Tg := mTg (mT2 79 rfl) rfl
set_option maxRecDepth 20000 in
theorem w_320 : (Cond.selects "PpmTrees" ⟨"PpmTrees", "size", "(I)I"⟩ ⟨"PpmTrees", "size", "(I)I"⟩) ∈ Tg := mTg (mT2 80 rfl) rfl
set_option maxRecDepth 20000 in
theorem w_321 : (Cond.code ⟨"PpmTrees", "size", "(I)I"⟩ prog_1_method_11_code 2 (Option.some FieldType.int)) ∈ Tg := mTg (mT2 81 rfl) rfl
set_option maxRecDepth 20000 in
theorem w_322 : (Cond.methodLink "PpmTreesLaw" 45 ⟨"PpmTrees", "octet", "(II)I"⟩) ∈ Tg := mTg (mT2 82 rfl) rfl
set_option maxRecDepth 20000 in
theorem w_323 : (Cond.instanceMethod ⟨"PpmTrees", "octet", "(II)I"⟩) ∈ Tg := mTg (mT2 83 rfl) rfl
set_option maxRecDepth 20000 in
theorem w_324 : (Cond.selects "PpmTrees" ⟨"PpmTrees", "octet", "(II)I"⟩ ⟨"PpmTrees", "octet", "(II)I"⟩) ∈ Tg := mTg (mT2 84 rfl) rfl
set_option maxRecDepth 20000 in
theorem w_325 : (Cond.code ⟨"PpmTrees", "octet", "(II)I"⟩ prog_1_method_12_code 3 (Option.some FieldType.int)) ∈ Tg := mTg (mT2 85 rfl) rfl
set_option maxRecDepth 20000 in
theorem w_326 : (Cond.methodLink "PpmTrees" 178 ⟨"PpmTrees", "size", "(I)I"⟩) ∈ Tg := mTg (mT2 86 rfl) rfl
set_option maxRecDepth 20000 in
theorem w_327 : (Cond.methodLink "PpmTrees" 181 ⟨"PpmTrees", "row", "(I)[I"⟩) ∈ Tg := mTg (mT2 87 rfl) rfl
set_option maxRecDepth 20000 in
theorem w_329 : (Cond.instanceMethod ⟨"PpmTrees", "row", "(I)[I"⟩) ∈ Tg := mTg (mT2 89 rfl) rfl
set_option maxRecDepth 20000 in
theorem w_330 : (Cond.code ⟨"PpmTrees", "row", "(I)[I"⟩ prog_1_method_10_code 2 (Option.some (FieldType.array FieldType.int))) ∈ Tg := mTg (mT2 90 rfl) rfl
set_option maxRecDepth 20000 in
theorem w_331 : (Cond.methodLink "PpmTreesLaw" 50 ⟨"PpmTrees", "alter", "(II)I"⟩) ∈ Tg := mTg (mT2 91 rfl) rfl
set_option maxRecDepth 20000 in
theorem w_332 : (Cond.instanceMethod ⟨"PpmTrees", "alter", "(II)I"⟩) ∈ Tg := mTg (mT2 92 rfl) rfl
set_option maxRecDepth 20000 in
theorem w_333 : (Cond.selects "PpmTrees" ⟨"PpmTrees", "alter", "(II)I"⟩ ⟨"PpmTrees", "alter", "(II)I"⟩) ∈ Tg := mTg (mT2 93 rfl) rfl
set_option maxRecDepth 20000 in
theorem w_334 : (Cond.code ⟨"PpmTrees", "alter", "(II)I"⟩ prog_1_method_13_code 4 (Option.some FieldType.int)) ∈ Tg := mTg (mT2 94 rfl) rfl
set_option maxRecDepth 20000 in
theorem w_335 : (Cond.methodLink "PpmTreesLaw" 54 ⟨"PpmTrees", "cut", "(I)I"⟩) ∈ Tg := mTg (mT2 95 rfl) rfl
set_option maxRecDepth 20000 in
theorem w_336 : (Cond.instanceMethod ⟨"PpmTrees", "cut", "(I)I"⟩) ∈ Tg := mTg (mT2 96 rfl) rfl
set_option maxRecDepth 20000 in
theorem w_337 : (Cond.selects "PpmTrees" ⟨"PpmTrees", "cut", "(I)I"⟩ ⟨"PpmTrees", "cut", "(I)I"⟩) ∈ Tg := mTg (mT2 97 rfl) rfl
set_option maxRecDepth 20000 in
theorem w_338 : (Cond.code ⟨"PpmTrees", "cut", "(I)I"⟩ prog_1_method_14_code 3 (Option.some FieldType.int)) ∈ Tg := mTg (mT2 98 rfl) rfl
set_option maxRecDepth 20000 in
theorem w_339 : (Cond.methodLink "PpmTreesLaw" 58 ⟨"PpmTrees", "pack", "()I"⟩) ∈ Tg := mTg (mT2 99 rfl) rfl
set_option maxRecDepth 20000 in
theorem w_340 : (Cond.instanceMethod ⟨"PpmTrees", "pack", "()I"⟩) ∈ Tg := mTg (mT2 100 rfl) rfl
set_option maxRecDepth 20000 in
theorem w_341 : (Cond.selects "PpmTrees" ⟨"PpmTrees", "pack", "()I"⟩ ⟨"PpmTrees", "pack", "()I"⟩) ∈ Tg := mTg (mT2 101 rfl) rfl
set_option maxRecDepth 20000 in
theorem w_342 : (Cond.code ⟨"PpmTrees", "pack", "()I"⟩ prog_1_method_15_code 4 (Option.some FieldType.int)) ∈ Tg := mTg (mT2 102 rfl) rfl
set_option maxRecDepth 20000 in
theorem w_343 : (Cond.methodLink "PpmTrees" 185 ⟨"PpmTrees$Writer", "begin", "()V"⟩) ∈ Tg := mTg (mT2 103 rfl) rfl
set_option maxRecDepth 20000 in
theorem w_344 : (Cond.instanceMethod ⟨"PpmTrees$Writer", "begin", "()V"⟩) ∈ Tg := mTg (mT2 104 rfl) rfl
set_option maxRecDepth 20000 in
theorem w_345 : (Cond.selects "PpmTrees$Writer" ⟨"PpmTrees$Writer", "begin", "()V"⟩ ⟨"PpmTrees$Writer", "begin", "()V"⟩) ∈ Tg := mTg (mT2 105 rfl) rfl
set_option maxRecDepth 20000 in
theorem w_346 : (Cond.code ⟨"PpmTrees$Writer", "begin", "()V"⟩ prog_9_method_2_code 1 (Option.none : Option FieldType)) ∈ Tg := mTg (mT2 106 rfl) rfl
set_option maxRecDepth 20000 in
theorem w_347 : (Cond.methodLink "PpmTrees$Writer" 15 ⟨"PpmTrees$Range", "begin", "()V"⟩) ∈ Tg := mTg (mT2 107 rfl) rfl
set_option maxRecDepth 20000 in
theorem w_348 : (Cond.instanceMethod ⟨"PpmTrees$Range", "begin", "()V"⟩) ∈ Tg := mTg (mT2 108 rfl) rfl
set_option maxRecDepth 20000 in
theorem w_349 : (Cond.code ⟨"PpmTrees$Range", "begin", "()V"⟩ prog_5_method_2_code 1 (Option.none : Option FieldType)) ∈ Tg := mTg (mT2 109 rfl) rfl
set_option maxRecDepth 20000 in
theorem w_350 : (Cond.constant "PpmTrees$Range" 15 (65535 : Int32)) ∈ Tg := mTg (mT2 110 rfl) rfl
set_option maxRecDepth 20000 in
theorem w_351 : (Cond.methodLink "PpmTrees" 191 ⟨"PpmTrees", "tell", "(LPpmTrees$Model;ILPpmTrees$Taker;)I"⟩) ∈ Tg := mTg (mT2 111 rfl) rfl
set_option maxRecDepth 20000 in
theorem w_353 : (Cond.instanceMethod ⟨"PpmTrees", "tell", "(LPpmTrees$Model;ILPpmTrees$Taker;)I"⟩) ∈ Tg := mTg (mT2 113 rfl) rfl
set_option maxRecDepth 20000 in
theorem w_354 : (Cond.code ⟨"PpmTrees", "tell", "(LPpmTrees$Model;ILPpmTrees$Taker;)I"⟩ prog_1_method_3_code 11 (Option.some FieldType.int)) ∈ Tg := mTg (mT2 114 rfl) rfl
set_option maxRecDepth 20000 in
theorem w_355 : (Cond.methodLink "PpmTrees" 16 ⟨"java/util/Arrays", "fill", "([ZZ)V"⟩) ∈ Tg := mTg (mT2 115 rfl) rfl
set_option maxRecDepth 20000 in
theorem w_356 : (Cond.static ⟨"java/util/Arrays", "fill", "([ZZ)V"⟩) ∈ Tg := mTg (mT2 116 rfl) rfl
set_option maxRecDepth 20000 in
theorem w_357 : (Cond.code ⟨"java/util/Arrays", "fill", "([ZZ)V"⟩ prog_26_method_111_code 4 (Option.none : Option FieldType)) ∈ Tg := mTg (mT2 117 rfl) rfl
set_option maxRecDepth 20000 in
theorem w_358 : (Cond.methodLink "PpmTrees" 31 ⟨"PpmTrees$Model", "context", "(I)I"⟩) ∈ Tg := mTg (mT2 118 rfl) rfl
set_option maxRecDepth 20000 in
theorem w_359 : (Cond.instanceMethod ⟨"PpmTrees$Model", "context", "(I)I"⟩) ∈ Tg := mTg (mT2 119 rfl) rfl
set_option maxRecDepth 20000 in
theorem w_360 : (Cond.selects "PpmTrees$Model" ⟨"PpmTrees$Model", "context", "(I)I"⟩ ⟨"PpmTrees$Model", "context", "(I)I"⟩) ∈ Tg := mTg (mT2 120 rfl) rfl
set_option maxRecDepth 20000 in
theorem w_361 : (Cond.code ⟨"PpmTrees$Model", "context", "(I)I"⟩ prog_4_method_7_code 4 (Option.some FieldType.int)) ∈ Tg := mTg (mT2 121 rfl) rfl
set_option maxRecDepth 20000 in
theorem w_362 : (Cond.methodLink "PpmTrees$Model" 56 ⟨"PpmTrees$Model", "childOf", "(II)I"⟩) ∈ Tg := mTg (mT2 122 rfl) rfl
set_option maxRecDepth 20000 in
theorem w_363 : (Cond.instanceMethod ⟨"PpmTrees$Model", "childOf", "(II)I"⟩) ∈ Tg := mTg (mT2 123 rfl) rfl
set_option maxRecDepth 20000 in
theorem w_364 : (Cond.selects "PpmTrees$Model" ⟨"PpmTrees$Model", "childOf", "(II)I"⟩ ⟨"PpmTrees$Model", "childOf", "(II)I"⟩) ∈ Tg := mTg (mT2 124 rfl) rfl
set_option maxRecDepth 20000 in
theorem w_365 : (Cond.code ⟨"PpmTrees$Model", "childOf", "(II)I"⟩ prog_4_method_6_code 4 (Option.some FieldType.int)) ∈ Tg := mTg (mT2 125 rfl) rfl
set_option maxRecDepth 20000 in
theorem w_367 : (Cond.methodLink "PpmTrees" 48 ⟨"PpmTrees$Taker", "pointed", "(I)I"⟩) ∈ Tg := mTg (mT2 127 rfl) rfl
set_option maxRecDepth 20000 in
theorem w_371 : (Cond.selects "PpmTrees$1" ⟨"PpmTrees$Taker", "pointed", "(I)I"⟩ ⟨"PpmTrees$1", "pointed", "(I)I"⟩) ∈ Tg := mTg (mT2 131 rfl) rfl
set_option maxRecDepth 20000 in
theorem w_373 : (Cond.instanceMethod ⟨"PpmTrees$1", "pointed", "(I)I"⟩) ∈ Tg := mTg (mT2 133 rfl) rfl
set_option maxRecDepth 20000 in
theorem w_375 : (Cond.code ⟨"PpmTrees$1", "pointed", "(I)I"⟩ prog_2_method_2_code 2 (Option.some FieldType.int)) ∈ Tg := mTg (mT2 135 rfl) rfl
set_option maxRecDepth 20000 in
theorem w_377 : (Cond.selects "PpmTrees$2" ⟨"PpmTrees$Taker", "pointed", "(I)I"⟩ ⟨"PpmTrees$2", "pointed", "(I)I"⟩) ∈ Tg := mTg (mT2 137 rfl) rfl
set_option maxRecDepth 20000 in
theorem w_379 : (Cond.instanceMethod ⟨"PpmTrees$2", "pointed", "(I)I"⟩) ∈ Tg := mTg (mT2 139 rfl) rfl
set_option maxRecDepth 20000 in
theorem w_381 : (Cond.code ⟨"PpmTrees$2", "pointed", "(I)I"⟩ prog_3_method_2_code 2 (Option.some FieldType.int)) ∈ Tg := mTg (mT2 141 rfl) rfl
set_option maxRecDepth 20000 in
theorem w_382 : (Cond.methodLink "PpmTrees$2" 19 ⟨"PpmTrees$Reader", "pointed", "(I)I"⟩) ∈ Tg := mTg (mT2 142 rfl) rfl
set_option maxRecDepth 20000 in
theorem w_383 : (Cond.instanceMethod ⟨"PpmTrees$Reader", "pointed", "(I)I"⟩) ∈ Tg := mTg (mT2 143 rfl) rfl
set_option maxRecDepth 20000 in
theorem w_384 : (Cond.selects "PpmTrees$Reader" ⟨"PpmTrees$Reader", "pointed", "(I)I"⟩ ⟨"PpmTrees$Reader", "pointed", "(I)I"⟩) ∈ Tg := mTg (mT2 144 rfl) rfl
set_option maxRecDepth 20000 in
theorem w_385 : (Cond.code ⟨"PpmTrees$Reader", "pointed", "(I)I"⟩ prog_6_method_5_code 2 (Option.some FieldType.int)) ∈ Tg := mTg (mT2 145 rfl) rfl
set_option maxRecDepth 20000 in
theorem w_387 : (Cond.selects "PpmTrees$Sum" ⟨"PpmTrees$Taker", "pointed", "(I)I"⟩ ⟨"PpmTrees$Sum", "pointed", "(I)I"⟩) ∈ Tg := mTg (mT2 147 rfl) rfl
set_option maxRecDepth 20000 in
theorem w_389 : (Cond.instanceMethod ⟨"PpmTrees$Sum", "pointed", "(I)I"⟩) ∈ Tg := mTg (mT2 149 rfl) rfl
set_option maxRecDepth 20000 in
theorem w_391 : (Cond.code ⟨"PpmTrees$Sum", "pointed", "(I)I"⟩ prog_7_method_2_code 2 (Option.some FieldType.int)) ∈ Tg := mTg (mT2 151 rfl) rfl
set_option maxRecDepth 20000 in
theorem w_393 : (Cond.methodLink "PpmTrees" 53 ⟨"PpmTrees$Taker", "take", "(III)V"⟩) ∈ Tg := mTg (mT2 153 rfl) rfl
set_option maxRecDepth 20000 in
theorem w_396 : (Cond.selects "PpmTrees$1" ⟨"PpmTrees$Taker", "take", "(III)V"⟩ ⟨"PpmTrees$1", "take", "(III)V"⟩) ∈ Tg := mTg (mT2 156 rfl) rfl
set_option maxRecDepth 20000 in
theorem w_398 : (Cond.instanceMethod ⟨"PpmTrees$1", "take", "(III)V"⟩) ∈ Tg := mTg (mT2 158 rfl) rfl
set_option maxRecDepth 20000 in
theorem w_400 : (Cond.code ⟨"PpmTrees$1", "take", "(III)V"⟩ prog_2_method_3_code 4 (Option.none : Option FieldType)) ∈ Tg := mTg (mT2 160 rfl) rfl
set_option maxRecDepth 20000 in
theorem w_401 : (Cond.methodLink "PpmTrees$1" 19 ⟨"PpmTrees$Writer", "span", "(III)V"⟩) ∈ Tg := mTg (mT2 161 rfl) rfl
set_option maxRecDepth 20000 in
theorem w_402 : (Cond.sameMethod "PpmTrees$Writer" "PpmTrees$Range" "span" "(III)V") ∈ Tg := mTg (mT2 162 rfl) rfl
set_option maxRecDepth 20000 in
theorem w_404 : (Cond.selects "PpmTrees$Writer" ⟨"PpmTrees$Writer", "span", "(III)V"⟩ ⟨"PpmTrees$Range", "span", "(III)V"⟩) ∈ Tg := mTg (mT2 164 rfl) rfl
set_option maxRecDepth 20000 in
theorem w_405 : (Cond.instanceMethod ⟨"PpmTrees$Range", "span", "(III)V"⟩) ∈ Tg := mTg (mT2 165 rfl) rfl
set_option maxRecDepth 20000 in
theorem w_406 : (Cond.code ⟨"PpmTrees$Range", "span", "(III)V"⟩ prog_5_method_3_code 5 (Option.none : Option FieldType)) ∈ Tg := mTg (mT2 166 rfl) rfl
set_option maxRecDepth 20000 in
theorem w_407 : (Cond.constant "PpmTrees$Range" 19 (32768 : Int32)) ∈ Tg := mTg (mT2 167 rfl) rfl
set_option maxRecDepth 20000 in
theorem w_408 : (Cond.methodLink "PpmTrees$Range" 20 ⟨"PpmTrees$Range", "widen", "(I)V"⟩) ∈ Tg := mTg (mT2 168 rfl) rfl
set_option maxRecDepth 20000 in
theorem w_410 : (Cond.instanceMethod ⟨"PpmTrees$Range", "widen", "(I)V"⟩) ∈ Tg := mTg (mT2 170 rfl) rfl
set_option maxRecDepth 20000 in
theorem w_411 : (Cond.code ⟨"PpmTrees$Range", "widen", "(I)V"⟩ prog_5_method_4_code 2 (Option.none : Option FieldType)) ∈ Tg := mTg (mT2 171 rfl) rfl
set_option maxRecDepth 20000 in
theorem w_412 : (Cond.methodLink "PpmTrees$Range" 25 ⟨"PpmTrees$Range", "moved", "(I)V"⟩) ∈ Tg := mTg (mT2 172 rfl) rfl
set_option maxRecDepth 20000 in
theorem w_414 : (Cond.sameMethod "PpmTrees$Range" "PpmTrees$Range" "moved" "(I)V") ∈ Tg := mTg (mT2 174 rfl) rfl
set_option maxRecDepth 20000 in
theorem w_415 : (Cond.selects "PpmTrees$Reader" ⟨"PpmTrees$Range", "moved", "(I)V"⟩ ⟨"PpmTrees$Reader", "moved", "(I)V"⟩) ∈ Tg := mTg (mT2 175 rfl) rfl
set_option maxRecDepth 20000 in
theorem w_416 : (Cond.instanceMethod ⟨"PpmTrees$Reader", "moved", "(I)V"⟩) ∈ Tg := mTg (mT2 176 rfl) rfl
set_option maxRecDepth 20000 in
theorem w_417 : (Cond.code ⟨"PpmTrees$Reader", "moved", "(I)V"⟩ prog_6_method_4_code 2 (Option.none : Option FieldType)) ∈ Tg := mTg (mT2 177 rfl) rfl
set_option maxRecDepth 20000 in
theorem w_418 : (Cond.methodLink "PpmTrees$Reader" 23 ⟨"PpmTrees$Reader", "next", "()I"⟩) ∈ Tg := mTg (mT2 178 rfl) rfl
set_option maxRecDepth 20000 in
theorem w_420 : (Cond.instanceMethod ⟨"PpmTrees$Reader", "next", "()I"⟩) ∈ Tg := mTg (mT2 180 rfl) rfl
set_option maxRecDepth 20000 in
theorem w_421 : (Cond.code ⟨"PpmTrees$Reader", "next", "()I"⟩ prog_6_method_3_code 2 (Option.some FieldType.int)) ∈ Tg := mTg (mT2 181 rfl) rfl
set_option maxRecDepth 20000 in
theorem w_422 : (Cond.selects "PpmTrees$Writer" ⟨"PpmTrees$Range", "moved", "(I)V"⟩ ⟨"PpmTrees$Writer", "moved", "(I)V"⟩) ∈ Tg := mTg (mT2 182 rfl) rfl
set_option maxRecDepth 20000 in
theorem w_423 : (Cond.instanceMethod ⟨"PpmTrees$Writer", "moved", "(I)V"⟩) ∈ Tg := mTg (mT2 183 rfl) rfl
set_option maxRecDepth 20000 in
theorem w_424 : (Cond.code ⟨"PpmTrees$Writer", "moved", "(I)V"⟩ prog_9_method_3_code 2 (Option.none : Option FieldType)) ∈ Tg := mTg (mT2 184 rfl) rfl
set_option maxRecDepth 20000 in
theorem w_425 : (Cond.constant "PpmTrees$Writer" 25 (32768 : Int32)) ∈ Tg := mTg (mT2 185 rfl) rfl
set_option maxRecDepth 20000 in
theorem w_426 : (Cond.methodLink "PpmTrees$Writer" 26 ⟨"PpmTrees$Writer", "put", "(I)V"⟩) ∈ Tg := mTg (mT2 186 rfl) rfl
set_option maxRecDepth 20000 in
theorem w_428 : (Cond.instanceMethod ⟨"PpmTrees$Writer", "put", "(I)V"⟩) ∈ Tg := mTg (mT2 188 rfl) rfl
set_option maxRecDepth 20000 in
theorem w_429 : (Cond.code ⟨"PpmTrees$Writer", "put", "(I)V"⟩ prog_9_method_4_code 2 (Option.none : Option FieldType)) ∈ Tg := mTg (mT2 189 rfl) rfl
set_option maxRecDepth 20000 in
theorem w_430 : (Cond.methodLink "PpmTrees$Writer" 30 ⟨"PpmTrees$Writer", "one", "(I)V"⟩) ∈ Tg := mTg (mT2 190 rfl) rfl
set_option maxRecDepth 20000 in
theorem w_432 : (Cond.instanceMethod ⟨"PpmTrees$Writer", "one", "(I)V"⟩) ∈ Tg := mTg (mT2 192 rfl) rfl
set_option maxRecDepth 20000 in
theorem w_433 : (Cond.code ⟨"PpmTrees$Writer", "one", "(I)V"⟩ prog_9_method_5_code 2 (Option.none : Option FieldType)) ∈ Tg := mTg (mT2 193 rfl) rfl
set_option maxRecDepth 20000 in
theorem w_434 : (Cond.constant "PpmTrees$Range" 24 (49152 : Int32)) ∈ Tg := mTg (mT2 194 rfl) rfl
set_option maxRecDepth 20000 in
theorem w_435 : (Cond.selects "PpmTrees$2" ⟨"PpmTrees$Taker", "take", "(III)V"⟩ ⟨"PpmTrees$2", "take", "(III)V"⟩) ∈ Tg := mTg (mT2 195 rfl) rfl
set_option maxRecDepth 20000 in
theorem w_437 : (Cond.instanceMethod ⟨"PpmTrees$2", "take", "(III)V"⟩) ∈ Tg := mTg (mT2 197 rfl) rfl
set_option maxRecDepth 20000 in
theorem w_439 : (Cond.code ⟨"PpmTrees$2", "take", "(III)V"⟩ prog_3_method_3_code 4 (Option.none : Option FieldType)) ∈ Tg := mTg (mT2 199 rfl) rfl
set_option maxRecDepth 20000 in
theorem w_440 : (Cond.methodLink "PpmTrees$2" 25 ⟨"PpmTrees$Reader", "span", "(III)V"⟩) ∈ Tg := mTg (mT2 200 rfl) rfl
set_option maxRecDepth 20000 in
theorem w_441 : (Cond.sameMethod "PpmTrees$Reader" "PpmTrees$Range" "span" "(III)V") ∈ Tg := mTg (mT2 201 rfl) rfl
set_option maxRecDepth 20000 in
theorem w_442 : (Cond.selects "PpmTrees$Reader" ⟨"PpmTrees$Reader", "span", "(III)V"⟩ ⟨"PpmTrees$Range", "span", "(III)V"⟩) ∈ Tg := mTg (mT2 202 rfl) rfl
set_option maxRecDepth 20000 in
theorem w_443 : (Cond.methodLink "PpmTrees$2" 33 ⟨"PpmTrees$Writer", "span", "(III)V"⟩) ∈ Tg := mTg (mT2 203 rfl) rfl
set_option maxRecDepth 20000 in
theorem w_444 : (Cond.selects "PpmTrees$Sum" ⟨"PpmTrees$Taker", "take", "(III)V"⟩ ⟨"PpmTrees$Sum", "take", "(III)V"⟩) ∈ Tg := mTg (mT2 204 rfl) rfl
set_option maxRecDepth 20000 in
theorem w_446 : (Cond.instanceMethod ⟨"PpmTrees$Sum", "take", "(III)V"⟩) ∈ Tg := mTg (mT2 206 rfl) rfl
set_option maxRecDepth 20000 in
theorem w_448 : (Cond.code ⟨"PpmTrees$Sum", "take", "(III)V"⟩ prog_7_method_3_code 5 (Option.none : Option FieldType)) ∈ Tg := mTg (mT2 208 rfl) rfl
set_option maxRecDepth 20000 in
theorem w_449 : (Cond.methodLink "PpmTrees" 63 ⟨"PpmTrees", "flat", "(ILPpmTrees$Taker;)I"⟩) ∈ Tg := mTg (mT2 209 rfl) rfl
set_option maxRecDepth 20000 in
theorem w_451 : (Cond.instanceMethod ⟨"PpmTrees", "flat", "(ILPpmTrees$Taker;)I"⟩) ∈ Tg := mTg (mT2 211 rfl) rfl
set_option maxRecDepth 20000 in
theorem w_452 : (Cond.code ⟨"PpmTrees", "flat", "(ILPpmTrees$Taker;)I"⟩ prog_1_method_4_code 7 (Option.some FieldType.int)) ∈ Tg := mTg (mT2 212 rfl) rfl
set_option maxRecDepth 20000 in
theorem w_453 : (Cond.methodLink "PpmTrees" 195 ⟨"PpmTrees$Model", "learns", "(II)Z"⟩) ∈ Tg := mTg (mT2 213 rfl) rfl
set_option maxRecDepth 20000 in
theorem w_454 : (Cond.instanceMethod ⟨"PpmTrees$Model", "learns", "(II)Z"⟩) ∈ Tg := mTg (mT2 214 rfl) rfl
set_option maxRecDepth 20000 in
theorem w_455 : (Cond.selects "PpmTrees$Model" ⟨"PpmTrees$Model", "learns", "(II)Z"⟩ ⟨"PpmTrees$Model", "learns", "(II)Z"⟩) ∈ Tg := mTg (mT2 215 rfl) rfl
set_option maxRecDepth 20000 in
theorem w_456 : (Cond.code ⟨"PpmTrees$Model", "learns", "(II)Z"⟩ prog_4_method_10_code 6 (Option.some FieldType.boolean)) ∈ Tg := mTg (mT2 216 rfl) rfl
set_option maxRecDepth 20000 in
theorem w_457 : (Cond.methodLink "PpmTrees$Model" 60 ⟨"java/lang/Math", "max", "(II)I"⟩) ∈ Tg := mTg (mT2 217 rfl) rfl
set_option maxRecDepth 20000 in
theorem w_458 : (Cond.methodLink "PpmTrees$Model" 65 ⟨"PpmTrees$Model", "context", "(I)I"⟩) ∈ Tg := mTg (mT2 218 rfl) rfl
set_option maxRecDepth 20000 in
theorem w_459 : (Cond.methodLink "PpmTrees$Model" 69 ⟨"PpmTrees$Model", "bear", "(II)V"⟩) ∈ Tg := mTg (mT2 219 rfl) rfl
set_option maxRecDepth 20000 in
theorem w_461 : (Cond.instanceMethod ⟨"PpmTrees$Model", "bear", "(II)V"⟩) ∈ Tg := mTg (mT2 221 rfl) rfl
set_option maxRecDepth 20000 in
theorem w_462 : (Cond.code ⟨"PpmTrees$Model", "bear", "(II)V"⟩ prog_4_method_8_code 6 (Option.none : Option FieldType)) ∈ Tg := mTg (mT2 222 rfl) rfl
set_option maxRecDepth 20000 in
theorem w_463 : (Cond.methodLink "PpmTrees$Model" 73 ⟨"PpmTrees$Model", "halve", "(I)V"⟩) ∈ Tg := mTg (mT2 223 rfl) rfl
set_option maxRecDepth 20000 in
theorem w_465 : (Cond.instanceMethod ⟨"PpmTrees$Model", "halve", "(I)V"⟩) ∈ Tg := mTg (mT2 225 rfl) rfl
set_option maxRecDepth 20000 in
theorem w_466 : (Cond.code ⟨"PpmTrees$Model", "halve", "(I)V"⟩ prog_4_method_9_code 4 (Option.none : Option FieldType)) ∈ Tg := mTg (mT2 226 rfl) rfl
set_option maxRecDepth 20000 in
theorem w_467 : (Cond.methodLink "PpmTrees$Model" 77 ⟨"PpmTrees$Model", "remember", "(I)V"⟩) ∈ Tg := mTg (mT2 227 rfl) rfl
set_option maxRecDepth 20000 in
theorem w_469 : (Cond.instanceMethod ⟨"PpmTrees$Model", "remember", "(I)V"⟩) ∈ Tg := mTg (mT2 229 rfl) rfl
set_option maxRecDepth 20000 in
theorem w_470 : (Cond.code ⟨"PpmTrees$Model", "remember", "(I)V"⟩ prog_4_method_11_code 2 (Option.none : Option FieldType)) ∈ Tg := mTg (mT2 230 rfl) rfl
set_option maxRecDepth 20000 in
theorem w_471 : (Cond.methodLink "PpmTrees$Model" 46 ⟨"java/lang/System", "arraycopy", "(Ljava/lang/Object;ILjava/lang/Object;II)V"⟩) ∈ Tg := mTg (mT2 231 rfl) rfl
set_option maxRecDepth 20000 in
theorem w_472 : (Cond.static ⟨"java/lang/System", "arraycopy", "(Ljava/lang/Object;ILjava/lang/Object;II)V"⟩) ∈ Tg := mTg (mT2 232 rfl) rfl
set_option maxRecDepth 20000 in
theorem w_473 : (Cond.native ⟨"java/lang/System", "arraycopy", "(Ljava/lang/Object;ILjava/lang/Object;II)V"⟩) ∈ Tg := mTg (mT2 233 rfl) rfl
set_option maxRecDepth 20000 in
theorem w_474 : (Cond.methodLink "PpmTrees" 199 ⟨"PpmTrees$Writer", "end", "()I"⟩) ∈ Tg := mTg (mT2 234 rfl) rfl
set_option maxRecDepth 20000 in
theorem w_475 : (Cond.instanceMethod ⟨"PpmTrees$Writer", "end", "()I"⟩) ∈ Tg := mTg (mT2 235 rfl) rfl
set_option maxRecDepth 20000 in
theorem w_476 : (Cond.selects "PpmTrees$Writer" ⟨"PpmTrees$Writer", "end", "()I"⟩ ⟨"PpmTrees$Writer", "end", "()I"⟩) ∈ Tg := mTg (mT2 236 rfl) rfl
set_option maxRecDepth 20000 in
theorem w_477 : (Cond.code ⟨"PpmTrees$Writer", "end", "()I"⟩ prog_9_method_6_code 1 (Option.some FieldType.int)) ∈ Tg := mTg (mT2 237 rfl) rfl
set_option maxRecDepth 20000 in
theorem w_478 : (Cond.methodLink "PpmTreesLaw" 62 ⟨"PpmTrees", "open", "()I"⟩) ∈ Tg := mTg (mT2 238 rfl) rfl
set_option maxRecDepth 20000 in
theorem w_479 : (Cond.instanceMethod ⟨"PpmTrees", "open", "()I"⟩) ∈ Tg := mTg (mT2 239 rfl) rfl
set_option maxRecDepth 20000 in
theorem w_480 : (Cond.selects "PpmTrees" ⟨"PpmTrees", "open", "()I"⟩ ⟨"PpmTrees", "open", "()I"⟩) ∈ Tg := mTg (mT3 0 rfl) rfl
set_option maxRecDepth 20000 in
theorem w_481 : (Cond.code ⟨"PpmTrees", "open", "()I"⟩ prog_1_method_16_code 6 (Option.some FieldType.int)) ∈ Tg := mTg (mT3 1 rfl) rfl
set_option maxRecDepth 20000 in
theorem w_482 : (Cond.methodLink "PpmTrees" 222 ⟨"PpmTrees$Model", "take", "(LPpmTrees$Model;)V"⟩) ∈ Tg := mTg (mT3 2 rfl) rfl
set_option maxRecDepth 20000 in
theorem w_483 : (Cond.instanceMethod ⟨"PpmTrees$Model", "take", "(LPpmTrees$Model;)V"⟩) ∈ Tg := mTg (mT3 3 rfl) rfl
set_option maxRecDepth 20000 in
theorem w_484 : (Cond.selects "PpmTrees$Model" ⟨"PpmTrees$Model", "take", "(LPpmTrees$Model;)V"⟩ ⟨"PpmTrees$Model", "take", "(LPpmTrees$Model;)V"⟩) ∈ Tg := mTg (mT3 4 rfl) rfl
set_option maxRecDepth 20000 in
theorem w_485 : (Cond.code ⟨"PpmTrees$Model", "take", "(LPpmTrees$Model;)V"⟩ prog_4_method_3_code 2 (Option.none : Option FieldType)) ∈ Tg := mTg (mT3 5 rfl) rfl
set_option maxRecDepth 20000 in
theorem w_486 : (Cond.methodLink "PpmTrees" 225 ⟨"PpmTrees$Reader", "begin", "()V"⟩) ∈ Tg := mTg (mT3 6 rfl) rfl
set_option maxRecDepth 20000 in
theorem w_487 : (Cond.instanceMethod ⟨"PpmTrees$Reader", "begin", "()V"⟩) ∈ Tg := mTg (mT3 7 rfl) rfl
set_option maxRecDepth 20000 in
theorem w_488 : (Cond.selects "PpmTrees$Reader" ⟨"PpmTrees$Reader", "begin", "()V"⟩ ⟨"PpmTrees$Reader", "begin", "()V"⟩) ∈ Tg := mTg (mT3 8 rfl) rfl
set_option maxRecDepth 20000 in
theorem w_489 : (Cond.code ⟨"PpmTrees$Reader", "begin", "()V"⟩ prog_6_method_2_code 2 (Option.none : Option FieldType)) ∈ Tg := mTg (mT3 9 rfl) rfl
set_option maxRecDepth 20000 in
theorem w_490 : (Cond.methodLink "PpmTrees$Reader" 13 ⟨"PpmTrees$Range", "begin", "()V"⟩) ∈ Tg := mTg (mT3 10 rfl) rfl
set_option maxRecDepth 20000 in
theorem w_491 : (Cond.methodLink "PpmTrees" 226 ⟨"PpmTrees$Reader", "isBeyond", "()Z"⟩) ∈ Tg := mTg (mT3 11 rfl) rfl
set_option maxRecDepth 20000 in
theorem w_492 : (Cond.instanceMethod ⟨"PpmTrees$Reader", "isBeyond", "()Z"⟩) ∈ Tg := mTg (mT3 12 rfl) rfl
set_option maxRecDepth 20000 in
theorem w_493 : (Cond.selects "PpmTrees$Reader" ⟨"PpmTrees$Reader", "isBeyond", "()Z"⟩ ⟨"PpmTrees$Reader", "isBeyond", "()Z"⟩) ∈ Tg := mTg (mT3 13 rfl) rfl
set_option maxRecDepth 20000 in
theorem w_494 : (Cond.code ⟨"PpmTrees$Reader", "isBeyond", "()Z"⟩ prog_6_method_6_code 1 (Option.some FieldType.boolean)) ∈ Tg := mTg (mT3 14 rfl) rfl
set_option maxRecDepth 20000 in
theorem w_495 : (Cond.methodLink "PpmTrees" 230 ⟨"PpmTrees", "isAsWritten", "()Z"⟩) ∈ Tg := mTg (mT3 15 rfl) rfl
set_option maxRecDepth 20000 in
theorem w_497 : (Cond.instanceMethod ⟨"PpmTrees", "isAsWritten", "()Z"⟩) ∈ Tg := mTg (mT3 17 rfl) rfl
set_option maxRecDepth 20000 in
theorem w_498 : (Cond.code ⟨"PpmTrees", "isAsWritten", "()Z"⟩ prog_1_method_17_code 3 (Option.some FieldType.boolean)) ∈ Tg := mTg (mT3 18 rfl) rfl
set_option maxRecDepth 20000 in
theorem w_499 : (Cond.methodLink "PpmTrees" 233 ⟨"java/lang/System", "arraycopy", "(Ljava/lang/Object;ILjava/lang/Object;II)V"⟩) ∈ Tg := mTg (mT3 19 rfl) rfl
set_option maxRecDepth 20000 in
theorem w_500 : (Cond.methodLink "PpmTreesLaw" 66 ⟨"PpmTrees", "place", "()I"⟩) ∈ Tg := mTg (mT3 20 rfl) rfl
set_option maxRecDepth 20000 in
theorem w_501 : (Cond.instanceMethod ⟨"PpmTrees", "place", "()I"⟩) ∈ Tg := mTg (mT3 21 rfl) rfl
set_option maxRecDepth 20000 in
theorem w_502 : (Cond.selects "PpmTrees" ⟨"PpmTrees", "place", "()I"⟩ ⟨"PpmTrees", "place", "()I"⟩) ∈ Tg := mTg (mT3 22 rfl) rfl
set_option maxRecDepth 20000 in
theorem w_503 : (Cond.code ⟨"PpmTrees", "place", "()I"⟩ prog_1_method_18_code 1 (Option.some FieldType.int)) ∈ Tg := mTg (mT3 23 rfl) rfl
set_option maxRecDepth 20000 in
theorem w_504 : (Cond.methodLink "PpmTreesLaw" 70 ⟨"PpmTrees", "told", "(I)I"⟩) ∈ Tg := mTg (mT3 24 rfl) rfl
set_option maxRecDepth 20000 in
theorem w_505 : (Cond.instanceMethod ⟨"PpmTrees", "told", "(I)I"⟩) ∈ Tg := mTg (mT3 25 rfl) rfl
set_option maxRecDepth 20000 in
theorem w_506 : (Cond.selects "PpmTrees" ⟨"PpmTrees", "told", "(I)I"⟩ ⟨"PpmTrees", "told", "(I)I"⟩) ∈ Tg := mTg (mT3 26 rfl) rfl
set_option maxRecDepth 20000 in
theorem w_507 : (Cond.code ⟨"PpmTrees", "told", "(I)I"⟩ prog_1_method_19_code 2 (Option.some FieldType.int)) ∈ Tg := mTg (mT3 27 rfl) rfl
set_option maxRecDepth 20000 in
theorem w_508 : (Cond.methodLink "PpmTreesLaw" 74 ⟨"PpmTrees", "sign", "(II)I"⟩) ∈ Tg := mTg (mT3 28 rfl) rfl
set_option maxRecDepth 20000 in
theorem w_509 : (Cond.instanceMethod ⟨"PpmTrees", "sign", "(II)I"⟩) ∈ Tg := mTg (mT3 29 rfl) rfl
set_option maxRecDepth 20000 in
theorem w_510 : (Cond.selects "PpmTrees" ⟨"PpmTrees", "sign", "(II)I"⟩ ⟨"PpmTrees", "sign", "(II)I"⟩) ∈ Tg := mTg (mT3 30 rfl) rfl
set_option maxRecDepth 20000 in
theorem w_511 : (Cond.code ⟨"PpmTrees", "sign", "(II)I"⟩ prog_1_method_20_code 3 (Option.some FieldType.int)) ∈ Tg := mTg (mT3 31 rfl) rfl
set_option maxRecDepth 20000 in
theorem w_512 : (Cond.methodLink "PpmTreesLaw" 78 ⟨"PpmTrees", "nodes", "(I)I"⟩) ∈ Tg := mTg (mT3 32 rfl) rfl
set_option maxRecDepth 20000 in
theorem w_513 : (Cond.instanceMethod ⟨"PpmTrees", "nodes", "(I)I"⟩) ∈ Tg := mTg (mT3 33 rfl) rfl
set_option maxRecDepth 20000 in
theorem w_514 : (Cond.selects "PpmTrees" ⟨"PpmTrees", "nodes", "(I)I"⟩ ⟨"PpmTrees", "nodes", "(I)I"⟩) ∈ Tg := mTg (mT3 34 rfl) rfl
set_option maxRecDepth 20000 in
theorem w_515 : (Cond.code ⟨"PpmTrees", "nodes", "(I)I"⟩ prog_1_method_22_code 2 (Option.some FieldType.int)) ∈ Tg := mTg (mT3 35 rfl) rfl
set_option maxRecDepth 20000 in
theorem w_516 : (Cond.methodLink "PpmTrees" 239 ⟨"PpmTrees", "isEnd", "(I)Z"⟩) ∈ Tg := mTg (mT3 36 rfl) rfl
set_option maxRecDepth 20000 in
theorem w_517 : (Cond.static ⟨"PpmTrees", "isEnd", "(I)Z"⟩) ∈ Tg := mTg (mT3 37 rfl) rfl
set_option maxRecDepth 20000 in
theorem w_518 : (Cond.code ⟨"PpmTrees", "isEnd", "(I)Z"⟩ prog_1_method_21_code 1 (Option.some FieldType.boolean)) ∈ Tg := mTg (mT3 38 rfl) rfl
set_option maxRecDepth 20000 in
theorem w_519 : (Cond.methodLink "PpmTreesLaw" 89 ⟨"PpmTrees", "latest", "(II)I"⟩) ∈ Tg := mTg (mT3 39 rfl) rfl
set_option maxRecDepth 20000 in
theorem w_520 : (Cond.instanceMethod ⟨"PpmTrees", "latest", "(II)I"⟩) ∈ Tg := mTg (mT3 40 rfl) rfl
set_option maxRecDepth 20000 in
theorem w_521 : (Cond.selects "PpmTrees" ⟨"PpmTrees", "latest", "(II)I"⟩ ⟨"PpmTrees", "latest", "(II)I"⟩) ∈ Tg := mTg (mT3 41 rfl) rfl
set_option maxRecDepth 20000 in
theorem w_522 : (Cond.code ⟨"PpmTrees", "latest", "(II)I"⟩ prog_1_method_24_code 3 (Option.some FieldType.int)) ∈ Tg := mTg (mT3 42 rfl) rfl
set_option maxRecDepth 20000 in
theorem w_523 : (Cond.methodLink "PpmTreesLaw" 93 ⟨"PpmTrees", "restarted", "(I)I"⟩) ∈ Tg := mTg (mT3 43 rfl) rfl
set_option maxRecDepth 20000 in
theorem w_524 : (Cond.instanceMethod ⟨"PpmTrees", "restarted", "(I)I"⟩) ∈ Tg := mTg (mT3 44 rfl) rfl
set_option maxRecDepth 20000 in
theorem w_525 : (Cond.selects "PpmTrees" ⟨"PpmTrees", "restarted", "(I)I"⟩ ⟨"PpmTrees", "restarted", "(I)I"⟩) ∈ Tg := mTg (mT3 45 rfl) rfl
set_option maxRecDepth 20000 in
theorem w_526 : (Cond.code ⟨"PpmTrees", "restarted", "(I)I"⟩ prog_1_method_25_code 2 (Option.some FieldType.int)) ∈ Tg := mTg (mT3 46 rfl) rfl
set_option maxRecDepth 20000 in
theorem w_527 : (Cond.methodLink "PpmTreesLaw" 97 ⟨"PpmTrees", "reset", "(I)I"⟩) ∈ Tg := mTg (mT3 47 rfl) rfl
set_option maxRecDepth 20000 in
theorem w_528 : (Cond.instanceMethod ⟨"PpmTrees", "reset", "(I)I"⟩) ∈ Tg := mTg (mT3 48 rfl) rfl
set_option maxRecDepth 20000 in
theorem w_529 : (Cond.selects "PpmTrees" ⟨"PpmTrees", "reset", "(I)I"⟩ ⟨"PpmTrees", "reset", "(I)I"⟩) ∈ Tg := mTg (mT3 49 rfl) rfl
set_option maxRecDepth 20000 in
theorem w_530 : (Cond.code ⟨"PpmTrees", "reset", "(I)I"⟩ prog_1_method_26_code 3 (Option.some FieldType.int)) ∈ Tg := mTg (mT3 50 rfl) rfl
set_option maxRecDepth 20000 in
theorem w_531 : (Cond.methodLink "PpmTrees" 254 ⟨"PpmTrees$Model", "begin", "()V"⟩) ∈ Tg := mTg (mT3 51 rfl) rfl
set_option maxRecDepth 20000 in
theorem w_532 : (Cond.methodLink "PpmTreesLaw" 101 ⟨"PpmTrees", "equal", "()I"⟩) ∈ Tg := mTg (mT3 52 rfl) rfl
set_option maxRecDepth 20000 in
theorem w_533 : (Cond.instanceMethod ⟨"PpmTrees", "equal", "()I"⟩) ∈ Tg := mTg (mT3 53 rfl) rfl
set_option maxRecDepth 20000 in
theorem w_534 : (Cond.selects "PpmTrees" ⟨"PpmTrees", "equal", "()I"⟩ ⟨"PpmTrees", "equal", "()I"⟩) ∈ Tg := mTg (mT3 54 rfl) rfl
set_option maxRecDepth 20000 in
theorem w_535 : (Cond.code ⟨"PpmTrees", "equal", "()I"⟩ prog_1_method_27_code 1 (Option.some FieldType.int)) ∈ Tg := mTg (mT3 55 rfl) rfl
set_option maxRecDepth 20000 in
theorem w_536 : (Cond.methodLink "PpmTrees" 255 ⟨"PpmTrees$Model", "isLike", "(LPpmTrees$Model;)Z"⟩) ∈ Tg := mTg (mT3 56 rfl) rfl
set_option maxRecDepth 20000 in
theorem w_537 : (Cond.instanceMethod ⟨"PpmTrees$Model", "isLike", "(LPpmTrees$Model;)Z"⟩) ∈ Tg := mTg (mT3 57 rfl) rfl
set_option maxRecDepth 20000 in
theorem w_538 : (Cond.selects "PpmTrees$Model" ⟨"PpmTrees$Model", "isLike", "(LPpmTrees$Model;)Z"⟩ ⟨"PpmTrees$Model", "isLike", "(LPpmTrees$Model;)Z"⟩) ∈ Tg := mTg (mT3 58 rfl) rfl
set_option maxRecDepth 20000 in
theorem w_539 : (Cond.code ⟨"PpmTrees$Model", "isLike", "(LPpmTrees$Model;)Z"⟩ prog_4_method_5_code 2 (Option.some FieldType.boolean)) ∈ Tg := mTg (mT3 59 rfl) rfl
set_option maxRecDepth 20000 in
theorem w_540 : (Cond.methodLink "PpmTrees$Model" 52 ⟨"PpmTrees$Model", "areLike", "([I[II)Z"⟩) ∈ Tg := mTg (mT3 60 rfl) rfl
set_option maxRecDepth 20000 in
theorem w_541 : (Cond.static ⟨"PpmTrees$Model", "areLike", "([I[II)Z"⟩) ∈ Tg := mTg (mT3 61 rfl) rfl
set_option maxRecDepth 20000 in
theorem w_542 : (Cond.code ⟨"PpmTrees$Model", "areLike", "([I[II)Z"⟩ prog_4_method_4_code 4 (Option.some FieldType.boolean)) ∈ Tg := mTg (mT3 62 rfl) rfl
set_option maxRecDepth 20000 in
theorem w_543 : (Cond.methodLink "PpmTreesLaw" 105 ⟨"PpmTrees", "save", "(I)I"⟩) ∈ Tg := mTg (mT3 63 rfl) rfl
set_option maxRecDepth 20000 in
theorem w_544 : (Cond.instanceMethod ⟨"PpmTrees", "save", "(I)I"⟩) ∈ Tg := mTg (mT3 64 rfl) rfl
set_option maxRecDepth 20000 in
theorem w_545 : (Cond.selects "PpmTrees" ⟨"PpmTrees", "save", "(I)I"⟩ ⟨"PpmTrees", "save", "(I)I"⟩) ∈ Tg := mTg (mT3 65 rfl) rfl
set_option maxRecDepth 20000 in
theorem w_546 : (Cond.code ⟨"PpmTrees", "save", "(I)I"⟩ prog_1_method_28_code 3 (Option.some FieldType.int)) ∈ Tg := mTg (mT3 66 rfl) rfl
set_option maxRecDepth 20000 in
theorem w_548 : (Cond.methodLink "PpmTrees" 259 ⟨"java/util/List", "size", "()I"⟩) ∈ Tg := mTg (mT3 68 rfl) rfl
set_option maxRecDepth 20000 in
theorem w_552 : (Cond.selects "java/util/ArrayList" ⟨"java/util/List", "size", "()I"⟩ ⟨"java/util/ArrayList", "size", "()I"⟩) ∈ Tg := mTg (mT3 72 rfl) rfl
set_option maxRecDepth 20000 in
theorem w_554 : (Cond.instanceMethod ⟨"java/util/ArrayList", "size", "()I"⟩) ∈ Tg := mTg (mT3 74 rfl) rfl
set_option maxRecDepth 20000 in
theorem w_556 : (Cond.code ⟨"java/util/ArrayList", "size", "()I"⟩ prog_25_method_8_code 1 (Option.some FieldType.int)) ∈ Tg := mTg (mT3 76 rfl) rfl
set_option maxRecDepth 20000 in
theorem w_558 : (Cond.methodLink "PpmTrees" 269 ⟨"java/util/List", "add", "(Ljava/lang/Object;)Z"⟩) ∈ Tg := mTg (mT3 78 rfl) rfl
set_option maxRecDepth 20000 in
theorem w_561 : (Cond.selects "java/util/ArrayList" ⟨"java/util/List", "add", "(Ljava/lang/Object;)Z"⟩ ⟨"java/util/ArrayList", "add", "(Ljava/lang/Object;)Z"⟩) ∈ Tg := mTg (mT3 81 rfl) rfl
set_option maxRecDepth 20000 in
theorem w_563 : (Cond.instanceMethod ⟨"java/util/ArrayList", "add", "(Ljava/lang/Object;)Z"⟩) ∈ Tg := mTg (mT3 83 rfl) rfl
set_option maxRecDepth 20000 in
theorem w_565 : (Cond.code ⟨"java/util/ArrayList", "add", "(Ljava/lang/Object;)Z"⟩ prog_25_method_25_code 2 (Option.some FieldType.boolean)) ∈ Tg := mTg (mT3 85 rfl) rfl
set_option maxRecDepth 20000 in
theorem w_566 : (Cond.methodLink "java/util/ArrayList" 131 ⟨"java/util/ArrayList", "add", "(Ljava/lang/Object;[Ljava/lang/Object;I)V"⟩) ∈ Tg := mTg (mT3 86 rfl) rfl
set_option maxRecDepth 20000 in
theorem w_568 : (Cond.instanceMethod ⟨"java/util/ArrayList", "add", "(Ljava/lang/Object;[Ljava/lang/Object;I)V"⟩) ∈ Tg := mTg (mT3 88 rfl) rfl
set_option maxRecDepth 20000 in
theorem w_569 : (Cond.code ⟨"java/util/ArrayList", "add", "(Ljava/lang/Object;[Ljava/lang/Object;I)V"⟩ prog_25_method_24_code 4 (Option.none : Option FieldType)) ∈ Tg := mTg (mT3 89 rfl) rfl
set_option maxRecDepth 20000 in
theorem w_570 : (Cond.methodLink "java/util/ArrayList" 129 ⟨"java/util/ArrayList", "grow", "()[Ljava/lang/Object;"⟩) ∈ Tg := mTg (mT3 90 rfl) rfl
set_option maxRecDepth 20000 in
theorem w_572 : (Cond.instanceMethod ⟨"java/util/ArrayList", "grow", "()[Ljava/lang/Object;"⟩) ∈ Tg := mTg (mT3 92 rfl) rfl
set_option maxRecDepth 20000 in
theorem w_573 : (Cond.code ⟨"java/util/ArrayList", "grow", "()[Ljava/lang/Object;"⟩ prog_25_method_7_code 1 (Option.some (FieldType.array (FieldType.object "java/lang/Object")))) ∈ Tg := mTg (mT3 93 rfl) rfl
set_option maxRecDepth 20000 in
theorem w_574 : (Cond.methodLink "java/util/ArrayList" 69 ⟨"java/util/ArrayList", "grow", "(I)[Ljava/lang/Object;"⟩) ∈ Tg := mTg (mT3 94 rfl) rfl
set_option maxRecDepth 20000 in
theorem w_576 : (Cond.instanceMethod ⟨"java/util/ArrayList", "grow", "(I)[Ljava/lang/Object;"⟩) ∈ Tg := mTg (mT3 96 rfl) rfl
set_option maxRecDepth 20000 in
theorem w_577 : (Cond.code ⟨"java/util/ArrayList", "grow", "(I)[Ljava/lang/Object;"⟩ prog_25_method_6_code 4 (Option.some (FieldType.array (FieldType.object "java/lang/Object")))) ∈ Tg := mTg (mT3 97 rfl) rfl
set_option maxRecDepth 20000 in
theorem w_578 : (Cond.methodLink "java/util/ArrayList" 73 ⟨"jdk/internal/util/ArraysSupport", "newLength", "(III)I"⟩) ∈ Tg := mTg (mT3 98 rfl) rfl
set_option maxRecDepth 20000 in
theorem w_579 : (Cond.static ⟨"jdk/internal/util/ArraysSupport", "newLength", "(III)I"⟩) ∈ Tg := mTg (mT3 99 rfl) rfl
set_option maxRecDepth 20000 in
theorem w_580 : (Cond.code ⟨"jdk/internal/util/ArraysSupport", "newLength", "(III)I"⟩ prog_32_method_27_code 4 (Option.some FieldType.int)) ∈ Tg := mTg (mT3 100 rfl) rfl
set_option maxRecDepth 20000 in
theorem w_581 : (Cond.methodLink "jdk/internal/util/ArraysSupport" 194 ⟨"java/lang/Math", "max", "(II)I"⟩) ∈ Tg := mTg (mT3 101 rfl) rfl
set_option maxRecDepth 20000 in
theorem w_582 : (Cond.constant "jdk/internal/util/ArraysSupport" 200 (2147483639 : Int32)) ∈ Tg := mTg (mT3 102 rfl) rfl
set_option maxRecDepth 20000 in
theorem w_583 : (Cond.methodLink "jdk/internal/util/ArraysSupport" 201 ⟨"jdk/internal/util/ArraysSupport", "hugeLength", "(II)I"⟩) ∈ Tg := mTg (mT3 103 rfl) rfl
set_option maxRecDepth 20000 in
theorem w_584 : (Cond.static ⟨"jdk/internal/util/ArraysSupport", "hugeLength", "(II)I"⟩) ∈ Tg := mTg (mT3 104 rfl) rfl
set_option maxRecDepth 20000 in
theorem w_585 : (Cond.code ⟨"jdk/internal/util/ArraysSupport", "hugeLength", "(II)I"⟩ prog_32_method_28_code 3 (Option.some FieldType.int)) ∈ Tg := mTg (mT3 105 rfl) rfl
set_option maxRecDepth 20000 in
theorem w_586 : (Cond.methodLink "java/util/ArrayList" 66 ⟨"java/util/Arrays", "copyOf", "([Ljava/lang/Object;I)[Ljava/lang/Object;"⟩) ∈ Tg := mTg (mT3 106 rfl) rfl
set_option maxRecDepth 20000 in
theorem w_587 : (Cond.static ⟨"java/util/Arrays", "copyOf", "([Ljava/lang/Object;I)[Ljava/lang/Object;"⟩) ∈ Tg := mTg (mT3 107 rfl) rfl
set_option maxRecDepth 20000 in
theorem w_588 : (Cond.code ⟨"java/util/Arrays", "copyOf", "([Ljava/lang/Object;I)[Ljava/lang/Object;"⟩ prog_26_method_119_code 2 (Option.some (FieldType.array (FieldType.object "java/lang/Object")))) ∈ Tg := mTg (mT3 108 rfl) rfl
set_option maxRecDepth 20000 in
theorem w_589 : (Cond.methodLink "java/util/Arrays" 86 ⟨"java/lang/Object", "getClass", "()Ljava/lang/Class;"⟩) ∈ Tg := mTg (mT3 109 rfl) rfl
set_option maxRecDepth 20000 in
theorem w_590 : (Cond.instanceMethod ⟨"java/lang/Object", "getClass", "()Ljava/lang/Class;"⟩) ∈ Tg := mTg (mT3 110 rfl) rfl
set_option maxRecDepth 20000 in
theorem w_591 : (Cond.sameMethod "java/lang/Object" "java/lang/Object" "getClass" "()Ljava/lang/Class;") ∈ Tg := mTg (mT3 111 rfl) rfl
set_option maxRecDepth 20000 in
theorem w_592 : (Cond.selects "PpmTrees" ⟨"java/lang/Object", "getClass", "()Ljava/lang/Class;"⟩ ⟨"java/lang/Object", "getClass", "()Ljava/lang/Class;"⟩) ∈ Tg := mTg (mT3 112 rfl) rfl
set_option maxRecDepth 20000 in
theorem w_593 : (Cond.selects "PpmTrees$1" ⟨"java/lang/Object", "getClass", "()Ljava/lang/Class;"⟩ ⟨"java/lang/Object", "getClass", "()Ljava/lang/Class;"⟩) ∈ Tg := mTg (mT3 113 rfl) rfl
set_option maxRecDepth 20000 in
theorem w_594 : (Cond.selects "PpmTrees$2" ⟨"java/lang/Object", "getClass", "()Ljava/lang/Class;"⟩ ⟨"java/lang/Object", "getClass", "()Ljava/lang/Class;"⟩) ∈ Tg := mTg (mT3 114 rfl) rfl
set_option maxRecDepth 20000 in
theorem w_595 : (Cond.selects "PpmTrees$Model" ⟨"java/lang/Object", "getClass", "()Ljava/lang/Class;"⟩ ⟨"java/lang/Object", "getClass", "()Ljava/lang/Class;"⟩) ∈ Tg := mTg (mT3 115 rfl) rfl
set_option maxRecDepth 20000 in
theorem w_596 : (Cond.selects "PpmTrees$Reader" ⟨"java/lang/Object", "getClass", "()Ljava/lang/Class;"⟩ ⟨"java/lang/Object", "getClass", "()Ljava/lang/Class;"⟩) ∈ Tg := mTg (mT3 116 rfl) rfl
set_option maxRecDepth 20000 in
theorem w_597 : (Cond.selects "PpmTrees$Sum" ⟨"java/lang/Object", "getClass", "()Ljava/lang/Class;"⟩ ⟨"java/lang/Object", "getClass", "()Ljava/lang/Class;"⟩) ∈ Tg := mTg (mT3 117 rfl) rfl
set_option maxRecDepth 20000 in
theorem w_598 : (Cond.selects "PpmTrees$Writer" ⟨"java/lang/Object", "getClass", "()Ljava/lang/Class;"⟩ ⟨"java/lang/Object", "getClass", "()Ljava/lang/Class;"⟩) ∈ Tg := mTg (mT3 118 rfl) rfl
set_option maxRecDepth 20000 in
theorem w_599 : (Cond.selects "PpmTreesModel" ⟨"java/lang/Object", "getClass", "()Ljava/lang/Class;"⟩ ⟨"java/lang/Object", "getClass", "()Ljava/lang/Class;"⟩) ∈ Tg := mTg (mT3 119 rfl) rfl
set_option maxRecDepth 20000 in
theorem w_600 : (Cond.selects "java/lang/ArrayIndexOutOfBoundsException" ⟨"java/lang/Object", "getClass", "()Ljava/lang/Class;"⟩ ⟨"java/lang/Object", "getClass", "()Ljava/lang/Class;"⟩) ∈ Tg := mTg (mT3 120 rfl) rfl
set_option maxRecDepth 20000 in
theorem w_601 : (Cond.selects "java/util/ArrayList" ⟨"java/lang/Object", "getClass", "()Ljava/lang/Class;"⟩ ⟨"java/lang/Object", "getClass", "()Ljava/lang/Class;"⟩) ∈ Tg := mTg (mT3 121 rfl) rfl
set_option maxRecDepth 20000 in
theorem w_602 : (Cond.native ⟨"java/lang/Object", "getClass", "()Ljava/lang/Class;"⟩) ∈ Tg := mTg (mT3 122 rfl) rfl
set_option maxRecDepth 20000 in
theorem w_603 : (Cond.methodLink "java/util/Arrays" 300 ⟨"java/util/Arrays", "copyOf", "([Ljava/lang/Object;ILjava/lang/Class;)[Ljava/lang/Object;"⟩) ∈ Tg := mTg (mT3 123 rfl) rfl
set_option maxRecDepth 20000 in
theorem w_604 : (Cond.static ⟨"java/util/Arrays", "copyOf", "([Ljava/lang/Object;ILjava/lang/Class;)[Ljava/lang/Object;"⟩) ∈ Tg := mTg (mT3 124 rfl) rfl
set_option maxRecDepth 20000 in
theorem w_605 : (Cond.code ⟨"java/util/Arrays", "copyOf", "([Ljava/lang/Object;ILjava/lang/Class;)[Ljava/lang/Object;"⟩ prog_26_method_120_code 4 (Option.some (FieldType.array (FieldType.object "java/lang/Object")))) ∈ Tg := mTg (mT3 125 rfl) rfl
set_option maxRecDepth 20000 in
theorem w_606 : (Cond.classLink "java/util/Arrays" 110 "[Ljava/lang/Object;") ∈ Tg := mTg (mT3 126 rfl) rfl
set_option maxRecDepth 20000 in
theorem w_608 : (Cond.classLink "java/util/Arrays" 2 "java/lang/Object") ∈ Tg := mTg (mT3 128 rfl) rfl
set_option maxRecDepth 20000 in
theorem w_609 : (Cond.methodLink "java/util/Arrays" 304 ⟨"java/lang/Math", "min", "(II)I"⟩) ∈ Tg := mTg (mT3 129 rfl) rfl
set_option maxRecDepth 20000 in
theorem w_610 : (Cond.methodLink "java/util/Arrays" 150 ⟨"java/lang/System", "arraycopy", "(Ljava/lang/Object;ILjava/lang/Object;II)V"⟩) ∈ Tg := mTg (mT3 130 rfl) rfl
set_option maxRecDepth 20000 in
theorem w_611 : (Cond.methodLink "java/util/ArrayList" 79 ⟨"java/lang/Math", "max", "(II)I"⟩) ∈ Tg := mTg (mT3 131 rfl) rfl
set_option maxRecDepth 20000 in
theorem w_612 : (Cond.classLink "java/util/ArrayList" 7 "java/lang/Object") ∈ Tg := mTg (mT3 132 rfl) rfl
set_option maxRecDepth 20000 in
theorem w_613 : (Cond.methodLink "PpmTreesLaw" 109 ⟨"PpmTrees", "restore", "(II)I"⟩) ∈ Tg := mTg (mT3 133 rfl) rfl
set_option maxRecDepth 20000 in
theorem w_614 : (Cond.instanceMethod ⟨"PpmTrees", "restore", "(II)I"⟩) ∈ Tg := mTg (mT3 134 rfl) rfl
set_option maxRecDepth 20000 in
theorem w_615 : (Cond.selects "PpmTrees" ⟨"PpmTrees", "restore", "(II)I"⟩ ⟨"PpmTrees", "restore", "(II)I"⟩) ∈ Tg := mTg (mT3 135 rfl) rfl
set_option maxRecDepth 20000 in
theorem w_616 : (Cond.code ⟨"PpmTrees", "restore", "(II)I"⟩ prog_1_method_29_code 3 (Option.some FieldType.int)) ∈ Tg := mTg (mT3 136 rfl) rfl
set_option maxRecDepth 20000 in
theorem w_618 : (Cond.methodLink "PpmTrees" 273 ⟨"java/util/List", "get", "(I)Ljava/lang/Object;"⟩) ∈ Tg := mTg (mT3 138 rfl) rfl
set_option maxRecDepth 20000 in
theorem w_621 : (Cond.selects "java/util/ArrayList" ⟨"java/util/List", "get", "(I)Ljava/lang/Object;"⟩ ⟨"java/util/ArrayList", "get", "(I)Ljava/lang/Object;"⟩) ∈ Tg := mTg (mT3 141 rfl) rfl
set_option maxRecDepth 20000 in
theorem w_623 : (Cond.instanceMethod ⟨"java/util/ArrayList", "get", "(I)Ljava/lang/Object;"⟩) ∈ Tg := mTg (mT3 143 rfl) rfl
set_option maxRecDepth 20000 in
theorem w_625 : (Cond.code ⟨"java/util/ArrayList", "get", "(I)Ljava/lang/Object;"⟩ prog_25_method_20_code 2 (Option.some (FieldType.object "java/lang/Object"))) ∈ Tg := mTg (mT3 145 rfl) rfl
set_option maxRecDepth 20000 in
theorem w_626 : (Cond.methodLink "java/util/ArrayList" 118 ⟨"java/util/Objects", "checkIndex", "(II)I"⟩) ∈ Tg := mTg (mT3 146 rfl) rfl
set_option maxRecDepth 20000 in
theorem w_627 : (Cond.static ⟨"java/util/Objects", "checkIndex", "(II)I"⟩) ∈ Tg := mTg (mT3 147 rfl) rfl
set_option maxRecDepth 20000 in
theorem w_628 : (Cond.code ⟨"java/util/Objects", "checkIndex", "(II)I"⟩ prog_29_method_17_code 2 (Option.some FieldType.int)) ∈ Tg := mTg (mT3 148 rfl) rfl
set_option maxRecDepth 20000 in
theorem w_629 : (Cond.methodLink "java/util/Objects" 105 ⟨"jdk/internal/util/Preconditions", "checkIndex", "(IILjava/util/function/BiFunction;)I"⟩) ∈ Tg := mTg (mT3 149 rfl) rfl
set_option maxRecDepth 20000 in
theorem w_630 : (Cond.static ⟨"jdk/internal/util/Preconditions", "checkIndex", "(IILjava/util/function/BiFunction;)I"⟩) ∈ Tg := mTg (mT3 150 rfl) rfl
set_option maxRecDepth 20000 in
theorem w_631 : (Cond.code ⟨"jdk/internal/util/Preconditions", "checkIndex", "(IILjava/util/function/BiFunction;)I"⟩ prog_33_method_11_code 3 (Option.some FieldType.int)) ∈ Tg := mTg (mT3 151 rfl) rfl
set_option maxRecDepth 20000 in
theorem w_632 : (Cond.methodLink "java/util/ArrayList" 123 ⟨"java/util/ArrayList", "elementData", "(I)Ljava/lang/Object;"⟩) ∈ Tg := mTg (mT3 152 rfl) rfl
set_option maxRecDepth 20000 in
theorem w_633 : (Cond.instanceMethod ⟨"java/util/ArrayList", "elementData", "(I)Ljava/lang/Object;"⟩) ∈ Tg := mTg (mT3 153 rfl) rfl
set_option maxRecDepth 20000 in
theorem w_634 : (Cond.selects "java/util/ArrayList" ⟨"java/util/ArrayList", "elementData", "(I)Ljava/lang/Object;"⟩ ⟨"java/util/ArrayList", "elementData", "(I)Ljava/lang/Object;"⟩) ∈ Tg := mTg (mT3 154 rfl) rfl
set_option maxRecDepth 20000 in
theorem w_635 : (Cond.code ⟨"java/util/ArrayList", "elementData", "(I)Ljava/lang/Object;"⟩ prog_25_method_18_code 2 (Option.some (FieldType.object "java/lang/Object"))) ∈ Tg := mTg (mT3 155 rfl) rfl
set_option maxRecDepth 20000 in
theorem w_636 : (Cond.methodLink "PpmTreesLaw" 113 ⟨"PpmTrees", "forget", "()I"⟩) ∈ Tg := mTg (mT3 156 rfl) rfl
set_option maxRecDepth 20000 in
theorem w_637 : (Cond.instanceMethod ⟨"PpmTrees", "forget", "()I"⟩) ∈ Tg := mTg (mT3 157 rfl) rfl
set_option maxRecDepth 20000 in
theorem w_638 : (Cond.selects "PpmTrees" ⟨"PpmTrees", "forget", "()I"⟩ ⟨"PpmTrees", "forget", "()I"⟩) ∈ Tg := mTg (mT3 158 rfl) rfl
set_option maxRecDepth 20000 in
theorem w_639 : (Cond.code ⟨"PpmTrees", "forget", "()I"⟩ prog_1_method_30_code 2 (Option.some FieldType.int)) ∈ Tg := mTg (mT3 159 rfl) rfl
set_option maxRecDepth 20000 in
theorem w_641 : (Cond.methodLink "PpmTrees" 277 ⟨"java/util/List", "clear", "()V"⟩) ∈ Tg := mTg (mT3 161 rfl) rfl
set_option maxRecDepth 20000 in
theorem w_644 : (Cond.selects "java/util/ArrayList" ⟨"java/util/List", "clear", "()V"⟩ ⟨"java/util/ArrayList", "clear", "()V"⟩) ∈ Tg := mTg (mT3 164 rfl) rfl
set_option maxRecDepth 20000 in
theorem w_646 : (Cond.instanceMethod ⟨"java/util/ArrayList", "clear", "()V"⟩) ∈ Tg := mTg (mT3 166 rfl) rfl
set_option maxRecDepth 20000 in
theorem w_648 : (Cond.code ⟨"java/util/ArrayList", "clear", "()V"⟩ prog_25_method_40_code 4 (Option.none : Option FieldType)) ∈ Tg := mTg (mT3 168 rfl) rfl
set_option maxRecDepth 20000 in
theorem w_649 : (Cond.methodLink "PpmTreesLaw" 117 ⟨"PpmTrees", "cost", "(II)I"⟩) ∈ Tg := mTg (mT3 169 rfl) rfl
set_option maxRecDepth 20000 in
theorem w_650 : (Cond.instanceMethod ⟨"PpmTrees", "cost", "(II)I"⟩) ∈ Tg := mTg (mT3 170 rfl) rfl
set_option maxRecDepth 20000 in
theorem w_651 : (Cond.selects "PpmTrees" ⟨"PpmTrees", "cost", "(II)I"⟩ ⟨"PpmTrees", "cost", "(II)I"⟩) ∈ Tg := mTg (mT3 171 rfl) rfl
set_option maxRecDepth 20000 in
theorem w_652 : (Cond.code ⟨"PpmTrees", "cost", "(II)I"⟩ prog_1_method_31_code 4 (Option.some FieldType.int)) ∈ Tg := mTg (mT3 172 rfl) rfl
set_option maxRecDepth 20000 in
theorem w_653 : (Cond.methodLink "PpmTreesLaw" 15 ⟨"PpmTreesLaw", "cell", "([II)I"⟩) ∈ Tg := mTg (mT3 173 rfl) rfl
set_option maxRecDepth 20000 in
theorem w_654 : (Cond.static ⟨"PpmTreesLaw", "cell", "([II)I"⟩) ∈ Tg := mTg (mT3 174 rfl) rfl
set_option maxRecDepth 20000 in
theorem w_655 : (Cond.code ⟨"PpmTreesLaw", "cell", "([II)I"⟩ method_2_code 2 (Option.some FieldType.int)) ∈ Tg := mTg (mT3 175 rfl) rfl
set_option maxRecDepth 20000 in
theorem w_656 : (Cond.methodLink "PpmTreesLaw" 82 ⟨"PpmTreesLaw", "node", "(LPpmTrees;III[J)I"⟩) ∈ Tg := mTg (mT3 176 rfl) rfl
set_option maxRecDepth 20000 in
theorem w_657 : (Cond.static ⟨"PpmTreesLaw", "node", "(LPpmTrees;III[J)I"⟩) ∈ Tg := mTg (mT3 177 rfl) rfl
set_option maxRecDepth 20000 in
theorem w_659 : (Cond.classLink "PpmTreesLaw" 13 "java/lang/ArrayIndexOutOfBoundsException") ∈ Tg := mTg (mT3 179 rfl) rfl
set_option maxRecDepth 20000 in
theorem w_660 : (Cond.instantiable "java/lang/ArrayIndexOutOfBoundsException" 6) ∈ Tg := mTg (mT3 180 rfl) rfl
set_option maxRecDepth 20000 in
theorem w_661 : (Cond.instanceMethod ⟨"java/lang/ArrayIndexOutOfBoundsException", "<init>", "(Ljava/lang/String;)V"⟩) ∈ Tg := mTg (mT3 181 rfl) rfl
set_option maxRecDepth 20000 in
theorem w_662 : (Cond.code ⟨"java/lang/ArrayIndexOutOfBoundsException", "<init>", "(Ljava/lang/String;)V"⟩ prog_13_method_2_code 2 (Option.none : Option FieldType)) ∈ Tg := mTg (mT3 182 rfl) rfl
set_option maxRecDepth 20000 in
theorem w_663 : (Cond.methodLink "java/lang/ArrayIndexOutOfBoundsException" 7 ⟨"java/lang/IndexOutOfBoundsException", "<init>", "(Ljava/lang/String;)V"⟩) ∈ Tg := mTg (mT3 183 rfl) rfl
set_option maxRecDepth 20000 in
theorem w_664 : (Cond.instanceMethod ⟨"java/lang/IndexOutOfBoundsException", "<init>", "(Ljava/lang/String;)V"⟩) ∈ Tg := mTg (mT3 184 rfl) rfl
set_option maxRecDepth 20000 in
theorem w_665 : (Cond.code ⟨"java/lang/IndexOutOfBoundsException", "<init>", "(Ljava/lang/String;)V"⟩ prog_16_method_2_code 2 (Option.none : Option FieldType)) ∈ Tg := mTg (mT3 185 rfl) rfl
set_option maxRecDepth 20000 in
theorem w_666 : (Cond.methodLink "java/lang/IndexOutOfBoundsException" 7 ⟨"java/lang/RuntimeException", "<init>", "(Ljava/lang/String;)V"⟩) ∈ Tg := mTg (mT3 186 rfl) rfl
set_option maxRecDepth 20000 in
theorem w_667 : (Cond.instanceMethod ⟨"java/lang/RuntimeException", "<init>", "(Ljava/lang/String;)V"⟩) ∈ Tg := mTg (mT3 187 rfl) rfl
set_option maxRecDepth 20000 in
theorem w_668 : (Cond.code ⟨"java/lang/RuntimeException", "<init>", "(Ljava/lang/String;)V"⟩ prog_19_method_2_code 2 (Option.none : Option FieldType)) ∈ Tg := mTg (mT3 188 rfl) rfl
set_option maxRecDepth 20000 in
theorem w_669 : (Cond.methodLink "java/lang/RuntimeException" 7 ⟨"java/lang/Exception", "<init>", "(Ljava/lang/String;)V"⟩) ∈ Tg := mTg (mT3 189 rfl) rfl
set_option maxRecDepth 20000 in
theorem w_670 : (Cond.instanceMethod ⟨"java/lang/Exception", "<init>", "(Ljava/lang/String;)V"⟩) ∈ Tg := mTg (mT3 190 rfl) rfl
set_option maxRecDepth 20000 in
theorem w_671 : (Cond.code ⟨"java/lang/Exception", "<init>", "(Ljava/lang/String;)V"⟩ prog_15_method_2_code 2 (Option.none : Option FieldType)) ∈ Tg := mTg (mT3 191 rfl) rfl
set_option maxRecDepth 20000 in
theorem w_672 : (Cond.methodLink "java/lang/Exception" 7 ⟨"java/lang/Throwable", "<init>", "(Ljava/lang/String;)V"⟩) ∈ Tg := mTg (mT3 192 rfl) rfl
set_option maxRecDepth 20000 in
theorem w_673 : (Cond.instanceMethod ⟨"java/lang/Throwable", "<init>", "(Ljava/lang/String;)V"⟩) ∈ Tg := mTg (mT3 193 rfl) rfl
set_option maxRecDepth 20000 in
theorem w_674 : (Cond.code ⟨"java/lang/Throwable", "<init>", "(Ljava/lang/String;)V"⟩ prog_22_method_2_code 2 (Option.none : Option FieldType)) ∈ Tg := mTg (mT3 194 rfl) rfl
set_option maxRecDepth 20000 in
theorem w_675 : (Cond.methodLink "java/lang/Throwable" 1 ⟨"java/lang/Object", "<init>", "()V"⟩) ∈ Tg := mTg (mT3 195 rfl) rfl
set_option maxRecDepth 20000 in
theorem w_676 : (Cond.fieldLink "java/lang/Throwable" 13 "java/lang/Throwable" "UNASSIGNED_STACK" "[Ljava/lang/StackTraceElement;") ∈ Tg := mTg (mT3 196 rfl) rfl
set_option maxRecDepth 20000 in
theorem w_678 : (Cond.fieldLink "java/lang/Throwable" 20 "java/lang/Throwable" "SUPPRESSED_SENTINEL" "Ljava/util/List;") ∈ Tg := mTg (mT3 198 rfl) rfl
set_option maxRecDepth 20000 in
theorem w_680 : (Cond.methodLink "java/lang/Throwable" 27 ⟨"java/lang/Throwable", "fillInStackTrace", "()Ljava/lang/Throwable;"⟩) ∈ Tg := mTg (mT3 200 rfl) rfl
set_option maxRecDepth 20000 in
theorem w_681 : (Cond.instanceMethod ⟨"java/lang/Throwable", "fillInStackTrace", "()Ljava/lang/Throwable;"⟩) ∈ Tg := mTg (mT3 201 rfl) rfl
set_option maxRecDepth 20000 in
theorem w_682 : (Cond.sameMethod "java/lang/Throwable" "java/lang/Throwable" "fillInStackTrace" "()Ljava/lang/Throwable;") ∈ Tg := mTg (mT3 202 rfl) rfl
set_option maxRecDepth 20000 in
theorem w_683 : (Cond.selects "java/lang/ArrayIndexOutOfBoundsException" ⟨"java/lang/Throwable", "fillInStackTrace", "()Ljava/lang/Throwable;"⟩ ⟨"java/lang/Throwable", "fillInStackTrace", "()Ljava/lang/Throwable;"⟩) ∈ Tg := mTg (mT3 203 rfl) rfl
set_option maxRecDepth 20000 in
theorem w_685 : (Cond.methodLink "java/lang/Throwable" 202 ⟨"java/lang/Throwable", "fillInStackTrace", "(I)Ljava/lang/Throwable;"⟩) ∈ Tg := mTg (mT3 205 rfl) rfl
set_option maxRecDepth 20000 in
theorem w_687 : (Cond.instanceMethod ⟨"java/lang/Throwable", "fillInStackTrace", "(I)Ljava/lang/Throwable;"⟩) ∈ Tg := mTg (mT3 207 rfl) rfl
set_option maxRecDepth 20000 in
theorem w_688 : (Cond.instantiable "java/lang/Throwable" 6) ∈ Tg := mTg (mT3 208 rfl) rfl
set_option maxRecDepth 20000 in
theorem w_689 : (Cond.native ⟨"java/lang/Throwable", "fillInStackTrace", "(I)Ljava/lang/Throwable;"⟩) ∈ Tg := mTg (mT3 209 rfl) rfl
set_option maxRecDepth 20000 in
theorem w_690 : (Cond.fieldLink "java/lang/Throwable" 198 "java/lang/Throwable" "backtrace" "Ljava/lang/Object;") ∈ Tg := mTg (mT3 210 rfl) rfl
set_option maxRecDepth 20000 in
theorem w_691 : (Cond.fieldLink "java/lang/Throwable" 31 "java/lang/Throwable" "detailMessage" "Ljava/lang/String;") ∈ Tg := mTg (mT3 211 rfl) rfl
set_option maxRecDepth 20000 in
theorem w_692 : (Cond.fieldLink "java/lang/Throwable" 7 "java/lang/Throwable" "cause" "Ljava/lang/Throwable;") ∈ Tg := mTg (mT3 212 rfl) rfl
set_option maxRecDepth 20000 in
theorem w_693 : (Cond.fieldLink "java/lang/Throwable" 17 "java/lang/Throwable" "stackTrace" "[Ljava/lang/StackTraceElement;") ∈ Tg := mTg (mT3 213 rfl) rfl
set_option maxRecDepth 20000 in
theorem w_694 : (Cond.fieldLink "java/lang/Throwable" 24 "java/lang/Throwable" "suppressedExceptions" "Ljava/util/List;") ∈ Tg := mTg (mT3 214 rfl) rfl
set_option maxRecDepth 20000 in
theorem w_717 : (Cond.selects "java/lang/ArrayIndexOutOfBoundsException" ⟨"java/lang/Throwable", "fillInStackTrace", "(I)Ljava/lang/Throwable;"⟩ ⟨"java/lang/Throwable", "fillInStackTrace", "(I)Ljava/lang/Throwable;"⟩) ∈ Tg := mTg (mT3 237 rfl) rfl
set_option maxRecDepth 20000 in
theorem w_723 : (Cond.fieldLink "java/lang/Throwable" 198 "java/lang/Throwable" "backtrace" "Ljava/lang/Object;") ∈ Tg := mTg (mT4 3 rfl) rfl
set_option maxRecDepth 20000 in
theorem w_725 : (Cond.instanceMethod ⟨"java/lang/Throwable", "<init>", "()V"⟩) ∈ Tg := mTg (mT4 5 rfl) rfl
set_option maxRecDepth 20000 in
theorem w_726 : (Cond.code ⟨"java/lang/Throwable", "<init>", "()V"⟩ prog_22_method_1_code 1 (Option.none : Option FieldType)) ∈ Tg := mTg (mT4 6 rfl) rfl
set_option maxRecDepth 20000 in
theorem w_727 : (Cond.instantiable "java/lang/String" 4) ∈ Tg := mTg (mT4 7 rfl) rfl
set_option maxRecDepth 20000 in
theorem w_732 : (Cond.methodLink "PpmTreesLaw" 7 ⟨"PpmTrees", "node", "(III)I"⟩) ∈ Tg := mTg (mT4 12 rfl) rfl
set_option maxRecDepth 20000 in
theorem w_733 : (Cond.instanceMethod ⟨"PpmTrees", "node", "(III)I"⟩) ∈ Tg := mTg (mT4 13 rfl) rfl
set_option maxRecDepth 20000 in
theorem w_734 : (Cond.selects "PpmTrees" ⟨"PpmTrees", "node", "(III)I"⟩ ⟨"PpmTrees", "node", "(III)I"⟩) ∈ Tg := mTg (mT4 14 rfl) rfl
set_option maxRecDepth 20000 in
theorem w_735 : (Cond.code ⟨"PpmTrees", "node", "(III)I"⟩ prog_1_method_23_code 7 (Option.some FieldType.int)) ∈ Tg := mTg (mT4 15 rfl) rfl
set_option maxRecDepth 20000 in
theorem w_736 : (Cond.classLink "PpmTrees" 245 "java/lang/ArrayIndexOutOfBoundsException") ∈ Tg := mTg (mT4 16 rfl) rfl
set_option maxRecDepth 20000 in
theorem w_737 : (Cond.methodLink "PpmTrees" 247 ⟨"java/lang/ArrayIndexOutOfBoundsException", "<init>", "()V"⟩) ∈ Tg := mTg (mT4 17 rfl) rfl
set_option maxRecDepth 20000 in
theorem w_738 : (Cond.instanceMethod ⟨"java/lang/ArrayIndexOutOfBoundsException", "<init>", "()V"⟩) ∈ Tg := mTg (mT4 18 rfl) rfl
set_option maxRecDepth 20000 in
theorem w_739 : (Cond.code ⟨"java/lang/ArrayIndexOutOfBoundsException", "<init>", "()V"⟩ prog_13_method_1_code 1 (Option.none : Option FieldType)) ∈ Tg := mTg (mT4 19 rfl) rfl
set_option maxRecDepth 20000 in
theorem w_740 : (Cond.methodLink "java/lang/ArrayIndexOutOfBoundsException" 1 ⟨"java/lang/IndexOutOfBoundsException", "<init>", "()V"⟩) ∈ Tg := mTg (mT4 20 rfl) rfl
set_option maxRecDepth 20000 in
theorem w_741 : (Cond.instanceMethod ⟨"java/lang/IndexOutOfBoundsException", "<init>", "()V"⟩) ∈ Tg := mTg (mT4 21 rfl) rfl
set_option maxRecDepth 20000 in
theorem w_742 : (Cond.code ⟨"java/lang/IndexOutOfBoundsException", "<init>", "()V"⟩ prog_16_method_1_code 1 (Option.none : Option FieldType)) ∈ Tg := mTg (mT4 22 rfl) rfl
set_option maxRecDepth 20000 in
theorem w_743 : (Cond.methodLink "java/lang/IndexOutOfBoundsException" 1 ⟨"java/lang/RuntimeException", "<init>", "()V"⟩) ∈ Tg := mTg (mT4 23 rfl) rfl
set_option maxRecDepth 20000 in
theorem w_744 : (Cond.instanceMethod ⟨"java/lang/RuntimeException", "<init>", "()V"⟩) ∈ Tg := mTg (mT4 24 rfl) rfl
set_option maxRecDepth 20000 in
theorem w_745 : (Cond.code ⟨"java/lang/RuntimeException", "<init>", "()V"⟩ prog_19_method_1_code 1 (Option.none : Option FieldType)) ∈ Tg := mTg (mT4 25 rfl) rfl
set_option maxRecDepth 20000 in
theorem w_746 : (Cond.methodLink "java/lang/RuntimeException" 1 ⟨"java/lang/Exception", "<init>", "()V"⟩) ∈ Tg := mTg (mT4 26 rfl) rfl
set_option maxRecDepth 20000 in
theorem w_747 : (Cond.instanceMethod ⟨"java/lang/Exception", "<init>", "()V"⟩) ∈ Tg := mTg (mT4 27 rfl) rfl
set_option maxRecDepth 20000 in
theorem w_748 : (Cond.code ⟨"java/lang/Exception", "<init>", "()V"⟩ prog_15_method_1_code 1 (Option.none : Option FieldType)) ∈ Tg := mTg (mT4 28 rfl) rfl
set_option maxRecDepth 20000 in
theorem w_749 : (Cond.methodLink "java/lang/Exception" 1 ⟨"java/lang/Throwable", "<init>", "()V"⟩) ∈ Tg := mTg (mT4 29 rfl) rfl
set_option maxRecDepth 20000 in
theorem w_750 : (Cond.classLink "PpmTreesLaw" 24 "PpmTreesModel") ∈ Tg := mTg (mT4 30 rfl) rfl
set_option maxRecDepth 20000 in
theorem w_751 : (Cond.instantiable "PpmTreesModel" 46) ∈ Tg := mTg (mT4 31 rfl) rfl
set_option maxRecDepth 20000 in
theorem w_752 : (Cond.methodLink "PpmTreesLaw" 26 ⟨"PpmTreesModel", "<init>", "(II)V"⟩) ∈ Tg := mTg (mT4 32 rfl) rfl
set_option maxRecDepth 20000 in
theorem w_753 : (Cond.instanceMethod ⟨"PpmTreesModel", "<init>", "(II)V"⟩) ∈ Tg := mTg (mT4 33 rfl) rfl
set_option maxRecDepth 20000 in
theorem w_754 : (Cond.code ⟨"PpmTreesModel", "<init>", "(II)V"⟩ prog_11_method_1_code 3 (Option.none : Option FieldType)) ∈ Tg := mTg (mT4 34 rfl) rfl
set_option maxRecDepth 20000 in
theorem w_755 : (Cond.methodLink "PpmTreesModel" 1 ⟨"java/lang/Object", "<init>", "()V"⟩) ∈ Tg := mTg (mT4 35 rfl) rfl
set_option maxRecDepth 20000 in
theorem w_756 : (Cond.methodLink "PpmTreesModel" 78 ⟨"PpmTreesModel", "begin", "(I)V"⟩) ∈ Tg := mTg (mT4 36 rfl) rfl
set_option maxRecDepth 20000 in
theorem w_758 : (Cond.instanceMethod ⟨"PpmTreesModel", "begin", "(I)V"⟩) ∈ Tg := mTg (mT4 38 rfl) rfl
set_option maxRecDepth 20000 in
theorem w_759 : (Cond.code ⟨"PpmTreesModel", "begin", "(I)V"⟩ prog_11_method_11_code 2 (Option.none : Option FieldType)) ∈ Tg := mTg (mT4 39 rfl) rfl
set_option maxRecDepth 20000 in
theorem w_760 : (Cond.fieldLink "PpmTreesModel" 82 "PpmTreesModel" "thrown" "I") ∈ Tg := mTg (mT4 40 rfl) rfl
set_option maxRecDepth 20000 in
theorem w_761 : (Cond.fieldLink "PpmTreesModel" 72 "PpmTreesModel" "order" "I") ∈ Tg := mTg (mT4 41 rfl) rfl
set_option maxRecDepth 20000 in
theorem w_762 : (Cond.fieldLink "PpmTreesModel" 75 "PpmTreesModel" "room" "I") ∈ Tg := mTg (mT4 42 rfl) rfl
set_option maxRecDepth 20000 in
theorem w_763 : (Cond.fieldLink "PpmTreesModel" 85 "PpmTreesModel" "size" "I") ∈ Tg := mTg (mT4 43 rfl) rfl
set_option maxRecDepth 20000 in
theorem w_764 : (Cond.fieldLink "PpmTreesModel" 7 "PpmTreesModel" "text" "[I") ∈ Tg := mTg (mT4 44 rfl) rfl
set_option maxRecDepth 20000 in
theorem w_765 : (Cond.fieldLink "PpmTreesModel" 93 "PpmTreesModel" "outSize" "I") ∈ Tg := mTg (mT4 45 rfl) rfl
set_option maxRecDepth 20000 in
theorem w_766 : (Cond.fieldLink "PpmTreesModel" 13 "PpmTreesModel" "out" "[I") ∈ Tg := mTg (mT4 46 rfl) rfl
set_option maxRecDepth 20000 in
theorem w_767 : (Cond.fieldLink "PpmTreesModel" 96 "PpmTreesModel" "received" "I") ∈ Tg := mTg (mT4 47 rfl) rfl
set_option maxRecDepth 20000 in
theorem w_768 : (Cond.fieldLink "PpmTreesModel" 16 "PpmTreesModel" "receivedByte" "[I") ∈ Tg := mTg (mT4 48 rfl) rfl
set_option maxRecDepth 20000 in
theorem w_769 : (Cond.fieldLink "PpmTreesModel" 19 "PpmTreesModel" "nodes" "[I") ∈ Tg := mTg (mT4 49 rfl) rfl
set_option maxRecDepth 20000 in
theorem w_770 : (Cond.fieldLink "PpmTreesModel" 22 "PpmTreesModel" "parent" "[I") ∈ Tg := mTg (mT4 50 rfl) rfl
set_option maxRecDepth 20000 in
theorem w_771 : (Cond.fieldLink "PpmTreesModel" 25 "PpmTreesModel" "octet" "[I") ∈ Tg := mTg (mT4 51 rfl) rfl
set_option maxRecDepth 20000 in
theorem w_772 : (Cond.fieldLink "PpmTreesModel" 28 "PpmTreesModel" "count" "[I") ∈ Tg := mTg (mT4 52 rfl) rfl
set_option maxRecDepth 20000 in
theorem w_773 : (Cond.fieldLink "PpmTreesModel" 31 "PpmTreesModel" "latests" "[I") ∈ Tg := mTg (mT4 53 rfl) rfl
set_option maxRecDepth 20000 in
theorem w_774 : (Cond.fieldLink "PpmTreesModel" 34 "PpmTreesModel" "latest" "[I") ∈ Tg := mTg (mT4 54 rfl) rfl
set_option maxRecDepth 20000 in
theorem w_775 : (Cond.fieldLink "PpmTreesModel" 37 "PpmTreesModel" "restarts" "[I") ∈ Tg := mTg (mT4 55 rfl) rfl
set_option maxRecDepth 20000 in
theorem w_776 : (Cond.fieldLink "PpmTreesModel" 228 "PpmTreesModel" "kept" "I") ∈ Tg := mTg (mT4 56 rfl) rfl
set_option maxRecDepth 20000 in
theorem w_777 : (Cond.fieldLink "PpmTreesModel" 40 "PpmTreesModel" "isExcluded" "[Z") ∈ Tg := mTg (mT4 57 rfl) rfl
set_option maxRecDepth 20000 in
theorem w_778 : (Cond.fieldLink "PpmTreesModel" 103 "PpmTreesModel" "excluded" "I") ∈ Tg := mTg (mT4 58 rfl) rfl
set_option maxRecDepth 20000 in
theorem w_779 : (Cond.fieldLink "PpmTreesModel" 44 "PpmTreesModel" "counts" "[I") ∈ Tg := mTg (mT4 59 rfl) rfl
set_option maxRecDepth 20000 in
theorem w_780 : (Cond.fieldLink "PpmTreesModel" 110 "PpmTreesModel" "sum" "I") ∈ Tg := mTg (mT4 60 rfl) rfl
set_option maxRecDepth 20000 in
theorem w_781 : (Cond.fieldLink "PpmTreesModel" 113 "PpmTreesModel" "many" "I") ∈ Tg := mTg (mT4 61 rfl) rfl
set_option maxRecDepth 20000 in
theorem w_782 : (Cond.fieldLink "PpmTreesModel" 123 "PpmTreesModel" "from" "I") ∈ Tg := mTg (mT4 62 rfl) rfl
set_option maxRecDepth 20000 in
theorem w_783 : (Cond.fieldLink "PpmTreesModel" 126 "PpmTreesModel" "length" "I") ∈ Tg := mTg (mT4 63 rfl) rfl
set_option maxRecDepth 20000 in
theorem w_784 : (Cond.fieldLink "PpmTreesModel" 116 "PpmTreesModel" "of" "I") ∈ Tg := mTg (mT4 64 rfl) rfl
set_option maxRecDepth 20000 in
theorem w_785 : (Cond.fieldLink "PpmTreesModel" 129 "PpmTreesModel" "restarted" "Z") ∈ Tg := mTg (mT4 65 rfl) rfl
set_option maxRecDepth 20000 in
theorem w_786 : (Cond.fieldLink "PpmTreesModel" 149 "PpmTreesModel" "low" "I") ∈ Tg := mTg (mT4 66 rfl) rfl
set_option maxRecDepth 20000 in
theorem w_787 : (Cond.fieldLink "PpmTreesModel" 146 "PpmTreesModel" "high" "I") ∈ Tg := mTg (mT4 67 rfl) rfl
set_option maxRecDepth 20000 in
theorem w_788 : (Cond.fieldLink "PpmTreesModel" 143 "PpmTreesModel" "held" "I") ∈ Tg := mTg (mT4 68 rfl) rfl
set_option maxRecDepth 20000 in
theorem w_789 : (Cond.fieldLink "PpmTreesModel" 137 "PpmTreesModel" "bits" "I") ∈ Tg := mTg (mT4 69 rfl) rfl
set_option maxRecDepth 20000 in
theorem w_790 : (Cond.fieldLink "PpmTreesModel" 47 "PpmTreesModel" "made" "[I") ∈ Tg := mTg (mT4 70 rfl) rfl
set_option maxRecDepth 20000 in
theorem w_791 : (Cond.fieldLink "PpmTreesModel" 161 "PpmTreesModel" "escapes" "I") ∈ Tg := mTg (mT4 71 rfl) rfl
set_option maxRecDepth 20000 in
theorem w_792 : (Cond.fieldLink "PpmTreesModel" 164 "PpmTreesModel" "begunAnew" "I") ∈ Tg := mTg (mT4 72 rfl) rfl
set_option maxRecDepth 20000 in
theorem w_793 : (Cond.fieldLink "PpmTreesModel" 50 "PpmTreesModel" "signExcluded" "[I") ∈ Tg := mTg (mT4 73 rfl) rfl
set_option maxRecDepth 20000 in
theorem w_794 : (Cond.fieldLink "PpmTreesModel" 53 "PpmTreesModel" "signFound" "[I") ∈ Tg := mTg (mT4 74 rfl) rfl
set_option maxRecDepth 20000 in
theorem w_795 : (Cond.fieldLink "PpmTreesModel" 194 "PpmTreesModel" "isPacked" "Z") ∈ Tg := mTg (mT4 75 rfl) rfl
set_option maxRecDepth 20000 in
theorem w_796 : (Cond.fieldLink "PpmTreesModel" 56 "PpmTreesModel" "toldOf" "[I") ∈ Tg := mTg (mT4 76 rfl) rfl
set_option maxRecDepth 20000 in
theorem w_797 : (Cond.fieldLink "PpmTreesModel" 197 "PpmTreesModel" "packed" "I") ∈ Tg := mTg (mT4 77 rfl) rfl
set_option maxRecDepth 20000 in
theorem w_798 : (Cond.fieldLink "PpmTreesModel" 59 "PpmTreesModel" "packedExcluded" "[I") ∈ Tg := mTg (mT4 78 rfl) rfl
set_option maxRecDepth 20000 in
theorem w_799 : (Cond.fieldLink "PpmTreesModel" 62 "PpmTreesModel" "packedFound" "[I") ∈ Tg := mTg (mT4 79 rfl) rfl
set_option maxRecDepth 20000 in
theorem w_800 : (Cond.fieldLink "PpmTreesModel" 203 "PpmTreesModel" "number" "I") ∈ Tg := mTg (mT4 80 rfl) rfl
set_option maxRecDepth 20000 in
theorem w_801 : (Cond.fieldLink "PpmTreesModel" 200 "PpmTreesModel" "taken" "I") ∈ Tg := mTg (mT4 81 rfl) rfl
set_option maxRecDepth 20000 in
theorem w_802 : (Cond.fieldLink "PpmTreesModel" 65 "PpmTreesModel" "place" "I") ∈ Tg := mTg (mT4 82 rfl) rfl
set_option maxRecDepth 20000 in
theorem w_803 : (Cond.fieldLink "PpmTreesModel" 222 "PpmTreesModel" "got" "I") ∈ Tg := mTg (mT4 83 rfl) rfl
set_option maxRecDepth 20000 in
theorem w_804 : (Cond.fieldLink "PpmTreesModel" 69 "PpmTreesModel" "gotByte" "[I") ∈ Tg := mTg (mT4 84 rfl) rfl
set_option maxRecDepth 20000 in
theorem w_805 : (Cond.fieldLink "PpmTreesModel" 216 "PpmTreesModel" "readIn" "I") ∈ Tg := mTg (mT4 85 rfl) rfl
set_option maxRecDepth 20000 in
theorem w_899 : (Cond.methodLink "PpmTreesLaw" 86 ⟨"PpmTreesModel", "thrown", "()I"⟩) ∈ Tg := mTg (mT4 179 rfl) rfl
set_option maxRecDepth 20000 in
theorem w_900 : (Cond.instanceMethod ⟨"PpmTreesModel", "thrown", "()I"⟩) ∈ Tg := mTg (mT4 180 rfl) rfl
set_option maxRecDepth 20000 in
theorem w_901 : (Cond.selects "PpmTreesModel" ⟨"PpmTreesModel", "thrown", "()I"⟩ ⟨"PpmTreesModel", "thrown", "()I"⟩) ∈ Tg := mTg (mT4 181 rfl) rfl
set_option maxRecDepth 20000 in
theorem w_902 : (Cond.code ⟨"PpmTreesModel", "thrown", "()I"⟩ prog_11_method_2_code 1 (Option.some FieldType.int)) ∈ Tg := mTg (mT4 182 rfl) rfl
set_option maxRecDepth 20000 in
theorem w_903 : (Cond.methodLink "PpmTreesLaw" 31 ⟨"PpmTreesModel", "clear", "()I"⟩) ∈ Tg := mTg (mT4 183 rfl) rfl
set_option maxRecDepth 20000 in
theorem w_904 : (Cond.instanceMethod ⟨"PpmTreesModel", "clear", "()I"⟩) ∈ Tg := mTg (mT4 184 rfl) rfl
set_option maxRecDepth 20000 in
theorem w_905 : (Cond.selects "PpmTreesModel" ⟨"PpmTreesModel", "clear", "()I"⟩ ⟨"PpmTreesModel", "clear", "()I"⟩) ∈ Tg := mTg (mT4 185 rfl) rfl
set_option maxRecDepth 20000 in
theorem w_906 : (Cond.code ⟨"PpmTreesModel", "clear", "()I"⟩ prog_11_method_4_code 2 (Option.some FieldType.int)) ∈ Tg := mTg (mT4 186 rfl) rfl
set_option maxRecDepth 20000 in
theorem w_907 : (Cond.methodLink "PpmTreesLaw" 36 ⟨"PpmTreesModel", "add", "(I)I"⟩) ∈ Tg := mTg (mT4 187 rfl) rfl
set_option maxRecDepth 20000 in
theorem w_908 : (Cond.instanceMethod ⟨"PpmTreesModel", "add", "(I)I"⟩) ∈ Tg := mTg (mT4 188 rfl) rfl
set_option maxRecDepth 20000 in
theorem w_909 : (Cond.selects "PpmTreesModel" ⟨"PpmTreesModel", "add", "(I)I"⟩ ⟨"PpmTreesModel", "add", "(I)I"⟩) ∈ Tg := mTg (mT4 189 rfl) rfl
set_option maxRecDepth 20000 in
theorem w_910 : (Cond.code ⟨"PpmTreesModel", "add", "(I)I"⟩ prog_11_method_5_code 2 (Option.some FieldType.int)) ∈ Tg := mTg (mT4 190 rfl) rfl
set_option maxRecDepth 20000 in
theorem w_911 : (Cond.methodLink "PpmTreesModel" 88 ⟨"PpmTreesModel", "in", "(III)Z"⟩) ∈ Tg := mTg (mT4 191 rfl) rfl
set_option maxRecDepth 20000 in
theorem w_912 : (Cond.static ⟨"PpmTreesModel", "in", "(III)Z"⟩) ∈ Tg := mTg (mT4 192 rfl) rfl
set_option maxRecDepth 20000 in
theorem w_913 : (Cond.code ⟨"PpmTreesModel", "in", "(III)Z"⟩ prog_11_method_3_code 3 (Option.some FieldType.boolean)) ∈ Tg := mTg (mT4 193 rfl) rfl
set_option maxRecDepth 20000 in
theorem w_914 : (Cond.methodLink "PpmTreesLaw" 40 ⟨"PpmTreesModel", "fill", "(III)I"⟩) ∈ Tg := mTg (mT4 194 rfl) rfl
set_option maxRecDepth 20000 in
theorem w_915 : (Cond.instanceMethod ⟨"PpmTreesModel", "fill", "(III)I"⟩) ∈ Tg := mTg (mT4 195 rfl) rfl
set_option maxRecDepth 20000 in
theorem w_916 : (Cond.selects "PpmTreesModel" ⟨"PpmTreesModel", "fill", "(III)I"⟩ ⟨"PpmTreesModel", "fill", "(III)I"⟩) ∈ Tg := mTg (mT4 196 rfl) rfl
set_option maxRecDepth 20000 in
theorem w_917 : (Cond.code ⟨"PpmTreesModel", "fill", "(III)I"⟩ prog_11_method_6_code 10 (Option.some FieldType.int)) ∈ Tg := mTg (mT4 197 rfl) rfl
set_option maxRecDepth 20000 in
theorem w_918 : (Cond.constant "PpmTreesModel" 92 (1103515245 : Int32)) ∈ Tg := mTg (mT4 198 rfl) rfl
set_option maxRecDepth 20000 in
theorem w_919 : (Cond.methodLink "PpmTreesLaw" 44 ⟨"PpmTreesModel", "size", "(I)I"⟩) ∈ Tg := mTg (mT4 199 rfl) rfl
set_option maxRecDepth 20000 in
theorem w_920 : (Cond.instanceMethod ⟨"PpmTreesModel", "size", "(I)I"⟩) ∈ Tg := mTg (mT4 200 rfl) rfl
set_option maxRecDepth 20000 in
theorem w_921 : (Cond.selects "PpmTreesModel" ⟨"PpmTreesModel", "size", "(I)I"⟩ ⟨"PpmTreesModel", "size", "(I)I"⟩) ∈ Tg := mTg (mT4 201 rfl) rfl
set_option maxRecDepth 20000 in
theorem w_922 : (Cond.code ⟨"PpmTreesModel", "size", "(I)I"⟩ prog_11_method_7_code 2 (Option.some FieldType.int)) ∈ Tg := mTg (mT4 202 rfl) rfl
set_option maxRecDepth 20000 in
theorem w_923 : (Cond.methodLink "PpmTreesLaw" 49 ⟨"PpmTreesModel", "octet", "(II)I"⟩) ∈ Tg := mTg (mT4 203 rfl) rfl
set_option maxRecDepth 20000 in
theorem w_924 : (Cond.instanceMethod ⟨"PpmTreesModel", "octet", "(II)I"⟩) ∈ Tg := mTg (mT4 204 rfl) rfl
set_option maxRecDepth 20000 in
theorem w_925 : (Cond.selects "PpmTreesModel" ⟨"PpmTreesModel", "octet", "(II)I"⟩ ⟨"PpmTreesModel", "octet", "(II)I"⟩) ∈ Tg := mTg (mT4 205 rfl) rfl
set_option maxRecDepth 20000 in
theorem w_926 : (Cond.code ⟨"PpmTreesModel", "octet", "(II)I"⟩ prog_11_method_8_code 3 (Option.some FieldType.int)) ∈ Tg := mTg (mT4 206 rfl) rfl
set_option maxRecDepth 20000 in
theorem w_927 : (Cond.methodLink "PpmTreesLaw" 53 ⟨"PpmTreesModel", "alter", "(II)I"⟩) ∈ Tg := mTg (mT4 207 rfl) rfl
set_option maxRecDepth 20000 in
theorem w_928 : (Cond.instanceMethod ⟨"PpmTreesModel", "alter", "(II)I"⟩) ∈ Tg := mTg (mT4 208 rfl) rfl
set_option maxRecDepth 20000 in
theorem w_929 : (Cond.selects "PpmTreesModel" ⟨"PpmTreesModel", "alter", "(II)I"⟩ ⟨"PpmTreesModel", "alter", "(II)I"⟩) ∈ Tg := mTg (mT4 209 rfl) rfl
set_option maxRecDepth 20000 in
theorem w_930 : (Cond.code ⟨"PpmTreesModel", "alter", "(II)I"⟩ prog_11_method_9_code 4 (Option.some FieldType.int)) ∈ Tg := mTg (mT4 210 rfl) rfl
set_option maxRecDepth 20000 in
theorem w_931 : (Cond.methodLink "PpmTreesLaw" 57 ⟨"PpmTreesModel", "cut", "(I)I"⟩) ∈ Tg := mTg (mT4 211 rfl) rfl
set_option maxRecDepth 20000 in
theorem w_932 : (Cond.instanceMethod ⟨"PpmTreesModel", "cut", "(I)I"⟩) ∈ Tg := mTg (mT4 212 rfl) rfl
set_option maxRecDepth 20000 in
theorem w_933 : (Cond.selects "PpmTreesModel" ⟨"PpmTreesModel", "cut", "(I)I"⟩ ⟨"PpmTreesModel", "cut", "(I)I"⟩) ∈ Tg := mTg (mT4 213 rfl) rfl
set_option maxRecDepth 20000 in
theorem w_934 : (Cond.code ⟨"PpmTreesModel", "cut", "(I)I"⟩ prog_11_method_10_code 3 (Option.some FieldType.int)) ∈ Tg := mTg (mT4 214 rfl) rfl
set_option maxRecDepth 20000 in
theorem w_935 : (Cond.methodLink "PpmTreesLaw" 61 ⟨"PpmTreesModel", "pack", "()I"⟩) ∈ Tg := mTg (mT4 215 rfl) rfl
set_option maxRecDepth 20000 in
theorem w_936 : (Cond.instanceMethod ⟨"PpmTreesModel", "pack", "()I"⟩) ∈ Tg := mTg (mT4 216 rfl) rfl
set_option maxRecDepth 20000 in
theorem w_937 : (Cond.selects "PpmTreesModel" ⟨"PpmTreesModel", "pack", "()I"⟩ ⟨"PpmTreesModel", "pack", "()I"⟩) ∈ Tg := mTg (mT4 217 rfl) rfl
set_option maxRecDepth 20000 in
theorem w_938 : (Cond.code ⟨"PpmTreesModel", "pack", "()I"⟩ prog_11_method_28_code 2 (Option.some FieldType.int)) ∈ Tg := mTg (mT4 218 rfl) rfl
set_option maxRecDepth 20000 in
theorem w_939 : (Cond.methodLink "PpmTreesModel" 190 ⟨"PpmTreesModel", "writeAll", "(I[II)V"⟩) ∈ Tg := mTg (mT4 219 rfl) rfl
set_option maxRecDepth 20000 in
theorem w_941 : (Cond.instanceMethod ⟨"PpmTreesModel", "writeAll", "(I[II)V"⟩) ∈ Tg := mTg (mT4 221 rfl) rfl
set_option maxRecDepth 20000 in
theorem w_942 : (Cond.code ⟨"PpmTreesModel", "writeAll", "(I[II)V"⟩ prog_11_method_27_code 8 (Option.none : Option FieldType)) ∈ Tg := mTg (mT4 222 rfl) rfl
set_option maxRecDepth 20000 in
theorem w_943 : (Cond.constant "PpmTreesModel" 160 (65535 : Int32)) ∈ Tg := mTg (mT4 223 rfl) rfl
set_option maxRecDepth 20000 in
theorem w_944 : (Cond.methodLink "PpmTreesModel" 167 ⟨"PpmTreesModel", "beginSign", "()V"⟩) ∈ Tg := mTg (mT4 224 rfl) rfl
set_option maxRecDepth 20000 in
theorem w_946 : (Cond.instanceMethod ⟨"PpmTreesModel", "beginSign", "()V"⟩) ∈ Tg := mTg (mT4 226 rfl) rfl
set_option maxRecDepth 20000 in
theorem w_947 : (Cond.code ⟨"PpmTreesModel", "beginSign", "()V"⟩ prog_11_method_15_code 2 (Option.none : Option FieldType)) ∈ Tg := mTg (mT4 227 rfl) rfl
set_option maxRecDepth 20000 in
theorem w_948 : (Cond.methodLink "PpmTreesModel" 170 ⟨"PpmTreesModel", "look", "(II)V"⟩) ∈ Tg := mTg (mT4 228 rfl) rfl
set_option maxRecDepth 20000 in
theorem w_950 : (Cond.instanceMethod ⟨"PpmTreesModel", "look", "(II)V"⟩) ∈ Tg := mTg (mT4 230 rfl) rfl
set_option maxRecDepth 20000 in
theorem w_951 : (Cond.code ⟨"PpmTreesModel", "look", "(II)V"⟩ prog_11_method_16_code 6 (Option.none : Option FieldType)) ∈ Tg := mTg (mT4 231 rfl) rfl
set_option maxRecDepth 20000 in
theorem w_952 : (Cond.methodLink "PpmTreesModel" 106 ⟨"PpmTreesModel", "context", "(II)I"⟩) ∈ Tg := mTg (mT4 232 rfl) rfl
set_option maxRecDepth 20000 in
theorem w_954 : (Cond.instanceMethod ⟨"PpmTreesModel", "context", "(II)I"⟩) ∈ Tg := mTg (mT4 234 rfl) rfl
set_option maxRecDepth 20000 in
theorem w_955 : (Cond.code ⟨"PpmTreesModel", "context", "(II)I"⟩ prog_11_method_14_code 5 (Option.some FieldType.int)) ∈ Tg := mTg (mT4 235 rfl) rfl
set_option maxRecDepth 20000 in
theorem w_956 : (Cond.methodLink "PpmTreesModel" 99 ⟨"PpmTreesModel", "child", "(III)I"⟩) ∈ Tg := mTg (mT4 236 rfl) rfl
set_option maxRecDepth 20000 in
theorem w_958 : (Cond.instanceMethod ⟨"PpmTreesModel", "child", "(III)I"⟩) ∈ Tg := mTg (mT4 238 rfl) rfl
set_option maxRecDepth 20000 in
theorem w_959 : (Cond.code ⟨"PpmTreesModel", "child", "(III)I"⟩ prog_11_method_13_code 6 (Option.some FieldType.int)) ∈ Tg := mTg (mT4 239 rfl) rfl
set_option maxRecDepth 20000 in
theorem w_960 : (Cond.methodLink "PpmTreesModel" 173 ⟨"PpmTreesModel", "isFound", "(I)Z"⟩) ∈ Tg := mTg (mT5 0 rfl) rfl
set_option maxRecDepth 20000 in
theorem w_962 : (Cond.instanceMethod ⟨"PpmTreesModel", "isFound", "(I)Z"⟩) ∈ Tg := mTg (mT5 2 rfl) rfl
set_option maxRecDepth 20000 in
theorem w_963 : (Cond.code ⟨"PpmTreesModel", "isFound", "(I)Z"⟩ prog_11_method_19_code 3 (Option.some FieldType.boolean)) ∈ Tg := mTg (mT5 3 rfl) rfl
set_option maxRecDepth 20000 in
theorem w_964 : (Cond.methodLink "PpmTreesModel" 119 ⟨"PpmTreesModel", "below", "(I)I"⟩) ∈ Tg := mTg (mT5 4 rfl) rfl
set_option maxRecDepth 20000 in
theorem w_966 : (Cond.instanceMethod ⟨"PpmTreesModel", "below", "(I)I"⟩) ∈ Tg := mTg (mT5 6 rfl) rfl
set_option maxRecDepth 20000 in
theorem w_967 : (Cond.code ⟨"PpmTreesModel", "below", "(I)I"⟩ prog_11_method_18_code 4 (Option.some FieldType.int)) ∈ Tg := mTg (mT5 7 rfl) rfl
set_option maxRecDepth 20000 in
theorem w_968 : (Cond.methodLink "PpmTreesModel" 177 ⟨"PpmTreesModel", "exclude", "()V"⟩) ∈ Tg := mTg (mT5 8 rfl) rfl
set_option maxRecDepth 20000 in
theorem w_970 : (Cond.instanceMethod ⟨"PpmTreesModel", "exclude", "()V"⟩) ∈ Tg := mTg (mT5 10 rfl) rfl
set_option maxRecDepth 20000 in
theorem w_971 : (Cond.code ⟨"PpmTreesModel", "exclude", "()V"⟩ prog_11_method_17_code 2 (Option.none : Option FieldType)) ∈ Tg := mTg (mT5 11 rfl) rfl
set_option maxRecDepth 20000 in
theorem w_972 : (Cond.methodLink "PpmTreesModel" 180 ⟨"PpmTreesModel", "write", "()V"⟩) ∈ Tg := mTg (mT5 12 rfl) rfl
set_option maxRecDepth 20000 in
theorem w_974 : (Cond.instanceMethod ⟨"PpmTreesModel", "write", "()V"⟩) ∈ Tg := mTg (mT5 14 rfl) rfl
set_option maxRecDepth 20000 in
theorem w_975 : (Cond.code ⟨"PpmTreesModel", "write", "()V"⟩ prog_11_method_26_code 2 (Option.none : Option FieldType)) ∈ Tg := mTg (mT5 15 rfl) rfl
set_option maxRecDepth 20000 in
theorem w_976 : (Cond.methodLink "PpmTreesModel" 152 ⟨"PpmTreesModel", "narrow", "()V"⟩) ∈ Tg := mTg (mT5 16 rfl) rfl
set_option maxRecDepth 20000 in
theorem w_978 : (Cond.instanceMethod ⟨"PpmTreesModel", "narrow", "()V"⟩) ∈ Tg := mTg (mT5 18 rfl) rfl
set_option maxRecDepth 20000 in
theorem w_979 : (Cond.code ⟨"PpmTreesModel", "narrow", "()V"⟩ prog_11_method_25_code 2 (Option.none : Option FieldType)) ∈ Tg := mTg (mT5 19 rfl) rfl
set_option maxRecDepth 20000 in
theorem w_980 : (Cond.constant "PpmTreesModel" 155 (32768 : Int32)) ∈ Tg := mTg (mT5 20 rfl) rfl
set_option maxRecDepth 20000 in
theorem w_981 : (Cond.methodLink "PpmTreesModel" 156 ⟨"PpmTreesModel", "put", "(I)V"⟩) ∈ Tg := mTg (mT5 21 rfl) rfl
set_option maxRecDepth 20000 in
theorem w_983 : (Cond.instanceMethod ⟨"PpmTreesModel", "put", "(I)V"⟩) ∈ Tg := mTg (mT5 23 rfl) rfl
set_option maxRecDepth 20000 in
theorem w_984 : (Cond.code ⟨"PpmTreesModel", "put", "(I)V"⟩ prog_11_method_24_code 2 (Option.none : Option FieldType)) ∈ Tg := mTg (mT5 24 rfl) rfl
set_option maxRecDepth 20000 in
theorem w_985 : (Cond.methodLink "PpmTreesModel" 140 ⟨"PpmTreesModel", "bit", "(I)V"⟩) ∈ Tg := mTg (mT5 25 rfl) rfl
set_option maxRecDepth 20000 in
theorem w_987 : (Cond.instanceMethod ⟨"PpmTreesModel", "bit", "(I)V"⟩) ∈ Tg := mTg (mT5 27 rfl) rfl
set_option maxRecDepth 20000 in
theorem w_988 : (Cond.code ⟨"PpmTreesModel", "bit", "(I)V"⟩ prog_11_method_23_code 2 (Option.none : Option FieldType)) ∈ Tg := mTg (mT5 28 rfl) rfl
set_option maxRecDepth 20000 in
theorem w_989 : (Cond.constant "PpmTreesModel" 159 (49152 : Int32)) ∈ Tg := mTg (mT5 29 rfl) rfl
set_option maxRecDepth 20000 in
theorem w_990 : (Cond.methodLink "PpmTreesModel" 183 ⟨"PpmTreesModel", "flat", "(I)V"⟩) ∈ Tg := mTg (mT5 30 rfl) rfl
set_option maxRecDepth 20000 in
theorem w_992 : (Cond.instanceMethod ⟨"PpmTreesModel", "flat", "(I)V"⟩) ∈ Tg := mTg (mT5 32 rfl) rfl
set_option maxRecDepth 20000 in
theorem w_993 : (Cond.code ⟨"PpmTreesModel", "flat", "(I)V"⟩ prog_11_method_20_code 3 (Option.none : Option FieldType)) ∈ Tg := mTg (mT5 33 rfl) rfl
set_option maxRecDepth 20000 in
theorem w_994 : (Cond.methodLink "PpmTreesModel" 186 ⟨"PpmTreesModel", "learn", "(III)V"⟩) ∈ Tg := mTg (mT5 34 rfl) rfl
set_option maxRecDepth 20000 in
theorem w_996 : (Cond.instanceMethod ⟨"PpmTreesModel", "learn", "(III)V"⟩) ∈ Tg := mTg (mT5 36 rfl) rfl
set_option maxRecDepth 20000 in
theorem w_997 : (Cond.code ⟨"PpmTreesModel", "learn", "(III)V"⟩ prog_11_method_21_code 8 (Option.none : Option FieldType)) ∈ Tg := mTg (mT5 37 rfl) rfl
set_option maxRecDepth 20000 in
theorem w_998 : (Cond.methodLink "PpmTreesModel" 133 ⟨"PpmTreesModel", "halve", "(II)V"⟩) ∈ Tg := mTg (mT5 38 rfl) rfl
set_option maxRecDepth 20000 in
theorem w_1000 : (Cond.instanceMethod ⟨"PpmTreesModel", "halve", "(II)V"⟩) ∈ Tg := mTg (mT5 40 rfl) rfl
set_option maxRecDepth 20000 in
theorem w_1001 : (Cond.code ⟨"PpmTreesModel", "halve", "(II)V"⟩ prog_11_method_22_code 5 (Option.none : Option FieldType)) ∈ Tg := mTg (mT5 41 rfl) rfl
set_option maxRecDepth 20000 in
theorem w_1002 : (Cond.methodLink "PpmTreesLaw" 73 ⟨"PpmTreesModel", "told", "(I)I"⟩) ∈ Tg := mTg (mT5 42 rfl) rfl
set_option maxRecDepth 20000 in
theorem w_1003 : (Cond.instanceMethod ⟨"PpmTreesModel", "told", "(I)I"⟩) ∈ Tg := mTg (mT5 43 rfl) rfl
set_option maxRecDepth 20000 in
theorem w_1004 : (Cond.selects "PpmTreesModel" ⟨"PpmTreesModel", "told", "(I)I"⟩ ⟨"PpmTreesModel", "told", "(I)I"⟩) ∈ Tg := mTg (mT5 44 rfl) rfl
set_option maxRecDepth 20000 in
theorem w_1005 : (Cond.code ⟨"PpmTreesModel", "told", "(I)I"⟩ prog_11_method_29_code 2 (Option.some FieldType.int)) ∈ Tg := mTg (mT5 45 rfl) rfl
set_option maxRecDepth 20000 in
theorem w_1006 : (Cond.methodLink "PpmTreesLaw" 77 ⟨"PpmTreesModel", "sign", "(II)I"⟩) ∈ Tg := mTg (mT5 46 rfl) rfl
set_option maxRecDepth 20000 in
theorem w_1007 : (Cond.instanceMethod ⟨"PpmTreesModel", "sign", "(II)I"⟩) ∈ Tg := mTg (mT5 47 rfl) rfl
set_option maxRecDepth 20000 in
theorem w_1008 : (Cond.selects "PpmTreesModel" ⟨"PpmTreesModel", "sign", "(II)I"⟩ ⟨"PpmTreesModel", "sign", "(II)I"⟩) ∈ Tg := mTg (mT5 48 rfl) rfl
set_option maxRecDepth 20000 in
theorem w_1009 : (Cond.code ⟨"PpmTreesModel", "sign", "(II)I"⟩ prog_11_method_30_code 3 (Option.some FieldType.int)) ∈ Tg := mTg (mT5 49 rfl) rfl
set_option maxRecDepth 20000 in
theorem w_1010 : (Cond.methodLink "PpmTreesLaw" 65 ⟨"PpmTreesModel", "open", "()I"⟩) ∈ Tg := mTg (mT5 50 rfl) rfl
set_option maxRecDepth 20000 in
theorem w_1011 : (Cond.instanceMethod ⟨"PpmTreesModel", "open", "()I"⟩) ∈ Tg := mTg (mT5 51 rfl) rfl
set_option maxRecDepth 20000 in
theorem w_1012 : (Cond.selects "PpmTreesModel" ⟨"PpmTreesModel", "open", "()I"⟩ ⟨"PpmTreesModel", "open", "()I"⟩) ∈ Tg := mTg (mT5 52 rfl) rfl
set_option maxRecDepth 20000 in
theorem w_1013 : (Cond.code ⟨"PpmTreesModel", "open", "()I"⟩ prog_11_method_35_code 6 (Option.some FieldType.int)) ∈ Tg := mTg (mT5 53 rfl) rfl
set_option maxRecDepth 20000 in
theorem w_1014 : (Cond.methodLink "PpmTreesModel" 219 ⟨"PpmTreesModel", "copy", "(II)V"⟩) ∈ Tg := mTg (mT5 54 rfl) rfl
set_option maxRecDepth 20000 in
theorem w_1016 : (Cond.instanceMethod ⟨"PpmTreesModel", "copy", "(II)V"⟩) ∈ Tg := mTg (mT5 56 rfl) rfl
set_option maxRecDepth 20000 in
theorem w_1017 : (Cond.code ⟨"PpmTreesModel", "copy", "(II)V"⟩ prog_11_method_12_code 4 (Option.none : Option FieldType)) ∈ Tg := mTg (mT5 57 rfl) rfl
set_option maxRecDepth 20000 in
theorem w_1018 : (Cond.methodLink "PpmTreesModel" 206 ⟨"PpmTreesModel", "next", "()I"⟩) ∈ Tg := mTg (mT5 58 rfl) rfl
set_option maxRecDepth 20000 in
theorem w_1020 : (Cond.instanceMethod ⟨"PpmTreesModel", "next", "()I"⟩) ∈ Tg := mTg (mT5 60 rfl) rfl
set_option maxRecDepth 20000 in
theorem w_1021 : (Cond.code ⟨"PpmTreesModel", "next", "()I"⟩ prog_11_method_31_code 2 (Option.some FieldType.int)) ∈ Tg := mTg (mT5 61 rfl) rfl
set_option maxRecDepth 20000 in
theorem w_1022 : (Cond.methodLink "PpmTreesModel" 225 ⟨"PpmTreesModel", "readSign", "(I)I"⟩) ∈ Tg := mTg (mT5 62 rfl) rfl
set_option maxRecDepth 20000 in
theorem w_1024 : (Cond.instanceMethod ⟨"PpmTreesModel", "readSign", "(I)I"⟩) ∈ Tg := mTg (mT5 64 rfl) rfl
set_option maxRecDepth 20000 in
theorem w_1025 : (Cond.code ⟨"PpmTreesModel", "readSign", "(I)I"⟩ prog_11_method_34_code 6 (Option.some FieldType.int)) ∈ Tg := mTg (mT5 65 rfl) rfl
set_option maxRecDepth 20000 in
theorem w_1026 : (Cond.methodLink "PpmTreesModel" 210 ⟨"PpmTreesModel", "asked", "(I)I"⟩) ∈ Tg := mTg (mT5 66 rfl) rfl
set_option maxRecDepth 20000 in
theorem w_1028 : (Cond.instanceMethod ⟨"PpmTreesModel", "asked", "(I)I"⟩) ∈ Tg := mTg (mT5 68 rfl) rfl
set_option maxRecDepth 20000 in
theorem w_1029 : (Cond.code ⟨"PpmTreesModel", "asked", "(I)I"⟩ prog_11_method_32_code 2 (Option.some FieldType.int)) ∈ Tg := mTg (mT5 69 rfl) rfl
set_option maxRecDepth 20000 in
theorem w_1030 : (Cond.methodLink "PpmTreesModel" 213 ⟨"PpmTreesModel", "read", "()V"⟩) ∈ Tg := mTg (mT5 70 rfl) rfl
set_option maxRecDepth 20000 in
theorem w_1032 : (Cond.instanceMethod ⟨"PpmTreesModel", "read", "()V"⟩) ∈ Tg := mTg (mT5 72 rfl) rfl
set_option maxRecDepth 20000 in
theorem w_1033 : (Cond.code ⟨"PpmTreesModel", "read", "()V"⟩ prog_11_method_33_code 3 (Option.none : Option FieldType)) ∈ Tg := mTg (mT5 73 rfl) rfl
set_option maxRecDepth 20000 in
theorem w_1034 : (Cond.methodLink "PpmTreesLaw" 69 ⟨"PpmTreesModel", "place", "()I"⟩) ∈ Tg := mTg (mT5 74 rfl) rfl
set_option maxRecDepth 20000 in
theorem w_1035 : (Cond.instanceMethod ⟨"PpmTreesModel", "place", "()I"⟩) ∈ Tg := mTg (mT5 75 rfl) rfl
set_option maxRecDepth 20000 in
theorem w_1036 : (Cond.selects "PpmTreesModel" ⟨"PpmTreesModel", "place", "()I"⟩ ⟨"PpmTreesModel", "place", "()I"⟩) ∈ Tg := mTg (mT5 76 rfl) rfl
set_option maxRecDepth 20000 in
theorem w_1037 : (Cond.code ⟨"PpmTreesModel", "place", "()I"⟩ prog_11_method_36_code 1 (Option.some FieldType.int)) ∈ Tg := mTg (mT5 77 rfl) rfl
set_option maxRecDepth 20000 in
theorem w_1038 : (Cond.methodLink "PpmTreesLaw" 81 ⟨"PpmTreesModel", "nodes", "(I)I"⟩) ∈ Tg := mTg (mT5 78 rfl) rfl
set_option maxRecDepth 20000 in
theorem w_1039 : (Cond.instanceMethod ⟨"PpmTreesModel", "nodes", "(I)I"⟩) ∈ Tg := mTg (mT5 79 rfl) rfl
set_option maxRecDepth 20000 in
theorem w_1040 : (Cond.selects "PpmTreesModel" ⟨"PpmTreesModel", "nodes", "(I)I"⟩ ⟨"PpmTreesModel", "nodes", "(I)I"⟩) ∈ Tg := mTg (mT5 80 rfl) rfl
set_option maxRecDepth 20000 in
theorem w_1041 : (Cond.code ⟨"PpmTreesModel", "nodes", "(I)I"⟩ prog_11_method_37_code 2 (Option.some FieldType.int)) ∈ Tg := mTg (mT5 81 rfl) rfl
set_option maxRecDepth 20000 in
theorem w_1042 : (Cond.methodLink "PpmTreesLaw" 85 ⟨"PpmTreesModel", "node", "(III)I"⟩) ∈ Tg := mTg (mT5 82 rfl) rfl
set_option maxRecDepth 20000 in
theorem w_1043 : (Cond.instanceMethod ⟨"PpmTreesModel", "node", "(III)I"⟩) ∈ Tg := mTg (mT5 83 rfl) rfl
set_option maxRecDepth 20000 in
theorem w_1044 : (Cond.selects "PpmTreesModel" ⟨"PpmTreesModel", "node", "(III)I"⟩ ⟨"PpmTreesModel", "node", "(III)I"⟩) ∈ Tg := mTg (mT5 84 rfl) rfl
set_option maxRecDepth 20000 in
theorem w_1045 : (Cond.code ⟨"PpmTreesModel", "node", "(III)I"⟩ prog_11_method_38_code 7 (Option.some FieldType.int)) ∈ Tg := mTg (mT5 85 rfl) rfl
set_option maxRecDepth 20000 in
theorem w_1046 : (Cond.methodLink "PpmTreesLaw" 92 ⟨"PpmTreesModel", "latest", "(II)I"⟩) ∈ Tg := mTg (mT5 86 rfl) rfl
set_option maxRecDepth 20000 in
theorem w_1047 : (Cond.instanceMethod ⟨"PpmTreesModel", "latest", "(II)I"⟩) ∈ Tg := mTg (mT5 87 rfl) rfl
set_option maxRecDepth 20000 in
theorem w_1048 : (Cond.selects "PpmTreesModel" ⟨"PpmTreesModel", "latest", "(II)I"⟩ ⟨"PpmTreesModel", "latest", "(II)I"⟩) ∈ Tg := mTg (mT5 88 rfl) rfl
set_option maxRecDepth 20000 in
theorem w_1049 : (Cond.code ⟨"PpmTreesModel", "latest", "(II)I"⟩ prog_11_method_39_code 3 (Option.some FieldType.int)) ∈ Tg := mTg (mT5 89 rfl) rfl
set_option maxRecDepth 20000 in
theorem w_1050 : (Cond.methodLink "PpmTreesLaw" 96 ⟨"PpmTreesModel", "restarted", "(I)I"⟩) ∈ Tg := mTg (mT5 90 rfl) rfl
set_option maxRecDepth 20000 in
theorem w_1051 : (Cond.instanceMethod ⟨"PpmTreesModel", "restarted", "(I)I"⟩) ∈ Tg := mTg (mT5 91 rfl) rfl
set_option maxRecDepth 20000 in
theorem w_1052 : (Cond.selects "PpmTreesModel" ⟨"PpmTreesModel", "restarted", "(I)I"⟩ ⟨"PpmTreesModel", "restarted", "(I)I"⟩) ∈ Tg := mTg (mT5 92 rfl) rfl
set_option maxRecDepth 20000 in
theorem w_1053 : (Cond.code ⟨"PpmTreesModel", "restarted", "(I)I"⟩ prog_11_method_40_code 2 (Option.some FieldType.int)) ∈ Tg := mTg (mT5 93 rfl) rfl
set_option maxRecDepth 20000 in
theorem w_1054 : (Cond.methodLink "PpmTreesLaw" 100 ⟨"PpmTreesModel", "reset", "(I)I"⟩) ∈ Tg := mTg (mT5 94 rfl) rfl
set_option maxRecDepth 20000 in
theorem w_1055 : (Cond.instanceMethod ⟨"PpmTreesModel", "reset", "(I)I"⟩) ∈ Tg := mTg (mT5 95 rfl) rfl
set_option maxRecDepth 20000 in
theorem w_1056 : (Cond.selects "PpmTreesModel" ⟨"PpmTreesModel", "reset", "(I)I"⟩ ⟨"PpmTreesModel", "reset", "(I)I"⟩) ∈ Tg := mTg (mT5 96 rfl) rfl
set_option maxRecDepth 20000 in
theorem w_1057 : (Cond.code ⟨"PpmTreesModel", "reset", "(I)I"⟩ prog_11_method_41_code 3 (Option.some FieldType.int)) ∈ Tg := mTg (mT5 97 rfl) rfl
set_option maxRecDepth 20000 in
theorem w_1058 : (Cond.methodLink "PpmTreesLaw" 104 ⟨"PpmTreesModel", "equal", "()I"⟩) ∈ Tg := mTg (mT5 98 rfl) rfl
set_option maxRecDepth 20000 in
theorem w_1059 : (Cond.instanceMethod ⟨"PpmTreesModel", "equal", "()I"⟩) ∈ Tg := mTg (mT5 99 rfl) rfl
set_option maxRecDepth 20000 in
theorem w_1060 : (Cond.selects "PpmTreesModel" ⟨"PpmTreesModel", "equal", "()I"⟩ ⟨"PpmTreesModel", "equal", "()I"⟩) ∈ Tg := mTg (mT5 100 rfl) rfl
set_option maxRecDepth 20000 in
theorem w_1061 : (Cond.code ⟨"PpmTreesModel", "equal", "()I"⟩ prog_11_method_42_code 3 (Option.some FieldType.int)) ∈ Tg := mTg (mT5 101 rfl) rfl
set_option maxRecDepth 20000 in
theorem w_1062 : (Cond.methodLink "PpmTreesLaw" 108 ⟨"PpmTreesModel", "save", "(I)I"⟩) ∈ Tg := mTg (mT5 102 rfl) rfl
set_option maxRecDepth 20000 in
theorem w_1063 : (Cond.instanceMethod ⟨"PpmTreesModel", "save", "(I)I"⟩) ∈ Tg := mTg (mT5 103 rfl) rfl
set_option maxRecDepth 20000 in
theorem w_1064 : (Cond.selects "PpmTreesModel" ⟨"PpmTreesModel", "save", "(I)I"⟩ ⟨"PpmTreesModel", "save", "(I)I"⟩) ∈ Tg := mTg (mT5 104 rfl) rfl
set_option maxRecDepth 20000 in
theorem w_1065 : (Cond.code ⟨"PpmTreesModel", "save", "(I)I"⟩ prog_11_method_43_code 2 (Option.some FieldType.int)) ∈ Tg := mTg (mT5 105 rfl) rfl
set_option maxRecDepth 20000 in
theorem w_1066 : (Cond.methodLink "PpmTreesLaw" 112 ⟨"PpmTreesModel", "restore", "(II)I"⟩) ∈ Tg := mTg (mT5 106 rfl) rfl
set_option maxRecDepth 20000 in
theorem w_1067 : (Cond.instanceMethod ⟨"PpmTreesModel", "restore", "(II)I"⟩) ∈ Tg := mTg (mT5 107 rfl) rfl
set_option maxRecDepth 20000 in
theorem w_1068 : (Cond.selects "PpmTreesModel" ⟨"PpmTreesModel", "restore", "(II)I"⟩ ⟨"PpmTreesModel", "restore", "(II)I"⟩) ∈ Tg := mTg (mT5 108 rfl) rfl
set_option maxRecDepth 20000 in
theorem w_1069 : (Cond.code ⟨"PpmTreesModel", "restore", "(II)I"⟩ prog_11_method_44_code 3 (Option.some FieldType.int)) ∈ Tg := mTg (mT5 109 rfl) rfl
set_option maxRecDepth 20000 in
theorem w_1070 : (Cond.methodLink "PpmTreesLaw" 116 ⟨"PpmTreesModel", "forget", "()I"⟩) ∈ Tg := mTg (mT5 110 rfl) rfl
set_option maxRecDepth 20000 in
theorem w_1071 : (Cond.instanceMethod ⟨"PpmTreesModel", "forget", "()I"⟩) ∈ Tg := mTg (mT5 111 rfl) rfl
set_option maxRecDepth 20000 in
theorem w_1072 : (Cond.selects "PpmTreesModel" ⟨"PpmTreesModel", "forget", "()I"⟩ ⟨"PpmTreesModel", "forget", "()I"⟩) ∈ Tg := mTg (mT5 112 rfl) rfl
set_option maxRecDepth 20000 in
theorem w_1073 : (Cond.code ⟨"PpmTreesModel", "forget", "()I"⟩ prog_11_method_45_code 2 (Option.some FieldType.int)) ∈ Tg := mTg (mT5 113 rfl) rfl
set_option maxRecDepth 20000 in
theorem w_1074 : (Cond.methodLink "PpmTreesLaw" 120 ⟨"PpmTreesModel", "cost", "(II)I"⟩) ∈ Tg := mTg (mT5 114 rfl) rfl
set_option maxRecDepth 20000 in
theorem w_1075 : (Cond.instanceMethod ⟨"PpmTreesModel", "cost", "(II)I"⟩) ∈ Tg := mTg (mT5 115 rfl) rfl
set_option maxRecDepth 20000 in
theorem w_1076 : (Cond.selects "PpmTreesModel" ⟨"PpmTreesModel", "cost", "(II)I"⟩ ⟨"PpmTreesModel", "cost", "(II)I"⟩) ∈ Tg := mTg (mT5 116 rfl) rfl
set_option maxRecDepth 20000 in
theorem w_1077 : (Cond.code ⟨"PpmTreesModel", "cost", "(II)I"⟩ prog_11_method_47_code 6 (Option.some FieldType.int)) ∈ Tg := mTg (mT5 117 rfl) rfl
set_option maxRecDepth 20000 in
theorem w_1078 : (Cond.methodLink "PpmTreesModel" 231 ⟨"PpmTreesModel", "bitsOf", "()I"⟩) ∈ Tg := mTg (mT5 118 rfl) rfl
set_option maxRecDepth 20000 in
theorem w_1080 : (Cond.instanceMethod ⟨"PpmTreesModel", "bitsOf", "()I"⟩) ∈ Tg := mTg (mT5 120 rfl) rfl
set_option maxRecDepth 20000 in
theorem w_1081 : (Cond.code ⟨"PpmTreesModel", "bitsOf", "()I"⟩ prog_11_method_46_code 2 (Option.some FieldType.int)) ∈ Tg := mTg (mT5 121 rfl) rfl
set_option maxRecDepth 20000 in
theorem w_1082 : (Cond.arrayClass FieldType.long) ∈ Tg := mTg (mT5 122 rfl) rfl
set_option maxRecDepth 20000 in
theorem w_1083 : (Cond.sameMethod "PpmTrees$Range" "PpmTrees$Range" "begin" "()V") ∈ Tg := mTg (mT5 123 rfl) rfl
set_option maxRecDepth 20000 in
theorem w_1084 : (Cond.sameMethod "PpmTrees$Range" "PpmTrees$Range" "widen" "(I)V") ∈ Tg := mTg (mT5 124 rfl) rfl
set_option maxRecDepth 20000 in
theorem w_1085 : (Cond.sameMethod "java/lang/Throwable" "java/lang/Throwable" "fillInStackTrace" "(I)Ljava/lang/Throwable;") ∈ Tg := mTg (mT5 125 rfl) rfl
set_option maxRecDepth 20000 in
theorem w_1087 : (Cond.sameMethod "[Ljava/lang/Object;" "java/lang/Object" "getClass" "()Ljava/lang/Class;") ∈ Tg := mTg (mT5 127 rfl) rfl
set_option maxRecDepth 20000 in
theorem w_1088 : (Cond.selects "[Ljava/lang/Object;" ⟨"java/lang/Object", "getClass", "()Ljava/lang/Class;"⟩ ⟨"java/lang/Object", "getClass", "()Ljava/lang/Class;"⟩) ∈ Tg := mTg (mT5 128 rfl) rfl

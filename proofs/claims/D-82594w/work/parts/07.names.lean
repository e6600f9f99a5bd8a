abbrev y_Binit : MethodName := ⟨"BinTrees", "<init>", "()V"⟩
abbrev b_Binit : ByteArray := prog_1_method_1_code
abbrev y_Jinit : MethodName := ⟨"java/lang/Object", "<init>", "()V"⟩
abbrev b_Jinit : ByteArray := object_method_1_code
abbrev y_Ainit : MethodName := ⟨"java/util/ArrayList", "<init>", "()V"⟩
abbrev b_Ainit : ByteArray := prog_16_method_2_code
abbrev y_Yinit : MethodName := ⟨"java/util/AbstractList", "<init>", "()V"⟩
abbrev b_Yinit : ByteArray := prog_15_method_1_code
abbrev y_Zinit : MethodName := ⟨"java/util/AbstractCollection", "<init>", "()V"⟩
abbrev b_Zinit : ByteArray := prog_14_method_1_code
abbrev y_Tinit : MethodName := ⟨"BinTrees$Tree", "<init>", "(I)V"⟩
abbrev b_Tinit : ByteArray := prog_5_method_1_code
abbrev y_Pinit : MethodName := ⟨"BinTrees$Place", "<init>", "(I)V"⟩
abbrev b_Pinit : ByteArray := prog_2_method_1_code
abbrev y_Bmake : MethodName := ⟨"BinTrees", "make", "(I)I"⟩
abbrev b_Bmake : ByteArray := prog_1_method_5_code
abbrev y_BisIn : MethodName := ⟨"BinTrees", "isIn", "(II)Z"⟩
abbrev b_BisIn : ByteArray := prog_1_method_2_code
abbrev y_Asize : MethodName := ⟨"java/util/ArrayList", "size", "()I"⟩
abbrev b_Asize : ByteArray := prog_16_method_8_code
abbrev y_Badd : MethodName := ⟨"BinTrees", "add", "(IIIII)I"⟩
abbrev b_Badd : ByteArray := prog_1_method_4_code
abbrev y_Rinit : MethodName := ⟨"BinTrees$Row", "<init>", "(IIIIIII)V"⟩
abbrev b_Rinit : ByteArray := prog_3_method_1_code
abbrev y_Qinit : MethodName := ⟨"java/lang/Record", "<init>", "()V"⟩
abbrev b_Qinit : ByteArray := prog_12_method_1_code
abbrev y_Aadd1 : MethodName := ⟨"java/util/ArrayList", "add", "(Ljava/lang/Object;)Z"⟩
abbrev b_Aadd1 : ByteArray := prog_16_method_25_code
abbrev y_Aadd3 : MethodName := ⟨"java/util/ArrayList", "add", "(Ljava/lang/Object;[Ljava/lang/Object;I)V"⟩
abbrev b_Aadd3 : ByteArray := prog_16_method_24_code
abbrev y_Agrow0 : MethodName := ⟨"java/util/ArrayList", "grow", "()[Ljava/lang/Object;"⟩
abbrev b_Agrow0 : ByteArray := prog_16_method_7_code
abbrev y_Agrow1 : MethodName := ⟨"java/util/ArrayList", "grow", "(I)[Ljava/lang/Object;"⟩
abbrev b_Agrow1 : ByteArray := prog_16_method_6_code
abbrev y_UnewLength : MethodName := ⟨"jdk/internal/util/ArraysSupport", "newLength", "(III)I"⟩
abbrev b_UnewLength : ByteArray := prog_25_method_27_code
abbrev y_Hmax : MethodName := ⟨"java/lang/Math", "max", "(II)I"⟩
abbrev b_Hmax : ByteArray := prog_11_method_65_code
abbrev y_UhugeLength : MethodName := ⟨"jdk/internal/util/ArraysSupport", "hugeLength", "(II)I"⟩
abbrev b_UhugeLength : ByteArray := prog_25_method_28_code
abbrev y_VcopyOf2 : MethodName := ⟨"java/util/Arrays", "copyOf", "([Ljava/lang/Object;I)[Ljava/lang/Object;"⟩
abbrev b_VcopyOf2 : ByteArray := prog_18_method_119_code
abbrev y_VcopyOf3 : MethodName := ⟨"java/util/Arrays", "copyOf", "([Ljava/lang/Object;ILjava/lang/Class;)[Ljava/lang/Object;"⟩
abbrev b_VcopyOf3 : ByteArray := prog_18_method_120_code
abbrev y_Hmin : MethodName := ⟨"java/lang/Math", "min", "(II)I"⟩
abbrev b_Hmin : ByteArray := prog_11_method_69_code
abbrev y_Tlearn : MethodName := ⟨"BinTrees$Tree", "learn", "(LBinTrees$Row;)V"⟩
abbrev b_Tlearn : ByteArray := prog_5_method_14_code
abbrev y_Rtime : MethodName := ⟨"BinTrees$Row", "time", "()I"⟩
abbrev b_Rtime : ByteArray := prog_3_method_8_code
abbrev y_Rsort : MethodName := ⟨"BinTrees$Row", "sort", "()I"⟩
abbrev b_Rsort : ByteArray := prog_3_method_9_code
abbrev y_Robject : MethodName := ⟨"BinTrees$Row", "object", "()I"⟩
abbrev b_Robject : ByteArray := prog_3_method_10_code
abbrev y_Rnumber : MethodName := ⟨"BinTrees$Row", "number", "()I"⟩
abbrev b_Rnumber : ByteArray := prog_3_method_6_code
abbrev y_Sinit : MethodName := ⟨"BinTrees$Step", "<init>", "(LBinTrees$Row;)V"⟩
abbrev b_Sinit : ByteArray := prog_4_method_1_code
abbrev y_Aget : MethodName := ⟨"java/util/ArrayList", "get", "(I)Ljava/lang/Object;"⟩
abbrev b_Aget : ByteArray := prog_16_method_20_code
abbrev y_OcheckIndex : MethodName := ⟨"java/util/Objects", "checkIndex", "(II)I"⟩
abbrev b_OcheckIndex : ByteArray := prog_22_method_17_code
abbrev y_CcheckIndex : MethodName := ⟨"jdk/internal/util/Preconditions", "checkIndex", "(IILjava/util/function/BiFunction;)I"⟩
abbrev b_CcheckIndex : ByteArray := prog_26_method_11_code
abbrev y_AelementData : MethodName := ⟨"java/util/ArrayList", "elementData", "(I)Ljava/lang/Object;"⟩
abbrev b_AelementData : ByteArray := prog_16_method_18_code
abbrev y_Tback : MethodName := ⟨"BinTrees$Tree", "back", "(LBinTrees$Step;)V"⟩
abbrev b_Tback : ByteArray := prog_5_method_11_code
abbrev y_Ttake : MethodName := ⟨"BinTrees$Tree", "take", "(LBinTrees$Place;)V"⟩
abbrev b_Ttake : ByteArray := prog_5_method_5_code
abbrev y_PplaceOf : MethodName := ⟨"BinTrees$Place", "placeOf", "(LBinTrees$Place;)I"⟩
abbrev b_PplaceOf : ByteArray := prog_2_method_2_code
abbrev y_Aremove : MethodName := ⟨"java/util/ArrayList", "remove", "(I)Ljava/lang/Object;"⟩
abbrev b_Aremove : ByteArray := prog_16_method_29_code
abbrev y_AfastRemove : MethodName := ⟨"java/util/ArrayList", "fastRemove", "([Ljava/lang/Object;I)V"⟩
abbrev b_AfastRemove : ByteArray := prog_16_method_39_code
abbrev y_Tput : MethodName := ⟨"BinTrees$Tree", "put", "(LBinTrees$Place;LBinTrees$Place;I)V"⟩
abbrev b_Tput : ByteArray := prog_5_method_6_code
abbrev y_Aadd2 : MethodName := ⟨"java/util/ArrayList", "add", "(ILjava/lang/Object;)V"⟩
abbrev b_Aadd2 : ByteArray := prog_16_method_26_code
abbrev y_ArangeCheckForAdd : MethodName := ⟨"java/util/ArrayList", "rangeCheckForAdd", "(I)V"⟩
abbrev b_ArangeCheckForAdd : ByteArray := prog_16_method_45_code
abbrev y_Tgo : MethodName := ⟨"BinTrees$Tree", "go", "(LBinTrees$Step;)V"⟩
abbrev b_Tgo : ByteArray := prog_5_method_8_code
abbrev y_Tbegin : MethodName := ⟨"BinTrees$Tree", "begin", "(LBinTrees$Step;LBinTrees$Place;)V"⟩
abbrev b_Tbegin : ByteArray := prog_5_method_7_code
abbrev y_Rto : MethodName := ⟨"BinTrees$Row", "to", "()I"⟩
abbrev b_Rto : ByteArray := prog_3_method_11_code
abbrev y_Tmove : MethodName := ⟨"BinTrees$Tree", "move", "(LBinTrees$Step;LBinTrees$Place;LBinTrees$Place;)V"⟩
abbrev b_Tmove : ByteArray := prog_5_method_9_code
abbrev y_TmayGo : MethodName := ⟨"BinTrees$Tree", "mayGo", "(LBinTrees$Place;LBinTrees$Place;)Z"⟩
abbrev b_TmayGo : ByteArray := prog_5_method_4_code
abbrev y_PisWithin : MethodName := ⟨"BinTrees$Place", "isWithin", "(LBinTrees$Place;)Z"⟩
abbrev b_PisWithin : ByteArray := prog_2_method_3_code
abbrev y_TisBelowBin : MethodName := ⟨"BinTrees$Tree", "isBelowBin", "(LBinTrees$Place;)Z"⟩
abbrev b_TisBelowBin : ByteArray := prog_5_method_3_code
abbrev y_Ptop : MethodName := ⟨"BinTrees$Place", "top", "()LBinTrees$Place;"⟩
abbrev b_Ptop : ByteArray := prog_2_method_6_code
abbrev y_Pdepth : MethodName := ⟨"BinTrees$Place", "depth", "()I"⟩
abbrev b_Pdepth : ByteArray := prog_2_method_4_code
abbrev y_Pheight : MethodName := ⟨"BinTrees$Place", "height", "()I"⟩
abbrev b_Pheight : ByteArray := prog_2_method_5_code
abbrev y_Rbehind : MethodName := ⟨"BinTrees$Row", "behind", "()I"⟩
abbrev b_Rbehind : ByteArray := prog_3_method_12_code
abbrev y_TisInBin : MethodName := ⟨"BinTrees$Tree", "isInBin", "(LBinTrees$Place;)Z"⟩
abbrev b_TisInBin : ByteArray := prog_5_method_2_code
abbrev y_Trestore : MethodName := ⟨"BinTrees$Tree", "restore", "(LBinTrees$Step;LBinTrees$Place;)V"⟩
abbrev b_Trestore : ByteArray := prog_5_method_10_code
abbrev y_TplaceOf : MethodName := ⟨"BinTrees$Tree", "placeOf", "(LBinTrees$Row;)I"⟩
abbrev b_TplaceOf : ByteArray := prog_5_method_12_code
abbrev y_RisBefore : MethodName := ⟨"BinTrees$Row", "isBefore", "(LBinTrees$Row;)Z"⟩
abbrev b_RisBefore : ByteArray := prog_3_method_2_code
abbrev y_Tjudge : MethodName := ⟨"BinTrees$Tree", "judge", "(ILBinTrees$Step;)V"⟩
abbrev b_Tjudge : ByteArray := prog_5_method_13_code
abbrev y_Bmove : MethodName := ⟨"BinTrees", "move", "(IIII)I"⟩
abbrev b_Bmove : ByteArray := prog_1_method_7_code
abbrev y_BmayAdd : MethodName := ⟨"BinTrees", "mayAdd", "(II)Z"⟩
abbrev b_BmayAdd : ByteArray := prog_1_method_6_code
abbrev y_Bremove : MethodName := ⟨"BinTrees", "remove", "(IIZ)I"⟩
abbrev b_Bremove : ByteArray := prog_1_method_8_code
abbrev y_Bundo : MethodName := ⟨"BinTrees", "undo", "(II)I"⟩
abbrev b_Bundo : ByteArray := prog_1_method_9_code
abbrev y_BisRow : MethodName := ⟨"BinTrees", "isRow", "(I)Z"⟩
abbrev b_BisRow : ByteArray := prog_1_method_3_code
abbrev y_Rnode : MethodName := ⟨"BinTrees$Row", "node", "()I"⟩
abbrev b_Rnode : ByteArray := prog_3_method_7_code
abbrev y_Bsee : MethodName := ⟨"BinTrees", "see", "(II)I"⟩
abbrev b_Bsee : ByteArray := prog_1_method_10_code
abbrev y_Bmeet : MethodName := ⟨"BinTrees", "meet", "(II)I"⟩
abbrev b_Bmeet : ByteArray := prog_1_method_11_code
abbrev y_Aiterator : MethodName := ⟨"java/util/ArrayList", "iterator", "()Ljava/util/Iterator;"⟩
abbrev b_Aiterator : ByteArray := prog_16_method_55_code
abbrev y_Iinit : MethodName := ⟨"java/util/ArrayList$Itr", "<init>", "(Ljava/util/ArrayList;)V"⟩
abbrev b_Iinit : ByteArray := prog_17_method_1_code
abbrev y_IhasNext : MethodName := ⟨"java/util/ArrayList$Itr", "hasNext", "()Z"⟩
abbrev b_IhasNext : ByteArray := prog_17_method_2_code
abbrev y_Inext : MethodName := ⟨"java/util/ArrayList$Itr", "next", "()Ljava/lang/Object;"⟩
abbrev b_Inext : ByteArray := prog_17_method_3_code
abbrev y_IcheckForComodification : MethodName := ⟨"java/util/ArrayList$Itr", "checkForComodification", "()V"⟩
abbrev b_IcheckForComodification : ByteArray := prog_17_method_6_code
abbrev y_Bcost : MethodName := ⟨"BinTrees", "cost", "(I)I"⟩
abbrev b_Bcost : ByteArray := prog_1_method_12_code
abbrev y_Bobject : MethodName := ⟨"BinTrees", "object", "(III)I"⟩
abbrev b_Bobject : ByteArray := prog_1_method_14_code
abbrev y_Bplace : MethodName := ⟨"BinTrees", "place", "(II)LBinTrees$Place;"⟩
abbrev b_Bplace : ByteArray := prog_1_method_13_code
abbrev y_Bchild : MethodName := ⟨"BinTrees", "child", "(III)I"⟩
abbrev b_Bchild : ByteArray := prog_1_method_15_code
abbrev y_Brow : MethodName := ⟨"BinTrees", "row", "(II)I"⟩
abbrev b_Brow : ByteArray := prog_1_method_16_code
abbrev y_Bjudged : MethodName := ⟨"BinTrees", "judged", "(II)I"⟩
abbrev b_Bjudged : ByteArray := prog_1_method_17_code
abbrev y_Balike : MethodName := ⟨"BinTrees", "alike", "(II)Z"⟩
abbrev b_Balike : ByteArray := prog_1_method_19_code
abbrev y_BareAlike : MethodName := ⟨"BinTrees", "areAlike", "(LBinTrees$Place;LBinTrees$Place;)Z"⟩
abbrev b_BareAlike : ByteArray := prog_1_method_18_code
abbrev y_Btotal : MethodName := ⟨"BinTrees", "total", "(I)I"⟩
abbrev b_Btotal : ByteArray := prog_1_method_20_code
abbrev y_Tthere : MethodName := ⟨"BinTrees$Tree", "there", "()I"⟩
abbrev b_Tthere : ByteArray := prog_5_method_15_code
abbrev y_Minit : MethodName := ⟨"BinTreesModel", "<init>", "()V"⟩
abbrev b_Minit : ByteArray := prog_7_method_1_code
abbrev y_Mmake : MethodName := ⟨"BinTreesModel", "make", "(I)I"⟩
abbrev b_Mmake : ByteArray := prog_7_method_25_code
abbrev y_MisNode : MethodName := ⟨"BinTreesModel", "isNode", "(I)Z"⟩
abbrev b_MisNode : ByteArray := prog_7_method_24_code
abbrev y_Mwithin : MethodName := ⟨"BinTreesModel", "within", "(III)Z"⟩
abbrev b_Mwithin : ByteArray := prog_7_method_3_code
abbrev y_Madd : MethodName := ⟨"BinTreesModel", "add", "(IIIII)I"⟩
abbrev b_Madd : ByteArray := prog_7_method_23_code
abbrev y_Mlearn : MethodName := ⟨"BinTreesModel", "learn", "(II)V"⟩
abbrev b_Mlearn : ByteArray := prog_7_method_22_code
abbrev y_McostOf : MethodName := ⟨"BinTreesModel", "costOf", "(II)I"⟩
abbrev b_McostOf : ByteArray := prog_7_method_21_code
abbrev y_MknowsRow : MethodName := ⟨"BinTreesModel", "knowsRow", "(II)Z"⟩
abbrev b_MknowsRow : ByteArray := prog_7_method_4_code
abbrev y_MisBefore : MethodName := ⟨"BinTreesModel", "isBefore", "(II)Z"⟩
abbrev b_MisBefore : ByteArray := prog_7_method_5_code
abbrev y_Mmove : MethodName := ⟨"BinTreesModel", "move", "(IIII)I"⟩
abbrev b_Mmove : ByteArray := prog_7_method_26_code
abbrev y_Mremove : MethodName := ⟨"BinTreesModel", "remove", "(IIZ)I"⟩
abbrev b_Mremove : ByteArray := prog_7_method_27_code
abbrev y_Mundo : MethodName := ⟨"BinTreesModel", "undo", "(II)I"⟩
abbrev b_Mundo : ByteArray := prog_7_method_28_code
abbrev y_MisUndone : MethodName := ⟨"BinTreesModel", "isUndone", "(II)Z"⟩
abbrev b_MisUndone : ByteArray := prog_7_method_6_code
abbrev y_Msee : MethodName := ⟨"BinTreesModel", "see", "(II)I"⟩
abbrev b_Msee : ByteArray := prog_7_method_29_code
abbrev y_Mmeet : MethodName := ⟨"BinTreesModel", "meet", "(II)I"⟩
abbrev b_Mmeet : ByteArray := prog_7_method_30_code
abbrev y_MfindOrder : MethodName := ⟨"BinTreesModel", "findOrder", "(I)V"⟩
abbrev b_MfindOrder : ByteArray := prog_7_method_7_code
abbrev y_Mcost : MethodName := ⟨"BinTreesModel", "cost", "(I)I"⟩
abbrev b_Mcost : ByteArray := prog_7_method_31_code
abbrev y_Mobject : MethodName := ⟨"BinTreesModel", "object", "(III)I"⟩
abbrev b_Mobject : ByteArray := prog_7_method_34_code
abbrev y_MisIn : MethodName := ⟨"BinTreesModel", "isIn", "(II)Z"⟩
abbrev b_MisIn : ByteArray := prog_7_method_32_code
abbrev y_Mbuild : MethodName := ⟨"BinTreesModel", "build", "(I)V"⟩
abbrev b_Mbuild : ByteArray := prog_7_method_20_code
abbrev y_MdoRow : MethodName := ⟨"BinTreesModel", "doRow", "(I)Z"⟩
abbrev b_MdoRow : ByteArray := prog_7_method_19_code
abbrev y_MputAt : MethodName := ⟨"BinTreesModel", "putAt", "(III)V"⟩
abbrev b_MputAt : ByteArray := prog_7_method_9_code
abbrev y_MdoMove : MethodName := ⟨"BinTreesModel", "doMove", "(I)Z"⟩
abbrev b_MdoMove : ByteArray := prog_7_method_16_code
abbrev y_MmayGo : MethodName := ⟨"BinTreesModel", "mayGo", "(II)Z"⟩
abbrev b_MmayGo : ByteArray := prog_7_method_14_code
abbrev y_MisBelow : MethodName := ⟨"BinTreesModel", "isBelow", "(II)Z"⟩
abbrev b_MisBelow : ByteArray := prog_7_method_12_code
abbrev y_Mtop : MethodName := ⟨"BinTreesModel", "top", "(I)I"⟩
abbrev b_Mtop : ByteArray := prog_7_method_11_code
abbrev y_Mdepth : MethodName := ⟨"BinTreesModel", "depth", "(I)I"⟩
abbrev b_Mdepth : ByteArray := prog_7_method_10_code
abbrev y_Mheight : MethodName := ⟨"BinTreesModel", "height", "(I)I"⟩
abbrev b_Mheight : ByteArray := prog_7_method_13_code
abbrev y_MtakeOut : MethodName := ⟨"BinTreesModel", "takeOut", "(I)V"⟩
abbrev b_MtakeOut : ByteArray := prog_7_method_8_code
abbrev y_MplaceOf : MethodName := ⟨"BinTreesModel", "placeOf", "(II)I"⟩
abbrev b_MplaceOf : ByteArray := prog_7_method_15_code
abbrev y_MdoRemove : MethodName := ⟨"BinTreesModel", "doRemove", "(I)Z"⟩
abbrev b_MdoRemove : ByteArray := prog_7_method_17_code
abbrev y_MdoRestore : MethodName := ⟨"BinTreesModel", "doRestore", "(I)Z"⟩
abbrev b_MdoRestore : ByteArray := prog_7_method_18_code
abbrev y_MparentOf : MethodName := ⟨"BinTreesModel", "parentOf", "(I)I"⟩
abbrev b_MparentOf : ByteArray := prog_7_method_33_code
abbrev y_Mchild : MethodName := ⟨"BinTreesModel", "child", "(III)I"⟩
abbrev b_Mchild : ByteArray := prog_7_method_35_code
abbrev y_Mrow : MethodName := ⟨"BinTreesModel", "row", "(II)I"⟩
abbrev b_Mrow : ByteArray := prog_7_method_36_code
abbrev y_Mjudged : MethodName := ⟨"BinTreesModel", "judged", "(II)I"⟩
abbrev b_Mjudged : ByteArray := prog_7_method_37_code
abbrev y_Malike : MethodName := ⟨"BinTreesModel", "alike", "(II)Z"⟩
abbrev b_Malike : ByteArray := prog_7_method_38_code
abbrev y_Mtotal : MethodName := ⟨"BinTreesModel", "total", "(I)I"⟩
abbrev b_Mtotal : ByteArray := prog_7_method_42_code
abbrev y_MknownRows : MethodName := ⟨"BinTreesModel", "knownRows", "(I)I"⟩
abbrev b_MknownRows : ByteArray := prog_7_method_39_code
abbrev y_MthereOf : MethodName := ⟨"BinTreesModel", "thereOf", "(I)I"⟩
abbrev b_MthereOf : ByteArray := prog_7_method_40_code
abbrev y_MbinOf : MethodName := ⟨"BinTreesModel", "binOf", "(I)I"⟩
abbrev b_MbinOf : ByteArray := prog_7_method_41_code
abbrev y_Llaw : MethodName := x
abbrev b_Llaw : ByteArray := code
set_option maxRecDepth 20000 in
theorem mi_Binit : Mi y_Binit b_Binit 2 none 0 := ⟨tt_mem 68 rfl rfl, tt_mem 47 (by decide +kernel) rfl, by decide +kernel, by decide +kernel⟩
theorem in_Binit : y_Binit.name = "<init>" ∧ Cond.instanceMethod y_Binit ∈ TT := ⟨rfl, tt_mem 67 (by decide +kernel) rfl⟩
set_option maxRecDepth 20000 in
theorem mi_Ainit : Mi y_Ainit b_Ainit 1 none 0 := ⟨tt_mem 76 rfl rfl, tt_mem 50 (by decide +kernel) rfl, by decide +kernel, by decide +kernel⟩
theorem in_Ainit : y_Ainit.name = "<init>" ∧ Cond.instanceMethod y_Ainit ∈ TT := ⟨rfl, tt_mem 75 (by decide +kernel) rfl⟩
set_option maxRecDepth 20000 in
theorem mi_Yinit : Mi y_Yinit b_Yinit 1 none 0 := ⟨tt_mem 79 rfl rfl, tt_mem 49 (by decide +kernel) rfl, by decide +kernel, by decide +kernel⟩
theorem in_Yinit : y_Yinit.name = "<init>" ∧ Cond.instanceMethod y_Yinit ∈ TT := ⟨rfl, tt_mem 78 (by decide +kernel) rfl⟩
set_option maxRecDepth 20000 in
theorem mi_Zinit : Mi y_Zinit b_Zinit 1 none 0 := ⟨tt_mem 82 rfl rfl, tt_mem 48 (by decide +kernel) rfl, by decide +kernel, by decide +kernel⟩
theorem in_Zinit : y_Zinit.name = "<init>" ∧ Cond.instanceMethod y_Zinit ∈ TT := ⟨rfl, tt_mem 81 (by decide +kernel) rfl⟩
set_option maxRecDepth 20000 in
theorem mi_Tinit : Mi y_Tinit b_Tinit 3 none 1 := ⟨tt_mem 106 rfl rfl, tt_mem 51 (by decide +kernel) rfl, by decide +kernel, by decide +kernel⟩
theorem in_Tinit : y_Tinit.name = "<init>" ∧ Cond.instanceMethod y_Tinit ∈ TT := ⟨rfl, tt_mem 105 (by decide +kernel) rfl⟩
set_option maxRecDepth 20000 in
theorem mi_Pinit : Mi y_Pinit b_Pinit 2 none 1 := ⟨tt_mem 113 rfl rfl, tt_mem 52 (by decide +kernel) rfl, by decide +kernel, by decide +kernel⟩
theorem in_Pinit : y_Pinit.name = "<init>" ∧ Cond.instanceMethod y_Pinit ∈ TT := ⟨rfl, tt_mem 112 (by decide +kernel) rfl⟩
set_option maxRecDepth 20000 in
theorem mi_Bmake : Mi y_Bmake b_Bmake 2 (some .int) 1 := ⟨tt_mem 196 rfl rfl, tt_mem 47 (by decide +kernel) rfl, by decide +kernel, by decide +kernel⟩
theorem in_Bmake : Cond.instanceMethod y_Bmake ∈ TT ∧ Cond.selects y_Bmake.cls y_Bmake y_Bmake ∈ TT := ⟨tt_mem 194 (by decide +kernel) rfl, tt_mem 195 (by decide +kernel) rfl⟩
set_option maxRecDepth 20000 in
theorem mi_BisIn : Mi y_BisIn b_BisIn 2 (some .boolean) 2 := ⟨tt_mem 199 rfl rfl, tt_mem 47 (by decide +kernel) rfl, by decide +kernel, by decide +kernel⟩
theorem in_BisIn : Cond.static y_BisIn ∈ TT := tt_mem 198 (by decide +kernel) rfl
set_option maxRecDepth 20000 in
theorem mi_Asize : Mi y_Asize b_Asize 1 (some .int) 0 := ⟨tt_mem 203 rfl rfl, tt_mem 50 (by decide +kernel) rfl, by decide +kernel, by decide +kernel⟩
theorem in_Asize : Cond.instanceMethod y_Asize ∈ TT ∧ Cond.selects y_Asize.cls y_Asize y_Asize ∈ TT := ⟨tt_mem 201 (by decide +kernel) rfl, tt_mem 202 (by decide +kernel) rfl⟩
set_option maxRecDepth 20000 in
theorem mi_Badd : Mi y_Badd b_Badd 7 (some .int) 5 := ⟨tt_mem 207 rfl rfl, tt_mem 47 (by decide +kernel) rfl, by decide +kernel, by decide +kernel⟩
theorem in_Badd : Cond.instanceMethod y_Badd ∈ TT ∧ Cond.selects y_Badd.cls y_Badd y_Badd ∈ TT := ⟨tt_mem 206 (by decide +kernel) rfl, tt_mem 0 (by decide +kernel) rfl⟩
set_option maxRecDepth 20000 in
theorem mi_Rinit : Mi y_Rinit b_Rinit 8 none 7 := ⟨tt_mem 212 rfl rfl, tt_mem 55 (by decide +kernel) rfl, by decide +kernel, by decide +kernel⟩
theorem in_Rinit : y_Rinit.name = "<init>" ∧ Cond.instanceMethod y_Rinit ∈ TT := ⟨rfl, tt_mem 211 (by decide +kernel) rfl⟩
set_option maxRecDepth 20000 in
theorem mi_Qinit : Mi y_Qinit b_Qinit 1 none 0 := ⟨tt_mem 215 rfl rfl, tt_mem 54 (by decide +kernel) rfl, by decide +kernel, by decide +kernel⟩
theorem in_Qinit : y_Qinit.name = "<init>" ∧ Cond.instanceMethod y_Qinit ∈ TT := ⟨rfl, tt_mem 214 (by decide +kernel) rfl⟩
set_option maxRecDepth 20000 in
theorem mi_Aadd1 : Mi y_Aadd1 b_Aadd1 2 (some .boolean) 1 := ⟨tt_mem 242 rfl rfl, tt_mem 50 (by decide +kernel) rfl, by decide +kernel, by decide +kernel⟩
theorem in_Aadd1 : Cond.instanceMethod y_Aadd1 ∈ TT ∧ Cond.selects y_Aadd1.cls y_Aadd1 y_Aadd1 ∈ TT := ⟨tt_mem 240 (by decide +kernel) rfl, tt_mem 241 (by decide +kernel) rfl⟩
set_option maxRecDepth 20000 in
theorem mi_Aadd3 : Mi y_Aadd3 b_Aadd3 4 none 3 := ⟨tt_mem 246 rfl rfl, tt_mem 50 (by decide +kernel) rfl, by decide +kernel, by decide +kernel⟩
theorem in_Aadd3 : Cond.instanceMethod y_Aadd3 ∈ TT ∧ Cond.selects y_Aadd3.cls y_Aadd3 y_Aadd3 ∈ TT := ⟨tt_mem 245 (by decide +kernel) rfl, tt_mem 1 (by decide +kernel) rfl⟩
set_option maxRecDepth 20000 in
theorem mi_Agrow0 : Mi y_Agrow0 b_Agrow0 1 (some (.array (.object "java/lang/Object"))) 0 := ⟨tt_mem 250 rfl rfl, tt_mem 50 (by decide +kernel) rfl, by decide +kernel, by decide +kernel⟩
theorem in_Agrow0 : Cond.instanceMethod y_Agrow0 ∈ TT ∧ Cond.selects y_Agrow0.cls y_Agrow0 y_Agrow0 ∈ TT := ⟨tt_mem 249 (by decide +kernel) rfl, tt_mem 2 (by decide +kernel) rfl⟩
set_option maxRecDepth 20000 in
theorem mi_Agrow1 : Mi y_Agrow1 b_Agrow1 4 (some (.array (.object "java/lang/Object"))) 1 := ⟨tt_mem 254 rfl rfl, tt_mem 50 (by decide +kernel) rfl, by decide +kernel, by decide +kernel⟩
theorem in_Agrow1 : Cond.instanceMethod y_Agrow1 ∈ TT ∧ Cond.selects y_Agrow1.cls y_Agrow1 y_Agrow1 ∈ TT := ⟨tt_mem 253 (by decide +kernel) rfl, tt_mem 3 (by decide +kernel) rfl⟩
set_option maxRecDepth 20000 in
theorem mi_UnewLength : Mi y_UnewLength b_UnewLength 4 (some .int) 3 := ⟨tt_mem 257 rfl rfl, tt_mem 56 (by decide +kernel) rfl, by decide +kernel, by decide +kernel⟩
theorem in_UnewLength : Cond.static y_UnewLength ∈ TT := tt_mem 256 (by decide +kernel) rfl
set_option maxRecDepth 20000 in
theorem mi_Hmax : Mi y_Hmax b_Hmax 2 (some .int) 2 := ⟨tt_mem 260 rfl rfl, tt_mem 57 (by decide +kernel) rfl, by decide +kernel, by decide +kernel⟩
theorem in_Hmax : Cond.static y_Hmax ∈ TT := tt_mem 259 (by decide +kernel) rfl
set_option maxRecDepth 20000 in
theorem mi_UhugeLength : Mi y_UhugeLength b_UhugeLength 3 (some .int) 2 := ⟨tt_mem 264 rfl rfl, tt_mem 56 (by decide +kernel) rfl, by decide +kernel, by decide +kernel⟩
theorem in_UhugeLength : Cond.static y_UhugeLength ∈ TT := tt_mem 263 (by decide +kernel) rfl
set_option maxRecDepth 20000 in
theorem mi_VcopyOf2 : Mi y_VcopyOf2 b_VcopyOf2 2 (some (.array (.object "java/lang/Object"))) 2 := ⟨tt_mem 267 rfl rfl, tt_mem 58 (by decide +kernel) rfl, by decide +kernel, by decide +kernel⟩
theorem in_VcopyOf2 : Cond.static y_VcopyOf2 ∈ TT := tt_mem 266 (by decide +kernel) rfl
set_option maxRecDepth 20000 in
theorem mi_VcopyOf3 : Mi y_VcopyOf3 b_VcopyOf3 4 (some (.array (.object "java/lang/Object"))) 3 := ⟨tt_mem 282 rfl rfl, tt_mem 58 (by decide +kernel) rfl, by decide +kernel, by decide +kernel⟩
theorem in_VcopyOf3 : Cond.static y_VcopyOf3 ∈ TT := tt_mem 281 (by decide +kernel) rfl
set_option maxRecDepth 20000 in
theorem mi_Hmin : Mi y_Hmin b_Hmin 2 (some .int) 2 := ⟨tt_mem 288 rfl rfl, tt_mem 57 (by decide +kernel) rfl, by decide +kernel, by decide +kernel⟩
theorem in_Hmin : Cond.static y_Hmin ∈ TT := tt_mem 287 (by decide +kernel) rfl
set_option maxRecDepth 20000 in
theorem mi_Tlearn : Mi y_Tlearn b_Tlearn 5 none 1 := ⟨tt_mem 297 rfl rfl, tt_mem 51 (by decide +kernel) rfl, by decide +kernel, by decide +kernel⟩
theorem in_Tlearn : Cond.instanceMethod y_Tlearn ∈ TT ∧ Cond.selects y_Tlearn.cls y_Tlearn y_Tlearn ∈ TT := ⟨tt_mem 295 (by decide +kernel) rfl, tt_mem 296 (by decide +kernel) rfl⟩
set_option maxRecDepth 20000 in
theorem mi_Rtime : Mi y_Rtime b_Rtime 1 (some .int) 0 := ⟨tt_mem 301 rfl rfl, tt_mem 55 (by decide +kernel) rfl, by decide +kernel, by decide +kernel⟩
theorem in_Rtime : Cond.instanceMethod y_Rtime ∈ TT ∧ Cond.selects y_Rtime.cls y_Rtime y_Rtime ∈ TT := ⟨tt_mem 299 (by decide +kernel) rfl, tt_mem 300 (by decide +kernel) rfl⟩
set_option maxRecDepth 20000 in
theorem mi_Rsort : Mi y_Rsort b_Rsort 1 (some .int) 0 := ⟨tt_mem 306 rfl rfl, tt_mem 55 (by decide +kernel) rfl, by decide +kernel, by decide +kernel⟩
theorem in_Rsort : Cond.instanceMethod y_Rsort ∈ TT ∧ Cond.selects y_Rsort.cls y_Rsort y_Rsort ∈ TT := ⟨tt_mem 304 (by decide +kernel) rfl, tt_mem 305 (by decide +kernel) rfl⟩
set_option maxRecDepth 20000 in
theorem mi_Robject : Mi y_Robject b_Robject 1 (some .int) 0 := ⟨tt_mem 310 rfl rfl, tt_mem 55 (by decide +kernel) rfl, by decide +kernel, by decide +kernel⟩
theorem in_Robject : Cond.instanceMethod y_Robject ∈ TT ∧ Cond.selects y_Robject.cls y_Robject y_Robject ∈ TT := ⟨tt_mem 308 (by decide +kernel) rfl, tt_mem 309 (by decide +kernel) rfl⟩
set_option maxRecDepth 20000 in
theorem mi_Rnumber : Mi y_Rnumber b_Rnumber 1 (some .int) 0 := ⟨tt_mem 314 rfl rfl, tt_mem 55 (by decide +kernel) rfl, by decide +kernel, by decide +kernel⟩
theorem in_Rnumber : Cond.instanceMethod y_Rnumber ∈ TT ∧ Cond.selects y_Rnumber.cls y_Rnumber y_Rnumber ∈ TT := ⟨tt_mem 312 (by decide +kernel) rfl, tt_mem 313 (by decide +kernel) rfl⟩
set_option maxRecDepth 20000 in
theorem mi_Sinit : Mi y_Sinit b_Sinit 2 none 1 := ⟨tt_mem 318 rfl rfl, tt_mem 60 (by decide +kernel) rfl, by decide +kernel, by decide +kernel⟩
theorem in_Sinit : y_Sinit.name = "<init>" ∧ Cond.instanceMethod y_Sinit ∈ TT := ⟨rfl, tt_mem 317 (by decide +kernel) rfl⟩
set_option maxRecDepth 20000 in
theorem mi_Aget : Mi y_Aget b_Aget 2 (some (.object "java/lang/Object")) 1 := ⟨tt_mem 349 rfl rfl, tt_mem 50 (by decide +kernel) rfl, by decide +kernel, by decide +kernel⟩
theorem in_Aget : Cond.instanceMethod y_Aget ∈ TT ∧ Cond.selects y_Aget.cls y_Aget y_Aget ∈ TT := ⟨tt_mem 347 (by decide +kernel) rfl, tt_mem 348 (by decide +kernel) rfl⟩
set_option maxRecDepth 20000 in
theorem mi_OcheckIndex : Mi y_OcheckIndex b_OcheckIndex 2 (some .int) 2 := ⟨tt_mem 352 rfl rfl, tt_mem 61 (by decide +kernel) rfl, by decide +kernel, by decide +kernel⟩
theorem in_OcheckIndex : Cond.static y_OcheckIndex ∈ TT := tt_mem 351 (by decide +kernel) rfl
set_option maxRecDepth 20000 in
theorem mi_CcheckIndex : Mi y_CcheckIndex b_CcheckIndex 3 (some .int) 3 := ⟨tt_mem 355 rfl rfl, tt_mem 62 (by decide +kernel) rfl, by decide +kernel, by decide +kernel⟩
theorem in_CcheckIndex : Cond.static y_CcheckIndex ∈ TT := tt_mem 354 (by decide +kernel) rfl
set_option maxRecDepth 20000 in
theorem mi_AelementData : Mi y_AelementData b_AelementData 2 (some (.object "java/lang/Object")) 1 := ⟨tt_mem 359 rfl rfl, tt_mem 50 (by decide +kernel) rfl, by decide +kernel, by decide +kernel⟩
theorem in_AelementData : Cond.instanceMethod y_AelementData ∈ TT ∧ Cond.selects y_AelementData.cls y_AelementData y_AelementData ∈ TT := ⟨tt_mem 357 (by decide +kernel) rfl, tt_mem 358 (by decide +kernel) rfl⟩
set_option maxRecDepth 20000 in
theorem mi_Tback : Mi y_Tback b_Tback 3 none 1 := ⟨tt_mem 364 rfl rfl, tt_mem 51 (by decide +kernel) rfl, by decide +kernel, by decide +kernel⟩
theorem in_Tback : Cond.instanceMethod y_Tback ∈ TT ∧ Cond.selects y_Tback.cls y_Tback y_Tback ∈ TT := ⟨tt_mem 363 (by decide +kernel) rfl, tt_mem 4 (by decide +kernel) rfl⟩
set_option maxRecDepth 20000 in
theorem mi_Ttake : Mi y_Ttake b_Ttake 2 none 1 := ⟨tt_mem 368 rfl rfl, tt_mem 51 (by decide +kernel) rfl, by decide +kernel, by decide +kernel⟩
theorem in_Ttake : Cond.instanceMethod y_Ttake ∈ TT ∧ Cond.selects y_Ttake.cls y_Ttake y_Ttake ∈ TT := ⟨tt_mem 367 (by decide +kernel) rfl, tt_mem 5 (by decide +kernel) rfl⟩
set_option maxRecDepth 20000 in
theorem mi_PplaceOf : Mi y_PplaceOf b_PplaceOf 3 (some .int) 1 := ⟨tt_mem 372 rfl rfl, tt_mem 52 (by decide +kernel) rfl, by decide +kernel, by decide +kernel⟩
theorem in_PplaceOf : Cond.instanceMethod y_PplaceOf ∈ TT ∧ Cond.selects y_PplaceOf.cls y_PplaceOf y_PplaceOf ∈ TT := ⟨tt_mem 370 (by decide +kernel) rfl, tt_mem 371 (by decide +kernel) rfl⟩
set_option maxRecDepth 20000 in
theorem mi_Aremove : Mi y_Aremove b_Aremove 4 (some (.object "java/lang/Object")) 1 := ⟨tt_mem 377 rfl rfl, tt_mem 50 (by decide +kernel) rfl, by decide +kernel, by decide +kernel⟩
theorem in_Aremove : Cond.instanceMethod y_Aremove ∈ TT ∧ Cond.selects y_Aremove.cls y_Aremove y_Aremove ∈ TT := ⟨tt_mem 375 (by decide +kernel) rfl, tt_mem 376 (by decide +kernel) rfl⟩
set_option maxRecDepth 20000 in
theorem mi_AfastRemove : Mi y_AfastRemove b_AfastRemove 4 none 2 := ⟨tt_mem 381 rfl rfl, tt_mem 50 (by decide +kernel) rfl, by decide +kernel, by decide +kernel⟩
theorem in_AfastRemove : Cond.instanceMethod y_AfastRemove ∈ TT ∧ Cond.selects y_AfastRemove.cls y_AfastRemove y_AfastRemove ∈ TT := ⟨tt_mem 380 (by decide +kernel) rfl, tt_mem 6 (by decide +kernel) rfl⟩
set_option maxRecDepth 20000 in
theorem mi_Tput : Mi y_Tput b_Tput 4 none 3 := ⟨tt_mem 386 rfl rfl, tt_mem 51 (by decide +kernel) rfl, by decide +kernel, by decide +kernel⟩
theorem in_Tput : Cond.instanceMethod y_Tput ∈ TT ∧ Cond.selects y_Tput.cls y_Tput y_Tput ∈ TT := ⟨tt_mem 385 (by decide +kernel) rfl, tt_mem 7 (by decide +kernel) rfl⟩
set_option maxRecDepth 20000 in
theorem mi_Aadd2 : Mi y_Aadd2 b_Aadd2 5 none 2 := ⟨tt_mem 390 rfl rfl, tt_mem 50 (by decide +kernel) rfl, by decide +kernel, by decide +kernel⟩
theorem in_Aadd2 : Cond.instanceMethod y_Aadd2 ∈ TT ∧ Cond.selects y_Aadd2.cls y_Aadd2 y_Aadd2 ∈ TT := ⟨tt_mem 388 (by decide +kernel) rfl, tt_mem 389 (by decide +kernel) rfl⟩
set_option maxRecDepth 20000 in
theorem mi_ArangeCheckForAdd : Mi y_ArangeCheckForAdd b_ArangeCheckForAdd 2 none 1 := ⟨tt_mem 394 rfl rfl, tt_mem 50 (by decide +kernel) rfl, by decide +kernel, by decide +kernel⟩
theorem in_ArangeCheckForAdd : Cond.instanceMethod y_ArangeCheckForAdd ∈ TT ∧ Cond.selects y_ArangeCheckForAdd.cls y_ArangeCheckForAdd y_ArangeCheckForAdd ∈ TT := ⟨tt_mem 393 (by decide +kernel) rfl, tt_mem 8 (by decide +kernel) rfl⟩
set_option maxRecDepth 20000 in
theorem mi_Tgo : Mi y_Tgo b_Tgo 3 none 1 := ⟨tt_mem 398 rfl rfl, tt_mem 51 (by decide +kernel) rfl, by decide +kernel, by decide +kernel⟩
theorem in_Tgo : Cond.instanceMethod y_Tgo ∈ TT ∧ Cond.selects y_Tgo.cls y_Tgo y_Tgo ∈ TT := ⟨tt_mem 397 (by decide +kernel) rfl, tt_mem 9 (by decide +kernel) rfl⟩
set_option maxRecDepth 20000 in
theorem mi_Tbegin : Mi y_Tbegin b_Tbegin 3 none 2 := ⟨tt_mem 402 rfl rfl, tt_mem 51 (by decide +kernel) rfl, by decide +kernel, by decide +kernel⟩
theorem in_Tbegin : Cond.instanceMethod y_Tbegin ∈ TT ∧ Cond.selects y_Tbegin.cls y_Tbegin y_Tbegin ∈ TT := ⟨tt_mem 401 (by decide +kernel) rfl, tt_mem 10 (by decide +kernel) rfl⟩
set_option maxRecDepth 20000 in
theorem mi_Rto : Mi y_Rto b_Rto 1 (some .int) 0 := ⟨tt_mem 406 rfl rfl, tt_mem 55 (by decide +kernel) rfl, by decide +kernel, by decide +kernel⟩
theorem in_Rto : Cond.instanceMethod y_Rto ∈ TT ∧ Cond.selects y_Rto.cls y_Rto y_Rto ∈ TT := ⟨tt_mem 404 (by decide +kernel) rfl, tt_mem 405 (by decide +kernel) rfl⟩
set_option maxRecDepth 20000 in
theorem mi_Tmove : Mi y_Tmove b_Tmove 5 none 3 := ⟨tt_mem 410 rfl rfl, tt_mem 51 (by decide +kernel) rfl, by decide +kernel, by decide +kernel⟩
theorem in_Tmove : Cond.instanceMethod y_Tmove ∈ TT ∧ Cond.selects y_Tmove.cls y_Tmove y_Tmove ∈ TT := ⟨tt_mem 409 (by decide +kernel) rfl, tt_mem 11 (by decide +kernel) rfl⟩
set_option maxRecDepth 20000 in
theorem mi_TmayGo : Mi y_TmayGo b_TmayGo 3 (some .boolean) 2 := ⟨tt_mem 414 rfl rfl, tt_mem 51 (by decide +kernel) rfl, by decide +kernel, by decide +kernel⟩
theorem in_TmayGo : Cond.instanceMethod y_TmayGo ∈ TT ∧ Cond.selects y_TmayGo.cls y_TmayGo y_TmayGo ∈ TT := ⟨tt_mem 413 (by decide +kernel) rfl, tt_mem 12 (by decide +kernel) rfl⟩
set_option maxRecDepth 20000 in
theorem mi_PisWithin : Mi y_PisWithin b_PisWithin 3 (some .boolean) 1 := ⟨tt_mem 418 rfl rfl, tt_mem 52 (by decide +kernel) rfl, by decide +kernel, by decide +kernel⟩
theorem in_PisWithin : Cond.instanceMethod y_PisWithin ∈ TT ∧ Cond.selects y_PisWithin.cls y_PisWithin y_PisWithin ∈ TT := ⟨tt_mem 416 (by decide +kernel) rfl, tt_mem 417 (by decide +kernel) rfl⟩
set_option maxRecDepth 20000 in
theorem mi_TisBelowBin : Mi y_TisBelowBin b_TisBelowBin 2 (some .boolean) 1 := ⟨tt_mem 422 rfl rfl, tt_mem 51 (by decide +kernel) rfl, by decide +kernel, by decide +kernel⟩
theorem in_TisBelowBin : Cond.instanceMethod y_TisBelowBin ∈ TT ∧ Cond.selects y_TisBelowBin.cls y_TisBelowBin y_TisBelowBin ∈ TT := ⟨tt_mem 421 (by decide +kernel) rfl, tt_mem 13 (by decide +kernel) rfl⟩
set_option maxRecDepth 20000 in
theorem mi_Ptop : Mi y_Ptop b_Ptop 1 (some (.object "BinTrees$Place")) 0 := ⟨tt_mem 426 rfl rfl, tt_mem 52 (by decide +kernel) rfl, by decide +kernel, by decide +kernel⟩
theorem in_Ptop : Cond.instanceMethod y_Ptop ∈ TT ∧ Cond.selects y_Ptop.cls y_Ptop y_Ptop ∈ TT := ⟨tt_mem 424 (by decide +kernel) rfl, tt_mem 425 (by decide +kernel) rfl⟩
set_option maxRecDepth 20000 in
theorem mi_Pdepth : Mi y_Pdepth b_Pdepth 1 (some .int) 0 := ⟨tt_mem 431 rfl rfl, tt_mem 52 (by decide +kernel) rfl, by decide +kernel, by decide +kernel⟩
theorem in_Pdepth : Cond.instanceMethod y_Pdepth ∈ TT ∧ Cond.selects y_Pdepth.cls y_Pdepth y_Pdepth ∈ TT := ⟨tt_mem 429 (by decide +kernel) rfl, tt_mem 430 (by decide +kernel) rfl⟩
set_option maxRecDepth 20000 in
theorem mi_Pheight : Mi y_Pheight b_Pheight 3 (some .int) 0 := ⟨tt_mem 436 rfl rfl, tt_mem 52 (by decide +kernel) rfl, by decide +kernel, by decide +kernel⟩
theorem in_Pheight : Cond.instanceMethod y_Pheight ∈ TT ∧ Cond.selects y_Pheight.cls y_Pheight y_Pheight ∈ TT := ⟨tt_mem 434 (by decide +kernel) rfl, tt_mem 435 (by decide +kernel) rfl⟩
set_option maxRecDepth 20000 in
theorem mi_Rbehind : Mi y_Rbehind b_Rbehind 1 (some .int) 0 := ⟨tt_mem 444 rfl rfl, tt_mem 55 (by decide +kernel) rfl, by decide +kernel, by decide +kernel⟩
theorem in_Rbehind : Cond.instanceMethod y_Rbehind ∈ TT ∧ Cond.selects y_Rbehind.cls y_Rbehind y_Rbehind ∈ TT := ⟨tt_mem 442 (by decide +kernel) rfl, tt_mem 443 (by decide +kernel) rfl⟩
set_option maxRecDepth 20000 in
theorem mi_TisInBin : Mi y_TisInBin b_TisInBin 2 (some .boolean) 1 := ⟨tt_mem 448 rfl rfl, tt_mem 51 (by decide +kernel) rfl, by decide +kernel, by decide +kernel⟩
theorem in_TisInBin : Cond.instanceMethod y_TisInBin ∈ TT ∧ Cond.selects y_TisInBin.cls y_TisInBin y_TisInBin ∈ TT := ⟨tt_mem 447 (by decide +kernel) rfl, tt_mem 14 (by decide +kernel) rfl⟩
set_option maxRecDepth 20000 in
theorem mi_Trestore : Mi y_Trestore b_Trestore 4 none 2 := ⟨tt_mem 452 rfl rfl, tt_mem 51 (by decide +kernel) rfl, by decide +kernel, by decide +kernel⟩
theorem in_Trestore : Cond.instanceMethod y_Trestore ∈ TT ∧ Cond.selects y_Trestore.cls y_Trestore y_Trestore ∈ TT := ⟨tt_mem 451 (by decide +kernel) rfl, tt_mem 15 (by decide +kernel) rfl⟩
set_option maxRecDepth 20000 in
theorem mi_TplaceOf : Mi y_TplaceOf b_TplaceOf 3 (some .int) 1 := ⟨tt_mem 456 rfl rfl, tt_mem 51 (by decide +kernel) rfl, by decide +kernel, by decide +kernel⟩
theorem in_TplaceOf : Cond.instanceMethod y_TplaceOf ∈ TT ∧ Cond.selects y_TplaceOf.cls y_TplaceOf y_TplaceOf ∈ TT := ⟨tt_mem 455 (by decide +kernel) rfl, tt_mem 16 (by decide +kernel) rfl⟩
set_option maxRecDepth 20000 in
theorem mi_RisBefore : Mi y_RisBefore b_RisBefore 2 (some .boolean) 1 := ⟨tt_mem 460 rfl rfl, tt_mem 55 (by decide +kernel) rfl, by decide +kernel, by decide +kernel⟩
theorem in_RisBefore : Cond.instanceMethod y_RisBefore ∈ TT ∧ Cond.selects y_RisBefore.cls y_RisBefore y_RisBefore ∈ TT := ⟨tt_mem 458 (by decide +kernel) rfl, tt_mem 459 (by decide +kernel) rfl⟩
set_option maxRecDepth 20000 in
theorem mi_Tjudge : Mi y_Tjudge b_Tjudge 4 none 2 := ⟨tt_mem 464 rfl rfl, tt_mem 51 (by decide +kernel) rfl, by decide +kernel, by decide +kernel⟩
theorem in_Tjudge : Cond.instanceMethod y_Tjudge ∈ TT ∧ Cond.selects y_Tjudge.cls y_Tjudge y_Tjudge ∈ TT := ⟨tt_mem 463 (by decide +kernel) rfl, tt_mem 17 (by decide +kernel) rfl⟩
set_option maxRecDepth 20000 in
theorem mi_Bmove : Mi y_Bmove b_Bmove 5 (some .int) 4 := ⟨tt_mem 469 rfl rfl, tt_mem 47 (by decide +kernel) rfl, by decide +kernel, by decide +kernel⟩
theorem in_Bmove : Cond.instanceMethod y_Bmove ∈ TT ∧ Cond.selects y_Bmove.cls y_Bmove y_Bmove ∈ TT := ⟨tt_mem 467 (by decide +kernel) rfl, tt_mem 468 (by decide +kernel) rfl⟩
set_option maxRecDepth 20000 in
theorem mi_BmayAdd : Mi y_BmayAdd b_BmayAdd 3 (some .boolean) 2 := ⟨tt_mem 473 rfl rfl, tt_mem 47 (by decide +kernel) rfl, by decide +kernel, by decide +kernel⟩
theorem in_BmayAdd : Cond.instanceMethod y_BmayAdd ∈ TT ∧ Cond.selects y_BmayAdd.cls y_BmayAdd y_BmayAdd ∈ TT := ⟨tt_mem 472 (by decide +kernel) rfl, tt_mem 18 (by decide +kernel) rfl⟩
set_option maxRecDepth 20000 in
theorem mi_Bremove : Mi y_Bremove b_Bremove 4 (some .int) 3 := ⟨tt_mem 477 rfl rfl, tt_mem 47 (by decide +kernel) rfl, by decide +kernel, by decide +kernel⟩
theorem in_Bremove : Cond.instanceMethod y_Bremove ∈ TT ∧ Cond.selects y_Bremove.cls y_Bremove y_Bremove ∈ TT := ⟨tt_mem 475 (by decide +kernel) rfl, tt_mem 476 (by decide +kernel) rfl⟩
set_option maxRecDepth 20000 in
theorem mi_Bundo : Mi y_Bundo b_Bundo 4 (some .int) 2 := ⟨tt_mem 481 rfl rfl, tt_mem 47 (by decide +kernel) rfl, by decide +kernel, by decide +kernel⟩
theorem in_Bundo : Cond.instanceMethod y_Bundo ∈ TT ∧ Cond.selects y_Bundo.cls y_Bundo y_Bundo ∈ TT := ⟨tt_mem 479 (by decide +kernel) rfl, tt_mem 480 (by decide +kernel) rfl⟩
set_option maxRecDepth 20000 in
theorem mi_BisRow : Mi y_BisRow b_BisRow 2 (some .boolean) 1 := ⟨tt_mem 485 rfl rfl, tt_mem 47 (by decide +kernel) rfl, by decide +kernel, by decide +kernel⟩
theorem in_BisRow : Cond.instanceMethod y_BisRow ∈ TT ∧ Cond.selects y_BisRow.cls y_BisRow y_BisRow ∈ TT := ⟨tt_mem 484 (by decide +kernel) rfl, tt_mem 19 (by decide +kernel) rfl⟩
set_option maxRecDepth 20000 in
theorem mi_Rnode : Mi y_Rnode b_Rnode 1 (some .int) 0 := ⟨tt_mem 490 rfl rfl, tt_mem 55 (by decide +kernel) rfl, by decide +kernel, by decide +kernel⟩
theorem in_Rnode : Cond.instanceMethod y_Rnode ∈ TT ∧ Cond.selects y_Rnode.cls y_Rnode y_Rnode ∈ TT := ⟨tt_mem 488 (by decide +kernel) rfl, tt_mem 489 (by decide +kernel) rfl⟩
set_option maxRecDepth 20000 in
theorem mi_Bsee : Mi y_Bsee b_Bsee 3 (some .int) 2 := ⟨tt_mem 495 rfl rfl, tt_mem 47 (by decide +kernel) rfl, by decide +kernel, by decide +kernel⟩
theorem in_Bsee : Cond.instanceMethod y_Bsee ∈ TT ∧ Cond.selects y_Bsee.cls y_Bsee y_Bsee ∈ TT := ⟨tt_mem 493 (by decide +kernel) rfl, tt_mem 494 (by decide +kernel) rfl⟩
set_option maxRecDepth 20000 in
theorem mi_Bmeet : Mi y_Bmeet b_Bmeet 7 (some .int) 2 := ⟨tt_mem 499 rfl rfl, tt_mem 47 (by decide +kernel) rfl, by decide +kernel, by decide +kernel⟩
theorem in_Bmeet : Cond.instanceMethod y_Bmeet ∈ TT ∧ Cond.selects y_Bmeet.cls y_Bmeet y_Bmeet ∈ TT := ⟨tt_mem 497 (by decide +kernel) rfl, tt_mem 498 (by decide +kernel) rfl⟩
set_option maxRecDepth 20000 in
theorem mi_Aiterator : Mi y_Aiterator b_Aiterator 1 (some (.object "java/util/Iterator")) 0 := ⟨tt_mem 503 rfl rfl, tt_mem 50 (by decide +kernel) rfl, by decide +kernel, by decide +kernel⟩
theorem in_Aiterator : Cond.instanceMethod y_Aiterator ∈ TT ∧ Cond.selects y_Aiterator.cls y_Aiterator y_Aiterator ∈ TT := ⟨tt_mem 501 (by decide +kernel) rfl, tt_mem 502 (by decide +kernel) rfl⟩
set_option maxRecDepth 20000 in
theorem mi_Iinit : Mi y_Iinit b_Iinit 2 none 1 := ⟨tt_mem 508 rfl rfl, tt_mem 63 (by decide +kernel) rfl, by decide +kernel, by decide +kernel⟩
theorem in_Iinit : y_Iinit.name = "<init>" ∧ Cond.instanceMethod y_Iinit ∈ TT := ⟨rfl, tt_mem 507 (by decide +kernel) rfl⟩
set_option maxRecDepth 20000 in
theorem mi_IhasNext : Mi y_IhasNext b_IhasNext 1 (some .boolean) 0 := ⟨tt_mem 532 rfl rfl, tt_mem 63 (by decide +kernel) rfl, by decide +kernel, by decide +kernel⟩
set_option maxRecDepth 20000 in
theorem mi_Inext : Mi y_Inext b_Inext 3 (some (.object "java/lang/Object")) 0 := ⟨tt_mem 541 rfl rfl, tt_mem 63 (by decide +kernel) rfl, by decide +kernel, by decide +kernel⟩
set_option maxRecDepth 20000 in
theorem mi_IcheckForComodification : Mi y_IcheckForComodification b_IcheckForComodification 1 none 0 := ⟨tt_mem 545 rfl rfl, tt_mem 63 (by decide +kernel) rfl, by decide +kernel, by decide +kernel⟩
theorem in_IcheckForComodification : Cond.instanceMethod y_IcheckForComodification ∈ TT ∧ Cond.selects y_IcheckForComodification.cls y_IcheckForComodification y_IcheckForComodification ∈ TT := ⟨tt_mem 543 (by decide +kernel) rfl, tt_mem 544 (by decide +kernel) rfl⟩
set_option maxRecDepth 20000 in
theorem mi_Bcost : Mi y_Bcost b_Bcost 2 (some .int) 1 := ⟨tt_mem 551 rfl rfl, tt_mem 47 (by decide +kernel) rfl, by decide +kernel, by decide +kernel⟩
theorem in_Bcost : Cond.instanceMethod y_Bcost ∈ TT ∧ Cond.selects y_Bcost.cls y_Bcost y_Bcost ∈ TT := ⟨tt_mem 549 (by decide +kernel) rfl, tt_mem 550 (by decide +kernel) rfl⟩
set_option maxRecDepth 20000 in
theorem mi_Bobject : Mi y_Bobject b_Bobject 7 (some .int) 3 := ⟨tt_mem 555 rfl rfl, tt_mem 47 (by decide +kernel) rfl, by decide +kernel, by decide +kernel⟩
theorem in_Bobject : Cond.instanceMethod y_Bobject ∈ TT ∧ Cond.selects y_Bobject.cls y_Bobject y_Bobject ∈ TT := ⟨tt_mem 553 (by decide +kernel) rfl, tt_mem 554 (by decide +kernel) rfl⟩
set_option maxRecDepth 20000 in
theorem mi_Bplace : Mi y_Bplace b_Bplace 3 (some (.object "BinTrees$Place")) 2 := ⟨tt_mem 559 rfl rfl, tt_mem 47 (by decide +kernel) rfl, by decide +kernel, by decide +kernel⟩
theorem in_Bplace : Cond.instanceMethod y_Bplace ∈ TT ∧ Cond.selects y_Bplace.cls y_Bplace y_Bplace ∈ TT := ⟨tt_mem 558 (by decide +kernel) rfl, tt_mem 20 (by decide +kernel) rfl⟩
set_option maxRecDepth 20000 in
theorem mi_Bchild : Mi y_Bchild b_Bchild 5 (some .int) 3 := ⟨tt_mem 567 rfl rfl, tt_mem 47 (by decide +kernel) rfl, by decide +kernel, by decide +kernel⟩
theorem in_Bchild : Cond.instanceMethod y_Bchild ∈ TT ∧ Cond.selects y_Bchild.cls y_Bchild y_Bchild ∈ TT := ⟨tt_mem 565 (by decide +kernel) rfl, tt_mem 566 (by decide +kernel) rfl⟩
set_option maxRecDepth 20000 in
theorem mi_Brow : Mi y_Brow b_Brow 4 (some .int) 2 := ⟨tt_mem 572 rfl rfl, tt_mem 47 (by decide +kernel) rfl, by decide +kernel, by decide +kernel⟩
theorem in_Brow : Cond.instanceMethod y_Brow ∈ TT ∧ Cond.selects y_Brow.cls y_Brow y_Brow ∈ TT := ⟨tt_mem 570 (by decide +kernel) rfl, tt_mem 571 (by decide +kernel) rfl⟩
set_option maxRecDepth 20000 in
theorem mi_Bjudged : Mi y_Bjudged b_Bjudged 4 (some .int) 2 := ⟨tt_mem 580 rfl rfl, tt_mem 47 (by decide +kernel) rfl, by decide +kernel, by decide +kernel⟩
theorem in_Bjudged : Cond.instanceMethod y_Bjudged ∈ TT ∧ Cond.selects y_Bjudged.cls y_Bjudged y_Bjudged ∈ TT := ⟨tt_mem 578 (by decide +kernel) rfl, tt_mem 579 (by decide +kernel) rfl⟩
set_option maxRecDepth 20000 in
theorem mi_Balike : Mi y_Balike b_Balike 3 (some .boolean) 2 := ⟨tt_mem 584 rfl rfl, tt_mem 47 (by decide +kernel) rfl, by decide +kernel, by decide +kernel⟩
theorem in_Balike : Cond.instanceMethod y_Balike ∈ TT ∧ Cond.selects y_Balike.cls y_Balike y_Balike ∈ TT := ⟨tt_mem 582 (by decide +kernel) rfl, tt_mem 583 (by decide +kernel) rfl⟩
set_option maxRecDepth 20000 in
theorem mi_BareAlike : Mi y_BareAlike b_BareAlike 5 (some .boolean) 2 := ⟨tt_mem 587 rfl rfl, tt_mem 47 (by decide +kernel) rfl, by decide +kernel, by decide +kernel⟩
theorem in_BareAlike : Cond.static y_BareAlike ∈ TT := tt_mem 586 (by decide +kernel) rfl
set_option maxRecDepth 20000 in
theorem mi_Btotal : Mi y_Btotal b_Btotal 5 (some .int) 1 := ⟨tt_mem 591 rfl rfl, tt_mem 47 (by decide +kernel) rfl, by decide +kernel, by decide +kernel⟩
theorem in_Btotal : Cond.instanceMethod y_Btotal ∈ TT ∧ Cond.selects y_Btotal.cls y_Btotal y_Btotal ∈ TT := ⟨tt_mem 589 (by decide +kernel) rfl, tt_mem 590 (by decide +kernel) rfl⟩
set_option maxRecDepth 20000 in
theorem mi_Tthere : Mi y_Tthere b_Tthere 6 (some .int) 0 := ⟨tt_mem 595 rfl rfl, tt_mem 51 (by decide +kernel) rfl, by decide +kernel, by decide +kernel⟩
theorem in_Tthere : Cond.instanceMethod y_Tthere ∈ TT ∧ Cond.selects y_Tthere.cls y_Tthere y_Tthere ∈ TT := ⟨tt_mem 593 (by decide +kernel) rfl, tt_mem 594 (by decide +kernel) rfl⟩
set_option maxRecDepth 20000 in
theorem mi_Minit : Mi y_Minit b_Minit 1 none 0 := ⟨tt_mem 600 rfl rfl, tt_mem 53 (by decide +kernel) rfl, by decide +kernel, by decide +kernel⟩
theorem in_Minit : y_Minit.name = "<init>" ∧ Cond.instanceMethod y_Minit ∈ TT := ⟨rfl, tt_mem 599 (by decide +kernel) rfl⟩
set_option maxRecDepth 20000 in
theorem mi_Mmake : Mi y_Mmake b_Mmake 3 (some .int) 1 := ⟨tt_mem 685 rfl rfl, tt_mem 53 (by decide +kernel) rfl, by decide +kernel, by decide +kernel⟩
theorem in_Mmake : Cond.instanceMethod y_Mmake ∈ TT ∧ Cond.selects y_Mmake.cls y_Mmake y_Mmake ∈ TT := ⟨tt_mem 683 (by decide +kernel) rfl, tt_mem 684 (by decide +kernel) rfl⟩
set_option maxRecDepth 20000 in
theorem mi_MisNode : Mi y_MisNode b_MisNode 1 (some .boolean) 1 := ⟨tt_mem 688 rfl rfl, tt_mem 53 (by decide +kernel) rfl, by decide +kernel, by decide +kernel⟩
theorem in_MisNode : Cond.static y_MisNode ∈ TT := tt_mem 687 (by decide +kernel) rfl
set_option maxRecDepth 20000 in
theorem mi_Mwithin : Mi y_Mwithin b_Mwithin 3 (some .boolean) 3 := ⟨tt_mem 691 rfl rfl, tt_mem 53 (by decide +kernel) rfl, by decide +kernel, by decide +kernel⟩
theorem in_Mwithin : Cond.static y_Mwithin ∈ TT := tt_mem 690 (by decide +kernel) rfl
set_option maxRecDepth 20000 in
theorem mi_Madd : Mi y_Madd b_Madd 6 (some .int) 5 := ⟨tt_mem 695 rfl rfl, tt_mem 53 (by decide +kernel) rfl, by decide +kernel, by decide +kernel⟩
theorem in_Madd : Cond.instanceMethod y_Madd ∈ TT ∧ Cond.selects y_Madd.cls y_Madd y_Madd ∈ TT := ⟨tt_mem 694 (by decide +kernel) rfl, tt_mem 21 (by decide +kernel) rfl⟩
set_option maxRecDepth 20000 in
theorem mi_Mlearn : Mi y_Mlearn b_Mlearn 3 none 2 := ⟨tt_mem 699 rfl rfl, tt_mem 53 (by decide +kernel) rfl, by decide +kernel, by decide +kernel⟩
theorem in_Mlearn : Cond.instanceMethod y_Mlearn ∈ TT ∧ Cond.selects y_Mlearn.cls y_Mlearn y_Mlearn ∈ TT := ⟨tt_mem 698 (by decide +kernel) rfl, tt_mem 22 (by decide +kernel) rfl⟩
set_option maxRecDepth 20000 in
theorem mi_McostOf : Mi y_McostOf b_McostOf 6 (some .int) 2 := ⟨tt_mem 703 rfl rfl, tt_mem 53 (by decide +kernel) rfl, by decide +kernel, by decide +kernel⟩
theorem in_McostOf : Cond.instanceMethod y_McostOf ∈ TT ∧ Cond.selects y_McostOf.cls y_McostOf y_McostOf ∈ TT := ⟨tt_mem 702 (by decide +kernel) rfl, tt_mem 23 (by decide +kernel) rfl⟩
set_option maxRecDepth 20000 in
theorem mi_MknowsRow : Mi y_MknowsRow b_MknowsRow 3 (some .boolean) 2 := ⟨tt_mem 707 rfl rfl, tt_mem 53 (by decide +kernel) rfl, by decide +kernel, by decide +kernel⟩
theorem in_MknowsRow : Cond.instanceMethod y_MknowsRow ∈ TT ∧ Cond.selects y_MknowsRow.cls y_MknowsRow y_MknowsRow ∈ TT := ⟨tt_mem 706 (by decide +kernel) rfl, tt_mem 24 (by decide +kernel) rfl⟩
set_option maxRecDepth 20000 in
theorem mi_MisBefore : Mi y_MisBefore b_MisBefore 3 (some .boolean) 2 := ⟨tt_mem 711 rfl rfl, tt_mem 53 (by decide +kernel) rfl, by decide +kernel, by decide +kernel⟩
theorem in_MisBefore : Cond.instanceMethod y_MisBefore ∈ TT ∧ Cond.selects y_MisBefore.cls y_MisBefore y_MisBefore ∈ TT := ⟨tt_mem 710 (by decide +kernel) rfl, tt_mem 25 (by decide +kernel) rfl⟩
set_option maxRecDepth 20000 in
theorem mi_Mmove : Mi y_Mmove b_Mmove 5 (some .int) 4 := ⟨tt_mem 715 rfl rfl, tt_mem 53 (by decide +kernel) rfl, by decide +kernel, by decide +kernel⟩
theorem in_Mmove : Cond.instanceMethod y_Mmove ∈ TT ∧ Cond.selects y_Mmove.cls y_Mmove y_Mmove ∈ TT := ⟨tt_mem 713 (by decide +kernel) rfl, tt_mem 714 (by decide +kernel) rfl⟩
set_option maxRecDepth 20000 in
theorem mi_Mremove : Mi y_Mremove b_Mremove 4 (some .int) 3 := ⟨tt_mem 719 rfl rfl, tt_mem 53 (by decide +kernel) rfl, by decide +kernel, by decide +kernel⟩
theorem in_Mremove : Cond.instanceMethod y_Mremove ∈ TT ∧ Cond.selects y_Mremove.cls y_Mremove y_Mremove ∈ TT := ⟨tt_mem 717 (by decide +kernel) rfl, tt_mem 718 (by decide +kernel) rfl⟩
set_option maxRecDepth 20000 in
theorem mi_Mundo : Mi y_Mundo b_Mundo 3 (some .int) 2 := ⟨tt_mem 723 rfl rfl, tt_mem 53 (by decide +kernel) rfl, by decide +kernel, by decide +kernel⟩
theorem in_Mundo : Cond.instanceMethod y_Mundo ∈ TT ∧ Cond.selects y_Mundo.cls y_Mundo y_Mundo ∈ TT := ⟨tt_mem 721 (by decide +kernel) rfl, tt_mem 722 (by decide +kernel) rfl⟩
set_option maxRecDepth 20000 in
theorem mi_MisUndone : Mi y_MisUndone b_MisUndone 4 (some .boolean) 2 := ⟨tt_mem 727 rfl rfl, tt_mem 53 (by decide +kernel) rfl, by decide +kernel, by decide +kernel⟩
theorem in_MisUndone : Cond.instanceMethod y_MisUndone ∈ TT ∧ Cond.selects y_MisUndone.cls y_MisUndone y_MisUndone ∈ TT := ⟨tt_mem 726 (by decide +kernel) rfl, tt_mem 26 (by decide +kernel) rfl⟩
set_option maxRecDepth 20000 in
theorem mi_Msee : Mi y_Msee b_Msee 3 (some .int) 2 := ⟨tt_mem 731 rfl rfl, tt_mem 53 (by decide +kernel) rfl, by decide +kernel, by decide +kernel⟩
theorem in_Msee : Cond.instanceMethod y_Msee ∈ TT ∧ Cond.selects y_Msee.cls y_Msee y_Msee ∈ TT := ⟨tt_mem 729 (by decide +kernel) rfl, tt_mem 730 (by decide +kernel) rfl⟩
set_option maxRecDepth 20000 in
theorem mi_Mmeet : Mi y_Mmeet b_Mmeet 5 (some .int) 2 := ⟨tt_mem 735 rfl rfl, tt_mem 53 (by decide +kernel) rfl, by decide +kernel, by decide +kernel⟩
theorem in_Mmeet : Cond.instanceMethod y_Mmeet ∈ TT ∧ Cond.selects y_Mmeet.cls y_Mmeet y_Mmeet ∈ TT := ⟨tt_mem 733 (by decide +kernel) rfl, tt_mem 734 (by decide +kernel) rfl⟩
set_option maxRecDepth 20000 in
theorem mi_MfindOrder : Mi y_MfindOrder b_MfindOrder 4 none 1 := ⟨tt_mem 739 rfl rfl, tt_mem 53 (by decide +kernel) rfl, by decide +kernel, by decide +kernel⟩
theorem in_MfindOrder : Cond.instanceMethod y_MfindOrder ∈ TT ∧ Cond.selects y_MfindOrder.cls y_MfindOrder y_MfindOrder ∈ TT := ⟨tt_mem 738 (by decide +kernel) rfl, tt_mem 27 (by decide +kernel) rfl⟩
set_option maxRecDepth 20000 in
theorem mi_Mcost : Mi y_Mcost b_Mcost 2 (some .int) 1 := ⟨tt_mem 743 rfl rfl, tt_mem 53 (by decide +kernel) rfl, by decide +kernel, by decide +kernel⟩
theorem in_Mcost : Cond.instanceMethod y_Mcost ∈ TT ∧ Cond.selects y_Mcost.cls y_Mcost y_Mcost ∈ TT := ⟨tt_mem 741 (by decide +kernel) rfl, tt_mem 742 (by decide +kernel) rfl⟩
set_option maxRecDepth 20000 in
theorem mi_Mobject : Mi y_Mobject b_Mobject 4 (some .int) 3 := ⟨tt_mem 747 rfl rfl, tt_mem 53 (by decide +kernel) rfl, by decide +kernel, by decide +kernel⟩
theorem in_Mobject : Cond.instanceMethod y_Mobject ∈ TT ∧ Cond.selects y_Mobject.cls y_Mobject y_Mobject ∈ TT := ⟨tt_mem 745 (by decide +kernel) rfl, tt_mem 746 (by decide +kernel) rfl⟩
set_option maxRecDepth 20000 in
theorem mi_MisIn : Mi y_MisIn b_MisIn 3 (some .boolean) 2 := ⟨tt_mem 751 rfl rfl, tt_mem 53 (by decide +kernel) rfl, by decide +kernel, by decide +kernel⟩
theorem in_MisIn : Cond.instanceMethod y_MisIn ∈ TT ∧ Cond.selects y_MisIn.cls y_MisIn y_MisIn ∈ TT := ⟨tt_mem 750 (by decide +kernel) rfl, tt_mem 28 (by decide +kernel) rfl⟩
set_option maxRecDepth 20000 in
theorem mi_Mbuild : Mi y_Mbuild b_Mbuild 4 none 1 := ⟨tt_mem 755 rfl rfl, tt_mem 53 (by decide +kernel) rfl, by decide +kernel, by decide +kernel⟩
theorem in_Mbuild : Cond.instanceMethod y_Mbuild ∈ TT ∧ Cond.selects y_Mbuild.cls y_Mbuild y_Mbuild ∈ TT := ⟨tt_mem 754 (by decide +kernel) rfl, tt_mem 29 (by decide +kernel) rfl⟩
set_option maxRecDepth 20000 in
theorem mi_MdoRow : Mi y_MdoRow b_MdoRow 3 (some .boolean) 1 := ⟨tt_mem 759 rfl rfl, tt_mem 53 (by decide +kernel) rfl, by decide +kernel, by decide +kernel⟩
theorem in_MdoRow : Cond.instanceMethod y_MdoRow ∈ TT ∧ Cond.selects y_MdoRow.cls y_MdoRow y_MdoRow ∈ TT := ⟨tt_mem 758 (by decide +kernel) rfl, tt_mem 30 (by decide +kernel) rfl⟩
set_option maxRecDepth 20000 in
theorem mi_MputAt : Mi y_MputAt b_MputAt 5 none 3 := ⟨tt_mem 763 rfl rfl, tt_mem 53 (by decide +kernel) rfl, by decide +kernel, by decide +kernel⟩
theorem in_MputAt : Cond.instanceMethod y_MputAt ∈ TT ∧ Cond.selects y_MputAt.cls y_MputAt y_MputAt ∈ TT := ⟨tt_mem 762 (by decide +kernel) rfl, tt_mem 31 (by decide +kernel) rfl⟩
set_option maxRecDepth 20000 in
theorem mi_MdoMove : Mi y_MdoMove b_MdoMove 4 (some .boolean) 1 := ⟨tt_mem 767 rfl rfl, tt_mem 53 (by decide +kernel) rfl, by decide +kernel, by decide +kernel⟩
theorem in_MdoMove : Cond.instanceMethod y_MdoMove ∈ TT ∧ Cond.selects y_MdoMove.cls y_MdoMove y_MdoMove ∈ TT := ⟨tt_mem 766 (by decide +kernel) rfl, tt_mem 32 (by decide +kernel) rfl⟩
set_option maxRecDepth 20000 in
theorem mi_MmayGo : Mi y_MmayGo b_MmayGo 3 (some .boolean) 2 := ⟨tt_mem 771 rfl rfl, tt_mem 53 (by decide +kernel) rfl, by decide +kernel, by decide +kernel⟩
theorem in_MmayGo : Cond.instanceMethod y_MmayGo ∈ TT ∧ Cond.selects y_MmayGo.cls y_MmayGo y_MmayGo ∈ TT := ⟨tt_mem 770 (by decide +kernel) rfl, tt_mem 33 (by decide +kernel) rfl⟩
set_option maxRecDepth 20000 in
theorem mi_MisBelow : Mi y_MisBelow b_MisBelow 4 (some .boolean) 2 := ⟨tt_mem 775 rfl rfl, tt_mem 53 (by decide +kernel) rfl, by decide +kernel, by decide +kernel⟩
theorem in_MisBelow : Cond.instanceMethod y_MisBelow ∈ TT ∧ Cond.selects y_MisBelow.cls y_MisBelow y_MisBelow ∈ TT := ⟨tt_mem 774 (by decide +kernel) rfl, tt_mem 34 (by decide +kernel) rfl⟩
set_option maxRecDepth 20000 in
theorem mi_Mtop : Mi y_Mtop b_Mtop 3 (some .int) 1 := ⟨tt_mem 779 rfl rfl, tt_mem 53 (by decide +kernel) rfl, by decide +kernel, by decide +kernel⟩
theorem in_Mtop : Cond.instanceMethod y_Mtop ∈ TT ∧ Cond.selects y_Mtop.cls y_Mtop y_Mtop ∈ TT := ⟨tt_mem 778 (by decide +kernel) rfl, tt_mem 35 (by decide +kernel) rfl⟩
set_option maxRecDepth 20000 in
theorem mi_Mdepth : Mi y_Mdepth b_Mdepth 4 (some .int) 1 := ⟨tt_mem 783 rfl rfl, tt_mem 53 (by decide +kernel) rfl, by decide +kernel, by decide +kernel⟩
theorem in_Mdepth : Cond.instanceMethod y_Mdepth ∈ TT ∧ Cond.selects y_Mdepth.cls y_Mdepth y_Mdepth ∈ TT := ⟨tt_mem 782 (by decide +kernel) rfl, tt_mem 36 (by decide +kernel) rfl⟩
set_option maxRecDepth 20000 in
theorem mi_Mheight : Mi y_Mheight b_Mheight 6 (some .int) 1 := ⟨tt_mem 787 rfl rfl, tt_mem 53 (by decide +kernel) rfl, by decide +kernel, by decide +kernel⟩
theorem in_Mheight : Cond.instanceMethod y_Mheight ∈ TT ∧ Cond.selects y_Mheight.cls y_Mheight y_Mheight ∈ TT := ⟨tt_mem 786 (by decide +kernel) rfl, tt_mem 37 (by decide +kernel) rfl⟩
set_option maxRecDepth 20000 in
theorem mi_MtakeOut : Mi y_MtakeOut b_MtakeOut 6 none 1 := ⟨tt_mem 791 rfl rfl, tt_mem 53 (by decide +kernel) rfl, by decide +kernel, by decide +kernel⟩
theorem in_MtakeOut : Cond.instanceMethod y_MtakeOut ∈ TT ∧ Cond.selects y_MtakeOut.cls y_MtakeOut y_MtakeOut ∈ TT := ⟨tt_mem 790 (by decide +kernel) rfl, tt_mem 38 (by decide +kernel) rfl⟩
set_option maxRecDepth 20000 in
theorem mi_MplaceOf : Mi y_MplaceOf b_MplaceOf 4 (some .int) 2 := ⟨tt_mem 795 rfl rfl, tt_mem 53 (by decide +kernel) rfl, by decide +kernel, by decide +kernel⟩
theorem in_MplaceOf : Cond.instanceMethod y_MplaceOf ∈ TT ∧ Cond.selects y_MplaceOf.cls y_MplaceOf y_MplaceOf ∈ TT := ⟨tt_mem 794 (by decide +kernel) rfl, tt_mem 39 (by decide +kernel) rfl⟩
set_option maxRecDepth 20000 in
theorem mi_MdoRemove : Mi y_MdoRemove b_MdoRemove 2 (some .boolean) 1 := ⟨tt_mem 799 rfl rfl, tt_mem 53 (by decide +kernel) rfl, by decide +kernel, by decide +kernel⟩
theorem in_MdoRemove : Cond.instanceMethod y_MdoRemove ∈ TT ∧ Cond.selects y_MdoRemove.cls y_MdoRemove y_MdoRemove ∈ TT := ⟨tt_mem 798 (by decide +kernel) rfl, tt_mem 40 (by decide +kernel) rfl⟩
set_option maxRecDepth 20000 in
theorem mi_MdoRestore : Mi y_MdoRestore b_MdoRestore 3 (some .boolean) 1 := ⟨tt_mem 803 rfl rfl, tt_mem 53 (by decide +kernel) rfl, by decide +kernel, by decide +kernel⟩
theorem in_MdoRestore : Cond.instanceMethod y_MdoRestore ∈ TT ∧ Cond.selects y_MdoRestore.cls y_MdoRestore y_MdoRestore ∈ TT := ⟨tt_mem 802 (by decide +kernel) rfl, tt_mem 41 (by decide +kernel) rfl⟩
set_option maxRecDepth 20000 in
theorem mi_MparentOf : Mi y_MparentOf b_MparentOf 2 (some .int) 1 := ⟨tt_mem 807 rfl rfl, tt_mem 53 (by decide +kernel) rfl, by decide +kernel, by decide +kernel⟩
theorem in_MparentOf : Cond.instanceMethod y_MparentOf ∈ TT ∧ Cond.selects y_MparentOf.cls y_MparentOf y_MparentOf ∈ TT := ⟨tt_mem 806 (by decide +kernel) rfl, tt_mem 42 (by decide +kernel) rfl⟩
set_option maxRecDepth 20000 in
theorem mi_Mchild : Mi y_Mchild b_Mchild 5 (some .int) 3 := ⟨tt_mem 811 rfl rfl, tt_mem 53 (by decide +kernel) rfl, by decide +kernel, by decide +kernel⟩
theorem in_Mchild : Cond.instanceMethod y_Mchild ∈ TT ∧ Cond.selects y_Mchild.cls y_Mchild y_Mchild ∈ TT := ⟨tt_mem 809 (by decide +kernel) rfl, tt_mem 810 (by decide +kernel) rfl⟩
set_option maxRecDepth 20000 in
theorem mi_Mrow : Mi y_Mrow b_Mrow 3 (some .int) 2 := ⟨tt_mem 815 rfl rfl, tt_mem 53 (by decide +kernel) rfl, by decide +kernel, by decide +kernel⟩
theorem in_Mrow : Cond.instanceMethod y_Mrow ∈ TT ∧ Cond.selects y_Mrow.cls y_Mrow y_Mrow ∈ TT := ⟨tt_mem 813 (by decide +kernel) rfl, tt_mem 814 (by decide +kernel) rfl⟩
set_option maxRecDepth 20000 in
theorem mi_Mjudged : Mi y_Mjudged b_Mjudged 3 (some .int) 2 := ⟨tt_mem 819 rfl rfl, tt_mem 53 (by decide +kernel) rfl, by decide +kernel, by decide +kernel⟩
theorem in_Mjudged : Cond.instanceMethod y_Mjudged ∈ TT ∧ Cond.selects y_Mjudged.cls y_Mjudged y_Mjudged ∈ TT := ⟨tt_mem 817 (by decide +kernel) rfl, tt_mem 818 (by decide +kernel) rfl⟩
set_option maxRecDepth 20000 in
theorem mi_Malike : Mi y_Malike b_Malike 5 (some .boolean) 2 := ⟨tt_mem 823 rfl rfl, tt_mem 53 (by decide +kernel) rfl, by decide +kernel, by decide +kernel⟩
theorem in_Malike : Cond.instanceMethod y_Malike ∈ TT ∧ Cond.selects y_Malike.cls y_Malike y_Malike ∈ TT := ⟨tt_mem 821 (by decide +kernel) rfl, tt_mem 822 (by decide +kernel) rfl⟩
set_option maxRecDepth 20000 in
theorem mi_Mtotal : Mi y_Mtotal b_Mtotal 3 (some .int) 1 := ⟨tt_mem 827 rfl rfl, tt_mem 53 (by decide +kernel) rfl, by decide +kernel, by decide +kernel⟩
theorem in_Mtotal : Cond.instanceMethod y_Mtotal ∈ TT ∧ Cond.selects y_Mtotal.cls y_Mtotal y_Mtotal ∈ TT := ⟨tt_mem 825 (by decide +kernel) rfl, tt_mem 826 (by decide +kernel) rfl⟩
set_option maxRecDepth 20000 in
theorem mi_MknownRows : Mi y_MknownRows b_MknownRows 4 (some .int) 1 := ⟨tt_mem 831 rfl rfl, tt_mem 53 (by decide +kernel) rfl, by decide +kernel, by decide +kernel⟩
theorem in_MknownRows : Cond.instanceMethod y_MknownRows ∈ TT ∧ Cond.selects y_MknownRows.cls y_MknownRows y_MknownRows ∈ TT := ⟨tt_mem 830 (by decide +kernel) rfl, tt_mem 43 (by decide +kernel) rfl⟩
set_option maxRecDepth 20000 in
theorem mi_MthereOf : Mi y_MthereOf b_MthereOf 4 (some .int) 1 := ⟨tt_mem 835 rfl rfl, tt_mem 53 (by decide +kernel) rfl, by decide +kernel, by decide +kernel⟩
theorem in_MthereOf : Cond.instanceMethod y_MthereOf ∈ TT ∧ Cond.selects y_MthereOf.cls y_MthereOf y_MthereOf ∈ TT := ⟨tt_mem 834 (by decide +kernel) rfl, tt_mem 44 (by decide +kernel) rfl⟩
set_option maxRecDepth 20000 in
theorem mi_MbinOf : Mi y_MbinOf b_MbinOf 2 (some .int) 1 := ⟨tt_mem 839 rfl rfl, tt_mem 53 (by decide +kernel) rfl, by decide +kernel, by decide +kernel⟩
theorem in_MbinOf : Cond.instanceMethod y_MbinOf ∈ TT ∧ Cond.selects y_MbinOf.cls y_MbinOf y_MbinOf ∈ TT := ⟨tt_mem 838 (by decide +kernel) rfl, tt_mem 45 (by decide +kernel) rfl⟩
theorem cl_L7 : Cond.classLink "BinTreesLaw" 7 "BinTrees" ∈ TT := tt_mem 64 (by decide +kernel) rfl
theorem nw_0 : Cond.instantiable "BinTrees" 4 ∈ TT ∧ Cond.initialized "BinTrees" ∈ TT := ⟨tt_mem 65 (by decide +kernel) rfl, tt_mem 47 (by decide +kernel) rfl⟩
theorem lk_L9 : Cond.methodLink "BinTreesLaw" 9 y_Binit ∈ TT := tt_mem 66 (by decide +kernel) rfl
theorem lk_B1 : Cond.methodLink "BinTrees" 1 y_Jinit ∈ TT := tt_mem 69 (by decide +kernel) rfl
theorem cl_B7 : Cond.classLink "BinTrees" 7 "java/util/ArrayList" ∈ TT := tt_mem 72 (by decide +kernel) rfl
theorem nw_6 : Cond.instantiable "java/util/ArrayList" 3 ∈ TT ∧ Cond.initialized "java/util/ArrayList" ∈ TT := ⟨tt_mem 73 (by decide +kernel) rfl, tt_mem 50 (by decide +kernel) rfl⟩
theorem lk_B9 : Cond.methodLink "BinTrees" 9 y_Ainit ∈ TT := tt_mem 74 (by decide +kernel) rfl
theorem lk_A1 : Cond.methodLink "java/util/ArrayList" 1 y_Yinit ∈ TT := tt_mem 77 (by decide +kernel) rfl
theorem lk_Y1 : Cond.methodLink "java/util/AbstractList" 1 y_Zinit ∈ TT := tt_mem 80 (by decide +kernel) rfl
theorem lk_Z1 : Cond.methodLink "java/util/AbstractCollection" 1 y_Jinit ∈ TT := tt_mem 83 (by decide +kernel) rfl
theorem gs_A39 : Cond.fieldLink "java/util/ArrayList" 39 "java/util/ArrayList" "DEFAULTCAPACITY_EMPTY_ELEMENTDATA" "[Ljava/lang/Object;" ∈ TT := tt_mem 84 (by decide +kernel) rfl
theorem fl_A9 : Fl "java/util/ArrayList" 9 6 0 := ⟨("java/util/ArrayList", F_6, 3), "java/util/ArrayList", rfl, by decide, Or.inl (tt_mem 86 (by decide +kernel) rfl), Or.inl rfl⟩
theorem fl_I37 : Fl "java/util/ArrayList$Itr" 37 6 0 := ⟨("java/util/ArrayList", F_6, 3), "java/util/ArrayList", rfl, by decide, Or.inl (tt_mem 87 (by decide +kernel) rfl), Or.inl rfl⟩
theorem fl_I28 : Fl "java/util/ArrayList$Itr" 28 6 1 := ⟨("java/util/ArrayList", F_6, 3), "java/util/ArrayList", rfl, by decide, Or.inr ⟨"java/util/ArrayList", tt_mem 88 (by decide +kernel) rfl⟩, Or.inl rfl⟩
theorem fl_A48 : Fl "java/util/ArrayList" 48 6 1 := ⟨("java/util/ArrayList", F_6, 3), "java/util/ArrayList", rfl, by decide, Or.inl (tt_mem 89 (by decide +kernel) rfl), Or.inl rfl⟩
theorem fl_Y7 : Fl "java/util/AbstractList" 7 6 2 := ⟨("java/util/ArrayList", F_6, 3), "java/util/AbstractList", rfl, by decide, Or.inl (tt_mem 90 (by decide +kernel) rfl), Or.inl rfl⟩
theorem fl_I17 : Fl "java/util/ArrayList$Itr" 17 6 2 := ⟨("java/util/ArrayList", F_6, 3), "java/util/ArrayList", rfl, by decide, Or.inl (tt_mem 91 (by decide +kernel) rfl), Or.inr (tt_mem 92 (by decide +kernel) rfl)⟩
theorem fl_A63 : Fl "java/util/ArrayList" 63 6 2 := ⟨("java/util/ArrayList", F_6, 3), "java/util/ArrayList", rfl, by decide, Or.inl (tt_mem 93 (by decide +kernel) rfl), Or.inr (tt_mem 92 (by decide +kernel) rfl)⟩
theorem cl_B16 : Cond.classLink "BinTrees" 16 "BinTrees$Tree" ∈ TT := tt_mem 101 (by decide +kernel) rfl
theorem ao_T : Cond.arrayOver (.object "BinTrees$Tree") ∈ TT := tt_mem 102 (by decide +kernel) rfl
theorem nw_4 : Cond.instantiable "BinTrees$Tree" 9 ∈ TT ∧ Cond.initialized "BinTrees$Tree" ∈ TT := ⟨tt_mem 103 (by decide +kernel) rfl, tt_mem 51 (by decide +kernel) rfl⟩
theorem lk_B30 : Cond.methodLink "BinTrees" 30 y_Tinit ∈ TT := tt_mem 104 (by decide +kernel) rfl
theorem lk_T3 : Cond.methodLink "BinTrees$Tree" 3 y_Jinit ∈ TT := tt_mem 107 (by decide +kernel) rfl
theorem cl_T9 : Cond.classLink "BinTrees$Tree" 9 "BinTrees$Place" ∈ TT := tt_mem 108 (by decide +kernel) rfl
theorem ao_P : Cond.arrayOver (.object "BinTrees$Place") ∈ TT := tt_mem 109 (by decide +kernel) rfl
theorem nw_1 : Cond.instantiable "BinTrees$Place" 5 ∈ TT ∧ Cond.initialized "BinTrees$Place" ∈ TT := ⟨tt_mem 110 (by decide +kernel) rfl, tt_mem 52 (by decide +kernel) rfl⟩
theorem lk_T17 : Cond.methodLink "BinTrees$Tree" 17 y_Pinit ∈ TT := tt_mem 111 (by decide +kernel) rfl
theorem lk_P1 : Cond.methodLink "BinTrees$Place" 1 y_Jinit ∈ TT := tt_mem 114 (by decide +kernel) rfl
theorem cl_P7 : Cond.classLink "BinTrees$Place" 7 "java/util/ArrayList" ∈ TT := tt_mem 115 (by decide +kernel) rfl
theorem lk_P9 : Cond.methodLink "BinTrees$Place" 9 y_Ainit ∈ TT := tt_mem 116 (by decide +kernel) rfl
theorem fl_P16 : Fl "BinTrees$Place" 16 1 0 := ⟨("BinTrees$Place", F_1, 5), "BinTrees$Place", rfl, by decide, Or.inl (tt_mem 117 (by decide +kernel) rfl), Or.inl rfl⟩
theorem fl_T149 : Fl "BinTrees$Tree" 149 1 0 := ⟨("BinTrees$Place", F_1, 5), "BinTrees$Place", rfl, by decide, Or.inr ⟨"BinTrees", tt_mem 118 (by decide +kernel) rfl⟩, Or.inl rfl⟩
theorem fl_B130 : Fl "BinTrees" 130 1 0 := ⟨("BinTrees$Place", F_1, 5), "BinTrees$Place", rfl, by decide, Or.inr ⟨"BinTrees", tt_mem 119 (by decide +kernel) rfl⟩, Or.inl rfl⟩
theorem fl_P10 : Fl "BinTrees$Place" 10 1 1 := ⟨("BinTrees$Place", F_1, 5), "BinTrees$Place", rfl, by decide, Or.inl (tt_mem 120 (by decide +kernel) rfl), Or.inl rfl⟩
theorem fl_T70 : Fl "BinTrees$Tree" 70 1 1 := ⟨("BinTrees$Place", F_1, 5), "BinTrees$Place", rfl, by decide, Or.inr ⟨"BinTrees", tt_mem 121 (by decide +kernel) rfl⟩, Or.inl rfl⟩
theorem fl_B139 : Fl "BinTrees" 139 1 1 := ⟨("BinTrees$Place", F_1, 5), "BinTrees$Place", rfl, by decide, Or.inr ⟨"BinTrees", tt_mem 122 (by decide +kernel) rfl⟩, Or.inl rfl⟩
theorem fl_T49 : Fl "BinTrees$Tree" 49 1 2 := ⟨("BinTrees$Place", F_1, 5), "BinTrees$Place", rfl, by decide, Or.inr ⟨"BinTrees", tt_mem 123 (by decide +kernel) rfl⟩, Or.inl rfl⟩
theorem fl_P24 : Fl "BinTrees$Place" 24 1 2 := ⟨("BinTrees$Place", F_1, 5), "BinTrees$Place", rfl, by decide, Or.inl (tt_mem 124 (by decide +kernel) rfl), Or.inl rfl⟩
theorem fl_B122 : Fl "BinTrees" 122 1 2 := ⟨("BinTrees$Place", F_1, 5), "BinTrees$Place", rfl, by decide, Or.inr ⟨"BinTrees", tt_mem 125 (by decide +kernel) rfl⟩, Or.inl rfl⟩
theorem fl_T92 : Fl "BinTrees$Tree" 92 1 3 := ⟨("BinTrees$Place", F_1, 5), "BinTrees$Place", rfl, by decide, Or.inr ⟨"BinTrees", tt_mem 126 (by decide +kernel) rfl⟩, Or.inl rfl⟩
theorem fl_B146 : Fl "BinTrees" 146 1 3 := ⟨("BinTrees$Place", F_1, 5), "BinTrees$Place", rfl, by decide, Or.inr ⟨"BinTrees", tt_mem 127 (by decide +kernel) rfl⟩, Or.inl rfl⟩
theorem fl_T45 : Fl "BinTrees$Tree" 45 1 4 := ⟨("BinTrees$Place", F_1, 5), "BinTrees$Place", rfl, by decide, Or.inr ⟨"BinTrees", tt_mem 128 (by decide +kernel) rfl⟩, Or.inl rfl⟩
theorem fl_B112 : Fl "BinTrees" 112 1 4 := ⟨("BinTrees$Place", F_1, 5), "BinTrees$Place", rfl, by decide, Or.inr ⟨"BinTrees", tt_mem 129 (by decide +kernel) rfl⟩, Or.inl rfl⟩
theorem ac_boolean : Cond.arrayClass .boolean ∈ TT := tt_mem 141 (by decide +kernel) rfl
theorem cl_T24 : Cond.classLink "BinTrees$Tree" 24 "java/util/ArrayList" ∈ TT := tt_mem 142 (by decide +kernel) rfl
theorem lk_T26 : Cond.methodLink "BinTrees$Tree" 26 y_Ainit ∈ TT := tt_mem 143 (by decide +kernel) rfl
theorem cl_T31 : Cond.classLink "BinTrees$Tree" 31 "BinTrees$Step" ∈ TT := tt_mem 144 (by decide +kernel) rfl
theorem ao_S : Cond.arrayOver (.object "BinTrees$Step") ∈ TT := tt_mem 145 (by decide +kernel) rfl
theorem fl_T41 : Fl "BinTrees$Tree" 41 4 0 := ⟨("BinTrees$Tree", F_4, 9), "BinTrees$Tree", rfl, by decide, Or.inl (tt_mem 146 (by decide +kernel) rfl), Or.inl rfl⟩
theorem fl_T11 : Fl "BinTrees$Tree" 11 4 1 := ⟨("BinTrees$Tree", F_4, 9), "BinTrees$Tree", rfl, by decide, Or.inl (tt_mem 147 (by decide +kernel) rfl), Or.inl rfl⟩
theorem fl_B108 : Fl "BinTrees" 108 4 1 := ⟨("BinTrees$Tree", F_4, 9), "BinTrees$Tree", rfl, by decide, Or.inr ⟨"BinTrees", tt_mem 148 (by decide +kernel) rfl⟩, Or.inl rfl⟩
theorem fl_T20 : Fl "BinTrees$Tree" 20 4 2 := ⟨("BinTrees$Tree", F_4, 9), "BinTrees$Tree", rfl, by decide, Or.inl (tt_mem 149 (by decide +kernel) rfl), Or.inl rfl⟩
theorem fl_B149 : Fl "BinTrees" 149 4 2 := ⟨("BinTrees$Tree", F_4, 9), "BinTrees$Tree", rfl, by decide, Or.inr ⟨"BinTrees", tt_mem 150 (by decide +kernel) rfl⟩, Or.inl rfl⟩
theorem fl_T27 : Fl "BinTrees$Tree" 27 4 3 := ⟨("BinTrees$Tree", F_4, 9), "BinTrees$Tree", rfl, by decide, Or.inl (tt_mem 151 (by decide +kernel) rfl), Or.inl rfl⟩
theorem fl_T33 : Fl "BinTrees$Tree" 33 4 4 := ⟨("BinTrees$Tree", F_4, 9), "BinTrees$Tree", rfl, by decide, Or.inl (tt_mem 152 (by decide +kernel) rfl), Or.inl rfl⟩
theorem fl_B80 : Fl "BinTrees" 80 4 4 := ⟨("BinTrees$Tree", F_4, 9), "BinTrees$Tree", rfl, by decide, Or.inr ⟨"BinTrees", tt_mem 153 (by decide +kernel) rfl⟩, Or.inl rfl⟩
theorem fl_T37 : Fl "BinTrees$Tree" 37 4 5 := ⟨("BinTrees$Tree", F_4, 9), "BinTrees$Tree", rfl, by decide, Or.inl (tt_mem 154 (by decide +kernel) rfl), Or.inl rfl⟩
theorem fl_T168 : Fl "BinTrees$Tree" 168 4 6 := ⟨("BinTrees$Tree", F_4, 9), "BinTrees$Tree", rfl, by decide, Or.inl (tt_mem 155 (by decide +kernel) rfl), Or.inl rfl⟩
theorem fl_B178 : Fl "BinTrees" 178 4 6 := ⟨("BinTrees$Tree", F_4, 9), "BinTrees$Tree", rfl, by decide, Or.inr ⟨"BinTrees", tt_mem 156 (by decide +kernel) rfl⟩, Or.inl rfl⟩
theorem fl_B39 : Fl "BinTrees" 39 4 7 := ⟨("BinTrees$Tree", F_4, 9), "BinTrees$Tree", rfl, by decide, Or.inr ⟨"BinTrees", tt_mem 157 (by decide +kernel) rfl⟩, Or.inl rfl⟩
theorem fl_T171 : Fl "BinTrees$Tree" 171 4 7 := ⟨("BinTrees$Tree", F_4, 9), "BinTrees$Tree", rfl, by decide, Or.inl (tt_mem 158 (by decide +kernel) rfl), Or.inl rfl⟩
theorem fl_B84 : Fl "BinTrees" 84 4 8 := ⟨("BinTrees$Tree", F_4, 9), "BinTrees$Tree", rfl, by decide, Or.inr ⟨"BinTrees", tt_mem 159 (by decide +kernel) rfl⟩, Or.inl rfl⟩
theorem fl_T165 : Fl "BinTrees$Tree" 165 4 8 := ⟨("BinTrees$Tree", F_4, 9), "BinTrees$Tree", rfl, by decide, Or.inl (tt_mem 160 (by decide +kernel) rfl), Or.inl rfl⟩
theorem fl_B10 : Fl "BinTrees" 10 0 0 := ⟨("BinTrees", F_0, 4), "BinTrees", rfl, by decide, Or.inl (tt_mem 180 (by decide +kernel) rfl), Or.inl rfl⟩
theorem fl_B18 : Fl "BinTrees" 18 0 1 := ⟨("BinTrees", F_0, 4), "BinTrees", rfl, by decide, Or.inl (tt_mem 181 (by decide +kernel) rfl), Or.inl rfl⟩
theorem fl_B22 : Fl "BinTrees" 22 0 2 := ⟨("BinTrees", F_0, 4), "BinTrees", rfl, by decide, Or.inl (tt_mem 182 (by decide +kernel) rfl), Or.inl rfl⟩
theorem fl_B26 : Fl "BinTrees" 26 0 3 := ⟨("BinTrees", F_0, 4), "BinTrees", rfl, by decide, Or.inl (tt_mem 183 (by decide +kernel) rfl), Or.inl rfl⟩
theorem lk_L13 : Cond.methodLink "BinTreesLaw" 13 y_Bmake ∈ TT := tt_mem 193 (by decide +kernel) rfl
theorem lk_B56 : Cond.methodLink "BinTrees" 56 y_BisIn ∈ TT := tt_mem 197 (by decide +kernel) rfl
theorem lk_B33 : Cond.methodLink "BinTrees" 33 y_Asize ∈ TT := tt_mem 200 (by decide +kernel) rfl
theorem lk_B60 : Cond.methodLink "BinTrees" 60 y_Badd ∈ TT := tt_mem 204 (by decide +kernel) rfl
theorem cl_B37 : Cond.classLink "BinTrees" 37 "BinTrees$Row" ∈ TT := tt_mem 208 (by decide +kernel) rfl
theorem nw_2 : Cond.instantiable "BinTrees$Row" 7 ∈ TT ∧ Cond.initialized "BinTrees$Row" ∈ TT := ⟨tt_mem 209 (by decide +kernel) rfl, tt_mem 55 (by decide +kernel) rfl⟩
theorem lk_B42 : Cond.methodLinkNest "BinTrees" 42 y_Rinit "BinTrees" ∈ TT := tt_mem 210 (by decide +kernel) rfl
theorem lk_R1 : Cond.methodLink "BinTrees$Row" 1 y_Qinit ∈ TT := tt_mem 213 (by decide +kernel) rfl
theorem lk_Q1 : Cond.methodLink "java/lang/Record" 1 y_Jinit ∈ TT := tt_mem 216 (by decide +kernel) rfl
theorem fl_R7 : Fl "BinTrees$Row" 7 2 0 := ⟨("BinTrees$Row", F_2, 7), "BinTrees$Row", rfl, by decide, Or.inl (tt_mem 217 (by decide +kernel) rfl), Or.inl rfl⟩
theorem fl_R13 : Fl "BinTrees$Row" 13 2 1 := ⟨("BinTrees$Row", F_2, 7), "BinTrees$Row", rfl, by decide, Or.inl (tt_mem 218 (by decide +kernel) rfl), Or.inl rfl⟩
theorem fl_R16 : Fl "BinTrees$Row" 16 2 2 := ⟨("BinTrees$Row", F_2, 7), "BinTrees$Row", rfl, by decide, Or.inl (tt_mem 219 (by decide +kernel) rfl), Or.inl rfl⟩
theorem fl_R19 : Fl "BinTrees$Row" 19 2 3 := ⟨("BinTrees$Row", F_2, 7), "BinTrees$Row", rfl, by decide, Or.inl (tt_mem 220 (by decide +kernel) rfl), Or.inl rfl⟩
theorem fl_R22 : Fl "BinTrees$Row" 22 2 4 := ⟨("BinTrees$Row", F_2, 7), "BinTrees$Row", rfl, by decide, Or.inl (tt_mem 221 (by decide +kernel) rfl), Or.inl rfl⟩
theorem fl_R25 : Fl "BinTrees$Row" 25 2 5 := ⟨("BinTrees$Row", F_2, 7), "BinTrees$Row", rfl, by decide, Or.inl (tt_mem 222 (by decide +kernel) rfl), Or.inl rfl⟩
theorem fl_R28 : Fl "BinTrees$Row" 28 2 6 := ⟨("BinTrees$Row", F_2, 7), "BinTrees$Row", rfl, by decide, Or.inl (tt_mem 223 (by decide +kernel) rfl), Or.inl rfl⟩
theorem lk_B45 : Cond.methodLink "BinTrees" 45 y_Aadd1 ∈ TT := tt_mem 239 (by decide +kernel) rfl
theorem lk_A131 : Cond.methodLink "java/util/ArrayList" 131 y_Aadd3 ∈ TT := tt_mem 243 (by decide +kernel) rfl
theorem lk_A129 : Cond.methodLink "java/util/ArrayList" 129 y_Agrow0 ∈ TT := tt_mem 247 (by decide +kernel) rfl
theorem lk_A69 : Cond.methodLink "java/util/ArrayList" 69 y_Agrow1 ∈ TT := tt_mem 251 (by decide +kernel) rfl
theorem lk_A73 : Cond.methodLink "java/util/ArrayList" 73 y_UnewLength ∈ TT := tt_mem 255 (by decide +kernel) rfl
theorem lk_U194 : Cond.methodLink "jdk/internal/util/ArraysSupport" 194 y_Hmax ∈ TT := tt_mem 258 (by decide +kernel) rfl
theorem co_U200 : Cond.constant "jdk/internal/util/ArraysSupport" 200 2147483639 ∈ TT := tt_mem 261 (by decide +kernel) rfl
theorem lk_U201 : Cond.methodLink "jdk/internal/util/ArraysSupport" 201 y_UhugeLength ∈ TT := tt_mem 262 (by decide +kernel) rfl
theorem lk_A66 : Cond.methodLink "java/util/ArrayList" 66 y_VcopyOf2 ∈ TT := tt_mem 265 (by decide +kernel) rfl
theorem lk_V86 : Cond.methodLink "java/util/Arrays" 86 ⟨"java/lang/Object", "getClass", "()Ljava/lang/Class;"⟩ ∈ TT := tt_mem 268 (by decide +kernel) rfl
theorem lk_V300 : Cond.methodLink "java/util/Arrays" 300 y_VcopyOf3 ∈ TT := tt_mem 280 (by decide +kernel) rfl
theorem cl_V110 : Cond.classLink "java/util/Arrays" 110 "[Ljava/lang/Object;" ∈ TT := tt_mem 283 (by decide +kernel) rfl
theorem ao_J : Cond.arrayOver (.object "java/lang/Object") ∈ TT := tt_mem 284 (by decide +kernel) rfl
theorem cl_V2 : Cond.classLink "java/util/Arrays" 2 "java/lang/Object" ∈ TT := tt_mem 285 (by decide +kernel) rfl
theorem lk_V304 : Cond.methodLink "java/util/Arrays" 304 y_Hmin ∈ TT := tt_mem 286 (by decide +kernel) rfl
theorem lk_V150 : Cond.methodLink "java/util/Arrays" 150 ⟨"java/lang/System", "arraycopy", "(Ljava/lang/Object;ILjava/lang/Object;II)V"⟩ ∈ TT := tt_mem 289 (by decide +kernel) rfl
theorem lk_A79 : Cond.methodLink "java/util/ArrayList" 79 y_Hmax ∈ TT := tt_mem 292 (by decide +kernel) rfl
theorem cl_A7 : Cond.classLink "java/util/ArrayList" 7 "java/lang/Object" ∈ TT := tt_mem 293 (by decide +kernel) rfl
theorem lk_B49 : Cond.methodLink "BinTrees" 49 y_Tlearn ∈ TT := tt_mem 294 (by decide +kernel) rfl
theorem lk_T174 : Cond.methodLink "BinTrees$Tree" 174 y_Rtime ∈ TT := tt_mem 298 (by decide +kernel) rfl
theorem lk_T176 : Cond.methodLink "BinTrees$Tree" 176 y_Hmax ∈ TT := tt_mem 302 (by decide +kernel) rfl
theorem lk_T111 : Cond.methodLink "BinTrees$Tree" 111 y_Rsort ∈ TT := tt_mem 303 (by decide +kernel) rfl
theorem lk_T106 : Cond.methodLink "BinTrees$Tree" 106 y_Robject ∈ TT := tt_mem 307 (by decide +kernel) rfl
theorem lk_T182 : Cond.methodLink "BinTrees$Tree" 182 y_Rnumber ∈ TT := tt_mem 311 (by decide +kernel) rfl
theorem nw_3 : Cond.instantiable "BinTrees$Step" 7 ∈ TT ∧ Cond.initialized "BinTrees$Step" ∈ TT := ⟨tt_mem 315 (by decide +kernel) rfl, tt_mem 60 (by decide +kernel) rfl⟩
theorem lk_T184 : Cond.methodLink "BinTrees$Tree" 184 y_Sinit ∈ TT := tt_mem 316 (by decide +kernel) rfl
theorem lk_S1 : Cond.methodLink "BinTrees$Step" 1 y_Jinit ∈ TT := tt_mem 319 (by decide +kernel) rfl
theorem fl_S7 : Fl "BinTrees$Step" 7 3 0 := ⟨("BinTrees$Step", F_3, 7), "BinTrees$Step", rfl, by decide, Or.inl (tt_mem 320 (by decide +kernel) rfl), Or.inl rfl⟩
theorem fl_T102 : Fl "BinTrees$Tree" 102 3 0 := ⟨("BinTrees$Step", F_3, 7), "BinTrees$Step", rfl, by decide, Or.inr ⟨"BinTrees", tt_mem 321 (by decide +kernel) rfl⟩, Or.inl rfl⟩
theorem fl_B162 : Fl "BinTrees" 162 3 0 := ⟨("BinTrees$Step", F_3, 7), "BinTrees$Step", rfl, by decide, Or.inr ⟨"BinTrees", tt_mem 322 (by decide +kernel) rfl⟩, Or.inl rfl⟩
theorem fl_T99 : Fl "BinTrees$Tree" 99 3 1 := ⟨("BinTrees$Step", F_3, 7), "BinTrees$Step", rfl, by decide, Or.inr ⟨"BinTrees", tt_mem 323 (by decide +kernel) rfl⟩, Or.inl rfl⟩
theorem fl_B168 : Fl "BinTrees" 168 3 1 := ⟨("BinTrees$Step", F_3, 7), "BinTrees$Step", rfl, by decide, Or.inr ⟨"BinTrees", tt_mem 324 (by decide +kernel) rfl⟩, Or.inl rfl⟩
theorem fl_T85 : Fl "BinTrees$Tree" 85 3 2 := ⟨("BinTrees$Step", F_3, 7), "BinTrees$Step", rfl, by decide, Or.inr ⟨"BinTrees", tt_mem 325 (by decide +kernel) rfl⟩, Or.inl rfl⟩
theorem fl_B171 : Fl "BinTrees" 171 3 2 := ⟨("BinTrees$Step", F_3, 7), "BinTrees$Step", rfl, by decide, Or.inr ⟨"BinTrees", tt_mem 326 (by decide +kernel) rfl⟩, Or.inl rfl⟩
theorem fl_T88 : Fl "BinTrees$Tree" 88 3 3 := ⟨("BinTrees$Step", F_3, 7), "BinTrees$Step", rfl, by decide, Or.inr ⟨"BinTrees", tt_mem 327 (by decide +kernel) rfl⟩, Or.inl rfl⟩
theorem fl_T91 : Fl "BinTrees$Tree" 91 3 4 := ⟨("BinTrees$Step", F_3, 7), "BinTrees$Step", rfl, by decide, Or.inr ⟨"BinTrees", tt_mem 328 (by decide +kernel) rfl⟩, Or.inl rfl⟩
theorem fl_T95 : Fl "BinTrees$Tree" 95 3 5 := ⟨("BinTrees$Step", F_3, 7), "BinTrees$Step", rfl, by decide, Or.inr ⟨"BinTrees", tt_mem 329 (by decide +kernel) rfl⟩, Or.inl rfl⟩
theorem fl_T96 : Fl "BinTrees$Tree" 96 3 6 := ⟨("BinTrees$Step", F_3, 7), "BinTrees$Step", rfl, by decide, Or.inr ⟨"BinTrees", tt_mem 330 (by decide +kernel) rfl⟩, Or.inl rfl⟩
theorem lk_T151 : Cond.methodLink "BinTrees$Tree" 151 y_Aget ∈ TT := tt_mem 346 (by decide +kernel) rfl
theorem lk_A118 : Cond.methodLink "java/util/ArrayList" 118 y_OcheckIndex ∈ TT := tt_mem 350 (by decide +kernel) rfl
theorem lk_O105 : Cond.methodLink "java/util/Objects" 105 y_CcheckIndex ∈ TT := tt_mem 353 (by decide +kernel) rfl
theorem lk_A123 : Cond.methodLink "java/util/ArrayList" 123 y_AelementData ∈ TT := tt_mem 356 (by decide +kernel) rfl
theorem lk_T118 : Cond.methodLink "BinTrees$Tree" 118 y_Asize ∈ TT := tt_mem 360 (by decide +kernel) rfl
theorem lk_T158 : Cond.methodLink "BinTrees$Tree" 158 y_Tback ∈ TT := tt_mem 361 (by decide +kernel) rfl
theorem lk_T135 : Cond.methodLink "BinTrees$Tree" 135 y_Ttake ∈ TT := tt_mem 365 (by decide +kernel) rfl
theorem lk_T73 : Cond.methodLink "BinTrees$Tree" 73 y_PplaceOf ∈ TT := tt_mem 369 (by decide +kernel) rfl
theorem lk_P20 : Cond.methodLink "BinTrees$Place" 20 y_Aget ∈ TT := tt_mem 373 (by decide +kernel) rfl
theorem lk_T77 : Cond.methodLink "BinTrees$Tree" 77 y_Aremove ∈ TT := tt_mem 374 (by decide +kernel) rfl
theorem lk_A144 : Cond.methodLink "java/util/ArrayList" 144 y_AfastRemove ∈ TT := tt_mem 378 (by decide +kernel) rfl
theorem lk_A112 : Cond.methodLink "java/util/ArrayList" 112 ⟨"java/lang/System", "arraycopy", "(Ljava/lang/Object;ILjava/lang/Object;II)V"⟩ ∈ TT := tt_mem 382 (by decide +kernel) rfl
theorem lk_T121 : Cond.methodLink "BinTrees$Tree" 121 y_Tput ∈ TT := tt_mem 383 (by decide +kernel) rfl
theorem lk_T81 : Cond.methodLink "BinTrees$Tree" 81 y_Aadd2 ∈ TT := tt_mem 387 (by decide +kernel) rfl
theorem lk_A135 : Cond.methodLink "java/util/ArrayList" 135 y_ArangeCheckForAdd ∈ TT := tt_mem 391 (by decide +kernel) rfl
theorem lk_T162 : Cond.methodLink "BinTrees$Tree" 162 y_Tgo ∈ TT := tt_mem 395 (by decide +kernel) rfl
theorem lk_T114 : Cond.methodLink "BinTrees$Tree" 114 y_Tbegin ∈ TT := tt_mem 399 (by decide +kernel) rfl
theorem lk_T125 : Cond.methodLink "BinTrees$Tree" 125 y_Rto ∈ TT := tt_mem 403 (by decide +kernel) rfl
theorem lk_T128 : Cond.methodLink "BinTrees$Tree" 128 y_Tmove ∈ TT := tt_mem 407 (by decide +kernel) rfl
theorem lk_T142 : Cond.methodLink "BinTrees$Tree" 142 y_TmayGo ∈ TT := tt_mem 411 (by decide +kernel) rfl
theorem lk_T56 : Cond.methodLink "BinTrees$Tree" 56 y_PisWithin ∈ TT := tt_mem 415 (by decide +kernel) rfl
theorem lk_T60 : Cond.methodLink "BinTrees$Tree" 60 y_TisBelowBin ∈ TT := tt_mem 419 (by decide +kernel) rfl
theorem lk_T52 : Cond.methodLink "BinTrees$Tree" 52 y_Ptop ∈ TT := tt_mem 423 (by decide +kernel) rfl
theorem lk_P44 : Cond.methodLink "BinTrees$Place" 44 y_Ptop ∈ TT := tt_mem 427 (by decide +kernel) rfl
theorem lk_T63 : Cond.methodLink "BinTrees$Tree" 63 y_Pdepth ∈ TT := tt_mem 428 (by decide +kernel) rfl
theorem lk_P28 : Cond.methodLink "BinTrees$Place" 28 y_Pdepth ∈ TT := tt_mem 432 (by decide +kernel) rfl
theorem lk_T67 : Cond.methodLink "BinTrees$Tree" 67 y_Pheight ∈ TT := tt_mem 433 (by decide +kernel) rfl
theorem lk_P32 : Cond.methodLink "BinTrees$Place" 32 y_Asize ∈ TT := tt_mem 437 (by decide +kernel) rfl
theorem cl_P11 : Cond.classLink "BinTrees$Place" 11 "BinTrees$Place" ∈ TT := tt_mem 438 (by decide +kernel) rfl
theorem lk_P35 : Cond.methodLink "BinTrees$Place" 35 y_Pheight ∈ TT := tt_mem 439 (by decide +kernel) rfl
theorem lk_P38 : Cond.methodLink "BinTrees$Place" 38 y_Hmax ∈ TT := tt_mem 440 (by decide +kernel) rfl
theorem lk_T146 : Cond.methodLink "BinTrees$Tree" 146 y_Rbehind ∈ TT := tt_mem 441 (by decide +kernel) rfl
theorem lk_T132 : Cond.methodLink "BinTrees$Tree" 132 y_TisInBin ∈ TT := tt_mem 445 (by decide +kernel) rfl
theorem lk_T139 : Cond.methodLink "BinTrees$Tree" 139 y_Trestore ∈ TT := tt_mem 449 (by decide +kernel) rfl
theorem lk_T187 : Cond.methodLink "BinTrees$Tree" 187 y_TplaceOf ∈ TT := tt_mem 453 (by decide +kernel) rfl
theorem lk_T154 : Cond.methodLink "BinTrees$Tree" 154 y_RisBefore ∈ TT := tt_mem 457 (by decide +kernel) rfl
theorem lk_T190 : Cond.methodLink "BinTrees$Tree" 190 y_Tjudge ∈ TT := tt_mem 461 (by decide +kernel) rfl
theorem lk_B53 : Cond.methodLink "BinTrees" 53 y_Rnumber ∈ TT := tt_mem 465 (by decide +kernel) rfl
theorem lk_L18 : Cond.methodLink "BinTreesLaw" 18 y_Bmove ∈ TT := tt_mem 466 (by decide +kernel) rfl
theorem lk_B63 : Cond.methodLink "BinTrees" 63 y_BmayAdd ∈ TT := tt_mem 470 (by decide +kernel) rfl
theorem lk_L23 : Cond.methodLink "BinTreesLaw" 23 y_Bremove ∈ TT := tt_mem 474 (by decide +kernel) rfl
theorem lk_L28 : Cond.methodLink "BinTreesLaw" 28 y_Bundo ∈ TT := tt_mem 478 (by decide +kernel) rfl
theorem lk_B66 : Cond.methodLink "BinTrees" 66 y_BisRow ∈ TT := tt_mem 482 (by decide +kernel) rfl
theorem lk_B70 : Cond.methodLink "BinTrees" 70 y_Aget ∈ TT := tt_mem 486 (by decide +kernel) rfl
theorem lk_B74 : Cond.methodLink "BinTrees" 74 y_Rnode ∈ TT := tt_mem 487 (by decide +kernel) rfl
theorem lk_B77 : Cond.methodLink "BinTrees" 77 y_Rsort ∈ TT := tt_mem 491 (by decide +kernel) rfl
theorem lk_L33 : Cond.methodLink "BinTreesLaw" 33 y_Bsee ∈ TT := tt_mem 492 (by decide +kernel) rfl
theorem lk_L37 : Cond.methodLink "BinTreesLaw" 37 y_Bmeet ∈ TT := tt_mem 496 (by decide +kernel) rfl
theorem lk_B87 : Cond.methodLink "BinTrees" 87 y_Aiterator ∈ TT := tt_mem 500 (by decide +kernel) rfl
theorem cl_A267 : Cond.classLink "java/util/ArrayList" 267 "java/util/ArrayList$Itr" ∈ TT := tt_mem 504 (by decide +kernel) rfl
theorem nw_7 : Cond.instantiable "java/util/ArrayList$Itr" 4 ∈ TT ∧ Cond.initialized "java/util/ArrayList$Itr" ∈ TT := ⟨tt_mem 505 (by decide +kernel) rfl, tt_mem 63 (by decide +kernel) rfl⟩
theorem lk_A269 : Cond.methodLink "java/util/ArrayList" 269 y_Iinit ∈ TT := tt_mem 506 (by decide +kernel) rfl
theorem lk_I7 : Cond.methodLink "java/util/ArrayList$Itr" 7 y_Jinit ∈ TT := tt_mem 509 (by decide +kernel) rfl
theorem fl_I25 : Fl "java/util/ArrayList$Itr" 25 7 0 := ⟨("java/util/ArrayList$Itr", F_7, 4), "java/util/ArrayList$Itr", rfl, by decide, Or.inl (tt_mem 510 (by decide +kernel) rfl), Or.inl rfl⟩
theorem fl_I13 : Fl "java/util/ArrayList$Itr" 13 7 1 := ⟨("java/util/ArrayList$Itr", F_7, 4), "java/util/ArrayList$Itr", rfl, by decide, Or.inl (tt_mem 511 (by decide +kernel) rfl), Or.inl rfl⟩
theorem fl_I22 : Fl "java/util/ArrayList$Itr" 22 7 2 := ⟨("java/util/ArrayList$Itr", F_7, 4), "java/util/ArrayList$Itr", rfl, by decide, Or.inl (tt_mem 512 (by decide +kernel) rfl), Or.inl rfl⟩
theorem fl_I1 : Fl "java/util/ArrayList$Itr" 1 7 3 := ⟨("java/util/ArrayList$Itr", F_7, 4), "java/util/ArrayList$Itr", rfl, by decide, Or.inl (tt_mem 513 (by decide +kernel) rfl), Or.inl rfl⟩
theorem lk_B91 : Cond.methodLink "BinTrees" 91 ⟨"java/util/Iterator", "hasNext", "()Z"⟩ ∈ TT := tt_mem 524 (by decide +kernel) rfl
theorem ca_IF : Cond.castable "java/util/ArrayList$Itr" "java/util/Iterator" ∈ TT := tt_mem 527 (by decide +kernel) rfl
theorem lk_B97 : Cond.methodLink "BinTrees" 97 ⟨"java/util/Iterator", "next", "()Ljava/lang/Object;"⟩ ∈ TT := tt_mem 534 (by decide +kernel) rfl
theorem lk_I31 : Cond.methodLink "java/util/ArrayList$Itr" 31 y_IcheckForComodification ∈ TT := tt_mem 542 (by decide +kernel) rfl
theorem lk_B101 : Cond.methodLink "BinTrees" 101 y_RisBefore ∈ TT := tt_mem 546 (by decide +kernel) rfl
theorem lk_B105 : Cond.methodLink "BinTrees" 105 y_Aadd2 ∈ TT := tt_mem 547 (by decide +kernel) rfl
theorem lk_L41 : Cond.methodLink "BinTreesLaw" 41 y_Bcost ∈ TT := tt_mem 548 (by decide +kernel) rfl
theorem lk_L45 : Cond.methodLink "BinTreesLaw" 45 y_Bobject ∈ TT := tt_mem 552 (by decide +kernel) rfl
theorem lk_B118 : Cond.methodLink "BinTrees" 118 y_Bplace ∈ TT := tt_mem 556 (by decide +kernel) rfl
theorem lk_B126 : Cond.methodLinkNest "BinTrees" 126 y_TisInBin "BinTrees" ∈ TT := tt_mem 560 (by decide +kernel) rfl
theorem lk_B133 : Cond.methodLinkNest "BinTrees" 133 y_TisBelowBin "BinTrees" ∈ TT := tt_mem 561 (by decide +kernel) rfl
theorem lk_B136 : Cond.methodLink "BinTrees" 136 y_Pdepth ∈ TT := tt_mem 562 (by decide +kernel) rfl
theorem lk_B142 : Cond.methodLink "BinTrees" 142 y_PplaceOf ∈ TT := tt_mem 563 (by decide +kernel) rfl
theorem lk_L50 : Cond.methodLink "BinTreesLaw" 50 y_Bchild ∈ TT := tt_mem 564 (by decide +kernel) rfl
theorem cl_B113 : Cond.classLink "BinTrees" 113 "BinTrees$Place" ∈ TT := tt_mem 568 (by decide +kernel) rfl
theorem lk_L54 : Cond.methodLink "BinTreesLaw" 54 y_Brow ∈ TT := tt_mem 569 (by decide +kernel) rfl
theorem lk_B152 : Cond.methodLink "BinTrees" 152 y_Rtime ∈ TT := tt_mem 573 (by decide +kernel) rfl
theorem lk_B154 : Cond.methodLink "BinTrees" 154 y_Robject ∈ TT := tt_mem 574 (by decide +kernel) rfl
theorem lk_B156 : Cond.methodLink "BinTrees" 156 y_Rto ∈ TT := tt_mem 575 (by decide +kernel) rfl
theorem lk_B159 : Cond.methodLink "BinTrees" 159 y_Rbehind ∈ TT := tt_mem 576 (by decide +kernel) rfl
theorem lk_L58 : Cond.methodLink "BinTreesLaw" 58 y_Bjudged ∈ TT := tt_mem 577 (by decide +kernel) rfl
theorem lk_L62 : Cond.methodLink "BinTreesLaw" 62 y_Balike ∈ TT := tt_mem 581 (by decide +kernel) rfl
theorem lk_B174 : Cond.methodLink "BinTrees" 174 y_BareAlike ∈ TT := tt_mem 585 (by decide +kernel) rfl
theorem lk_L67 : Cond.methodLink "BinTreesLaw" 67 y_Btotal ∈ TT := tt_mem 588 (by decide +kernel) rfl
theorem lk_B181 : Cond.methodLink "BinTrees" 181 y_Tthere ∈ TT := tt_mem 592 (by decide +kernel) rfl
theorem cl_L10 : Cond.classLink "BinTreesLaw" 10 "BinTreesModel" ∈ TT := tt_mem 596 (by decide +kernel) rfl
theorem nw_5 : Cond.instantiable "BinTreesModel" 26 ∈ TT ∧ Cond.initialized "BinTreesModel" ∈ TT := ⟨tt_mem 597 (by decide +kernel) rfl, tt_mem 53 (by decide +kernel) rfl⟩
theorem lk_L12 : Cond.methodLink "BinTreesLaw" 12 y_Minit ∈ TT := tt_mem 598 (by decide +kernel) rfl
theorem lk_M1 : Cond.methodLink "BinTreesModel" 1 y_Jinit ∈ TT := tt_mem 601 (by decide +kernel) rfl
theorem fl_M78 : Fl "BinTreesModel" 78 5 0 := ⟨("BinTreesModel", F_5, 26), "BinTreesModel", rfl, by decide, Or.inl (tt_mem 602 (by decide +kernel) rfl), Or.inl rfl⟩
theorem fl_M81 : Fl "BinTreesModel" 81 5 1 := ⟨("BinTreesModel", F_5, 26), "BinTreesModel", rfl, by decide, Or.inl (tt_mem 603 (by decide +kernel) rfl), Or.inl rfl⟩
theorem fl_M7 : Fl "BinTreesModel" 7 5 2 := ⟨("BinTreesModel", F_5, 26), "BinTreesModel", rfl, by decide, Or.inl (tt_mem 604 (by decide +kernel) rfl), Or.inl rfl⟩
theorem fl_M13 : Fl "BinTreesModel" 13 5 3 := ⟨("BinTreesModel", F_5, 26), "BinTreesModel", rfl, by decide, Or.inl (tt_mem 605 (by decide +kernel) rfl), Or.inl rfl⟩
theorem fl_M16 : Fl "BinTreesModel" 16 5 4 := ⟨("BinTreesModel", F_5, 26), "BinTreesModel", rfl, by decide, Or.inl (tt_mem 606 (by decide +kernel) rfl), Or.inl rfl⟩
theorem fl_M19 : Fl "BinTreesModel" 19 5 5 := ⟨("BinTreesModel", F_5, 26), "BinTreesModel", rfl, by decide, Or.inl (tt_mem 607 (by decide +kernel) rfl), Or.inl rfl⟩
theorem fl_M22 : Fl "BinTreesModel" 22 5 6 := ⟨("BinTreesModel", F_5, 26), "BinTreesModel", rfl, by decide, Or.inl (tt_mem 608 (by decide +kernel) rfl), Or.inl rfl⟩
theorem fl_M25 : Fl "BinTreesModel" 25 5 7 := ⟨("BinTreesModel", F_5, 26), "BinTreesModel", rfl, by decide, Or.inl (tt_mem 609 (by decide +kernel) rfl), Or.inl rfl⟩
theorem fl_M28 : Fl "BinTreesModel" 28 5 8 := ⟨("BinTreesModel", F_5, 26), "BinTreesModel", rfl, by decide, Or.inl (tt_mem 610 (by decide +kernel) rfl), Or.inl rfl⟩
theorem fl_M32 : Fl "BinTreesModel" 32 5 9 := ⟨("BinTreesModel", F_5, 26), "BinTreesModel", rfl, by decide, Or.inl (tt_mem 611 (by decide +kernel) rfl), Or.inl rfl⟩
theorem fl_M36 : Fl "BinTreesModel" 36 5 10 := ⟨("BinTreesModel", F_5, 26), "BinTreesModel", rfl, by decide, Or.inl (tt_mem 612 (by decide +kernel) rfl), Or.inl rfl⟩
theorem fl_M39 : Fl "BinTreesModel" 39 5 11 := ⟨("BinTreesModel", F_5, 26), "BinTreesModel", rfl, by decide, Or.inl (tt_mem 613 (by decide +kernel) rfl), Or.inl rfl⟩
theorem fl_M42 : Fl "BinTreesModel" 42 5 12 := ⟨("BinTreesModel", F_5, 26), "BinTreesModel", rfl, by decide, Or.inl (tt_mem 614 (by decide +kernel) rfl), Or.inl rfl⟩
theorem fl_M45 : Fl "BinTreesModel" 45 5 13 := ⟨("BinTreesModel", F_5, 26), "BinTreesModel", rfl, by decide, Or.inl (tt_mem 615 (by decide +kernel) rfl), Or.inl rfl⟩
theorem fl_M48 : Fl "BinTreesModel" 48 5 14 := ⟨("BinTreesModel", F_5, 26), "BinTreesModel", rfl, by decide, Or.inl (tt_mem 616 (by decide +kernel) rfl), Or.inl rfl⟩
theorem fl_M51 : Fl "BinTreesModel" 51 5 15 := ⟨("BinTreesModel", F_5, 26), "BinTreesModel", rfl, by decide, Or.inl (tt_mem 617 (by decide +kernel) rfl), Or.inl rfl⟩
theorem fl_M54 : Fl "BinTreesModel" 54 5 16 := ⟨("BinTreesModel", F_5, 26), "BinTreesModel", rfl, by decide, Or.inl (tt_mem 618 (by decide +kernel) rfl), Or.inl rfl⟩
theorem fl_M57 : Fl "BinTreesModel" 57 5 17 := ⟨("BinTreesModel", F_5, 26), "BinTreesModel", rfl, by decide, Or.inl (tt_mem 619 (by decide +kernel) rfl), Or.inl rfl⟩
theorem fl_M60 : Fl "BinTreesModel" 60 5 18 := ⟨("BinTreesModel", F_5, 26), "BinTreesModel", rfl, by decide, Or.inl (tt_mem 620 (by decide +kernel) rfl), Or.inl rfl⟩
theorem fl_M88 : Fl "BinTreesModel" 88 5 19 := ⟨("BinTreesModel", F_5, 26), "BinTreesModel", rfl, by decide, Or.inl (tt_mem 621 (by decide +kernel) rfl), Or.inl rfl⟩
theorem fl_M63 : Fl "BinTreesModel" 63 5 20 := ⟨("BinTreesModel", F_5, 26), "BinTreesModel", rfl, by decide, Or.inl (tt_mem 622 (by decide +kernel) rfl), Or.inl rfl⟩
theorem fl_M159 : Fl "BinTreesModel" 159 5 21 := ⟨("BinTreesModel", F_5, 26), "BinTreesModel", rfl, by decide, Or.inl (tt_mem 623 (by decide +kernel) rfl), Or.inl rfl⟩
theorem fl_M66 : Fl "BinTreesModel" 66 5 22 := ⟨("BinTreesModel", F_5, 26), "BinTreesModel", rfl, by decide, Or.inl (tt_mem 624 (by decide +kernel) rfl), Or.inl rfl⟩
theorem fl_M69 : Fl "BinTreesModel" 69 5 23 := ⟨("BinTreesModel", F_5, 26), "BinTreesModel", rfl, by decide, Or.inl (tt_mem 625 (by decide +kernel) rfl), Or.inl rfl⟩
theorem fl_M72 : Fl "BinTreesModel" 72 5 24 := ⟨("BinTreesModel", F_5, 26), "BinTreesModel", rfl, by decide, Or.inl (tt_mem 626 (by decide +kernel) rfl), Or.inl rfl⟩
theorem fl_M75 : Fl "BinTreesModel" 75 5 25 := ⟨("BinTreesModel", F_5, 26), "BinTreesModel", rfl, by decide, Or.inl (tt_mem 627 (by decide +kernel) rfl), Or.inl rfl⟩
theorem ac_int : Cond.arrayClass .int ∈ TT := tt_mem 681 (by decide +kernel) rfl
theorem lk_L17 : Cond.methodLink "BinTreesLaw" 17 y_Mmake ∈ TT := tt_mem 682 (by decide +kernel) rfl
theorem lk_M152 : Cond.methodLink "BinTreesModel" 152 y_MisNode ∈ TT := tt_mem 686 (by decide +kernel) rfl
theorem lk_M148 : Cond.methodLink "BinTreesModel" 148 y_Mwithin ∈ TT := tt_mem 689 (by decide +kernel) rfl
theorem lk_M155 : Cond.methodLink "BinTreesModel" 155 y_Madd ∈ TT := tt_mem 692 (by decide +kernel) rfl
theorem lk_M144 : Cond.methodLink "BinTreesModel" 144 y_Mlearn ∈ TT := tt_mem 696 (by decide +kernel) rfl
theorem lk_M141 : Cond.methodLink "BinTreesModel" 141 y_McostOf ∈ TT := tt_mem 700 (by decide +kernel) rfl
theorem lk_M84 : Cond.methodLink "BinTreesModel" 84 y_MknowsRow ∈ TT := tt_mem 704 (by decide +kernel) rfl
theorem lk_M91 : Cond.methodLink "BinTreesModel" 91 y_MisBefore ∈ TT := tt_mem 708 (by decide +kernel) rfl
theorem lk_L22 : Cond.methodLink "BinTreesLaw" 22 y_Mmove ∈ TT := tt_mem 712 (by decide +kernel) rfl
theorem lk_L27 : Cond.methodLink "BinTreesLaw" 27 y_Mremove ∈ TT := tt_mem 716 (by decide +kernel) rfl
theorem lk_L32 : Cond.methodLink "BinTreesLaw" 32 y_Mundo ∈ TT := tt_mem 720 (by decide +kernel) rfl
theorem lk_M135 : Cond.methodLink "BinTreesModel" 135 y_MisUndone ∈ TT := tt_mem 724 (by decide +kernel) rfl
theorem lk_L36 : Cond.methodLink "BinTreesLaw" 36 y_Msee ∈ TT := tt_mem 728 (by decide +kernel) rfl
theorem lk_L40 : Cond.methodLink "BinTreesLaw" 40 y_Mmeet ∈ TT := tt_mem 732 (by decide +kernel) rfl
theorem lk_M132 : Cond.methodLink "BinTreesModel" 132 y_MfindOrder ∈ TT := tt_mem 736 (by decide +kernel) rfl
theorem lk_L44 : Cond.methodLink "BinTreesLaw" 44 y_Mcost ∈ TT := tt_mem 740 (by decide +kernel) rfl
theorem lk_L49 : Cond.methodLink "BinTreesLaw" 49 y_Mobject ∈ TT := tt_mem 744 (by decide +kernel) rfl
theorem lk_M165 : Cond.methodLink "BinTreesModel" 165 y_MisIn ∈ TT := tt_mem 748 (by decide +kernel) rfl
theorem lk_M162 : Cond.methodLink "BinTreesModel" 162 y_Mbuild ∈ TT := tt_mem 752 (by decide +kernel) rfl
theorem lk_M138 : Cond.methodLink "BinTreesModel" 138 y_MdoRow ∈ TT := tt_mem 756 (by decide +kernel) rfl
theorem lk_M118 : Cond.methodLink "BinTreesModel" 118 y_MputAt ∈ TT := tt_mem 760 (by decide +kernel) rfl
theorem lk_M122 : Cond.methodLink "BinTreesModel" 122 y_MdoMove ∈ TT := tt_mem 764 (by decide +kernel) rfl
theorem lk_M107 : Cond.methodLink "BinTreesModel" 107 y_MmayGo ∈ TT := tt_mem 768 (by decide +kernel) rfl
theorem lk_M98 : Cond.methodLink "BinTreesModel" 98 y_MisBelow ∈ TT := tt_mem 772 (by decide +kernel) rfl
theorem lk_M101 : Cond.methodLink "BinTreesModel" 101 y_Mtop ∈ TT := tt_mem 776 (by decide +kernel) rfl
theorem lk_M94 : Cond.methodLink "BinTreesModel" 94 y_Mdepth ∈ TT := tt_mem 780 (by decide +kernel) rfl
theorem lk_M104 : Cond.methodLink "BinTreesModel" 104 y_Mheight ∈ TT := tt_mem 784 (by decide +kernel) rfl
theorem lk_M110 : Cond.methodLink "BinTreesModel" 110 y_MtakeOut ∈ TT := tt_mem 788 (by decide +kernel) rfl
theorem lk_M114 : Cond.methodLink "BinTreesModel" 114 y_MplaceOf ∈ TT := tt_mem 792 (by decide +kernel) rfl
theorem lk_M126 : Cond.methodLink "BinTreesModel" 126 y_MdoRemove ∈ TT := tt_mem 796 (by decide +kernel) rfl
theorem lk_M129 : Cond.methodLink "BinTreesModel" 129 y_MdoRestore ∈ TT := tt_mem 800 (by decide +kernel) rfl
theorem lk_M168 : Cond.methodLink "BinTreesModel" 168 y_MparentOf ∈ TT := tt_mem 804 (by decide +kernel) rfl
theorem lk_L53 : Cond.methodLink "BinTreesLaw" 53 y_Mchild ∈ TT := tt_mem 808 (by decide +kernel) rfl
theorem lk_L57 : Cond.methodLink "BinTreesLaw" 57 y_Mrow ∈ TT := tt_mem 812 (by decide +kernel) rfl
theorem lk_L61 : Cond.methodLink "BinTreesLaw" 61 y_Mjudged ∈ TT := tt_mem 816 (by decide +kernel) rfl
theorem lk_L66 : Cond.methodLink "BinTreesLaw" 66 y_Malike ∈ TT := tt_mem 820 (by decide +kernel) rfl
theorem lk_L70 : Cond.methodLink "BinTreesLaw" 70 y_Mtotal ∈ TT := tt_mem 824 (by decide +kernel) rfl
theorem lk_M171 : Cond.methodLink "BinTreesModel" 171 y_MknownRows ∈ TT := tt_mem 828 (by decide +kernel) rfl
theorem lk_M174 : Cond.methodLink "BinTreesModel" 174 y_MthereOf ∈ TT := tt_mem 832 (by decide +kernel) rfl
theorem lk_M177 : Cond.methodLink "BinTreesModel" 177 y_MbinOf ∈ TT := tt_mem 836 (by decide +kernel) rfl
theorem ca_SS : Cond.castable "BinTrees$Step" "BinTrees$Step" ∈ TT := tt_mem 840 (by decide +kernel) rfl
theorem ca_PP : Cond.castable "BinTrees$Place" "BinTrees$Place" ∈ TT := tt_mem 841 (by decide +kernel) rfl
theorem ca_RR : Cond.castable "BinTrees$Row" "BinTrees$Row" ∈ TT := tt_mem 842 (by decide +kernel) rfl
theorem ca_BJ : Cond.castable "BinTrees" "java/lang/Object" ∈ TT := tt_mem 846 (by decide +kernel) rfl
theorem ca_TJ : Cond.castable "BinTrees$Tree" "java/lang/Object" ∈ TT := tt_mem 847 (by decide +kernel) rfl
theorem ca_PJ : Cond.castable "BinTrees$Place" "java/lang/Object" ∈ TT := tt_mem 848 (by decide +kernel) rfl
theorem ca_MJ : Cond.castable "BinTreesModel" "java/lang/Object" ∈ TT := tt_mem 849 (by decide +kernel) rfl
theorem ca_RJ : Cond.castable "BinTrees$Row" "java/lang/Object" ∈ TT := tt_mem 850 (by decide +kernel) rfl
theorem ca_SJ : Cond.castable "BinTrees$Step" "java/lang/Object" ∈ TT := tt_mem 851 (by decide +kernel) rfl
theorem ob_in : Cond.instanceMethod Lib.objectInit ∈ TT := tt_mem 70 (by decide +kernel) rfl
theorem ob_co : Cond.code Lib.objectInit ⟨#[0xb1]⟩ 1 none ∈ TT := tt_mem 71 (by decide +kernel) rfl
theorem ma_max : Cond.static Lib.Math.max.name ∈ TT ∧ Cond.initialized "java/lang/Math" ∈ TT ∧ Cond.code Lib.Math.max.name Lib.Math.max.code 2 (some .int) ∈ TT := ⟨tt_mem 259 (by decide +kernel) rfl, tt_mem 57 (by decide +kernel) rfl, tt_mem 260 (by decide +kernel) rfl⟩
theorem ma_min : Cond.static Lib.Math.min.name ∈ TT ∧ Cond.initialized "java/lang/Math" ∈ TT ∧ Cond.code Lib.Math.min.name Lib.Math.min.code 2 (some .int) ∈ TT := ⟨tt_mem 287 (by decide +kernel) rfl, tt_mem 57 (by decide +kernel) rfl, tt_mem 288 (by decide +kernel) rfl⟩
theorem ay_1 : Cond.native arraycopyName ∈ TT := tt_mem 291 (by decide +kernel) rfl
theorem ay_2 : Cond.static arraycopyName ∈ TT := tt_mem 290 (by decide +kernel) rfl
theorem ay_3 : Cond.initialized "java/lang/System" ∈ TT := tt_mem 59 (by decide +kernel) rfl
theorem gc_1 : Cond.declares ⟨"java/lang/Object", "getClass", "()Ljava/lang/Class;"⟩ ∈ TT := tt_mem 845 (by decide +kernel) rfl
theorem gc_2 : Cond.selects "[Ljava/lang/Object;" ⟨"java/lang/Object", "getClass", "()Ljava/lang/Class;"⟩ ⟨"java/lang/Object", "getClass", "()Ljava/lang/Class;"⟩ ∈ TT := tt_mem 844 (by decide +kernel) rfl
theorem gc_3 : Cond.instanceMethod ⟨"java/lang/Object", "getClass", "()Ljava/lang/Class;"⟩ ∈ TT := tt_mem 269 (by decide +kernel) rfl
theorem gc_4 : Cond.native ⟨"java/lang/Object", "getClass", "()Ljava/lang/Class;"⟩ ∈ TT := tt_mem 279 (by decide +kernel) rfl
theorem as_20 : Asg 2 0 := ⟨("BinTrees", F_0, 4), "java/lang/Object", rfl, rfl, Or.inr ca_BJ⟩
theorem as_21 : Asg 2 1 := ⟨("BinTrees$Place", F_1, 5), "java/lang/Object", rfl, rfl, Or.inr ca_PJ⟩
theorem as_22 : Asg 2 2 := ⟨("BinTrees$Row", F_2, 7), "java/lang/Object", rfl, rfl, Or.inr ca_RJ⟩
theorem as_23 : Asg 2 3 := ⟨("BinTrees$Step", F_3, 7), "java/lang/Object", rfl, rfl, Or.inr ca_SJ⟩
theorem as_24 : Asg 2 4 := ⟨("BinTrees$Tree", F_4, 9), "java/lang/Object", rfl, rfl, Or.inr ca_TJ⟩
theorem as_25 : Asg 2 5 := ⟨("BinTreesModel", F_5, 26), "java/lang/Object", rfl, rfl, Or.inr ca_MJ⟩
theorem as_31 : Asg 3 1 := ⟨("BinTrees$Place", F_1, 5), "BinTrees$Place", rfl, rfl, Or.inl rfl⟩
theorem as_43 : Asg 4 3 := ⟨("BinTrees$Step", F_3, 7), "BinTrees$Step", rfl, rfl, Or.inl rfl⟩
theorem as_54 : Asg 5 4 := ⟨("BinTrees$Tree", F_4, 9), "BinTrees$Tree", rfl, rfl, Or.inl rfl⟩

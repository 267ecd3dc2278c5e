section
-- ===== PART A: goes FIRST, ahead of the names: the tables' words, and 'selects' of the private methods out of them =====
/-- a private method of a class that the tables say can be made, by its rows of tables_1 -/
def lw_okq (q : MethodName × Nat) : Prop := (q.1.cls ≠ "java/lang/invoke/MethodHandle" ∧ q.1.cls ≠ "java/lang/invoke/VarHandle") ∧ Cond.instantiable q.1.cls q.2 ∈ tables_1 ∧ Cond.privateMethod q.1 ∈ tables_1 ∧ Cond.instanceMethod q.1 ∈ tables_1
theorem lw_p0 : lw_okq (⟨"java/lang/Throwable", "fillInStackTrace", "(I)Ljava/lang/Throwable;"⟩, 6) := ⟨⟨by decide +kernel, by decide +kernel⟩, List.mem_of_getElem? (i := 430) (by decide +kernel), List.mem_of_getElem? (i := 428) (by decide +kernel), List.mem_of_getElem? (i := 429) (by decide +kernel)⟩
theorem lw_p1 : lw_okq (⟨"DotBook", "layOut", "()V"⟩, 16) := ⟨⟨by decide +kernel, by decide +kernel⟩, List.mem_of_getElem? (i := 33) (by decide +kernel), List.mem_of_getElem? (i := 566) (by decide +kernel), List.mem_of_getElem? (i := 567) (by decide +kernel)⟩
theorem lw_p2 : lw_okq (⟨"DotBook", "turn", "(Z)V"⟩, 16) := ⟨⟨by decide +kernel, by decide +kernel⟩, List.mem_of_getElem? (i := 33) (by decide +kernel), List.mem_of_getElem? (i := 572) (by decide +kernel), List.mem_of_getElem? (i := 573) (by decide +kernel)⟩
theorem lw_p3 : lw_okq (⟨"DotBook", "fill", "(LDotBook$Block;I)I"⟩, 16) := ⟨⟨by decide +kernel, by decide +kernel⟩, List.mem_of_getElem? (i := 33) (by decide +kernel), List.mem_of_getElem? (i := 576) (by decide +kernel), List.mem_of_getElem? (i := 577) (by decide +kernel)⟩
theorem lw_p4 : lw_okq (⟨"DotBook", "lineAt", "(I)LDotBook$Line;"⟩, 16) := ⟨⟨by decide +kernel, by decide +kernel⟩, List.mem_of_getElem? (i := 33) (by decide +kernel), List.mem_of_getElem? (i := 596) (by decide +kernel), List.mem_of_getElem? (i := 597) (by decide +kernel)⟩
theorem lw_p5 : lw_okq (⟨"java/util/ArrayList", "add", "(Ljava/lang/Object;[Ljava/lang/Object;I)V"⟩, 3) := ⟨⟨by decide +kernel, by decide +kernel⟩, List.mem_of_getElem? (i := 91) (by decide +kernel), List.mem_of_getElem? (i := 608) (by decide +kernel), List.mem_of_getElem? (i := 609) (by decide +kernel)⟩
theorem lw_p6 : lw_okq (⟨"java/util/ArrayList", "grow", "()[Ljava/lang/Object;"⟩, 3) := ⟨⟨by decide +kernel, by decide +kernel⟩, List.mem_of_getElem? (i := 91) (by decide +kernel), List.mem_of_getElem? (i := 612) (by decide +kernel), List.mem_of_getElem? (i := 613) (by decide +kernel)⟩
theorem lw_p7 : lw_okq (⟨"java/util/ArrayList", "grow", "(I)[Ljava/lang/Object;"⟩, 3) := ⟨⟨by decide +kernel, by decide +kernel⟩, List.mem_of_getElem? (i := 91) (by decide +kernel), List.mem_of_getElem? (i := 616) (by decide +kernel), List.mem_of_getElem? (i := 617) (by decide +kernel)⟩
theorem lw_p8 : lw_okq (⟨"DotBook", "place", "(LDotBook$Block;I)V"⟩, 16) := ⟨⟨by decide +kernel, by decide +kernel⟩, List.mem_of_getElem? (i := 33) (by decide +kernel), List.mem_of_getElem? (i := 666) (by decide +kernel), List.mem_of_getElem? (i := 667) (by decide +kernel)⟩
theorem lw_p9 : lw_okq (⟨"DotBook", "taken", "(II)Z"⟩, 16) := ⟨⟨by decide +kernel, by decide +kernel⟩, List.mem_of_getElem? (i := 33) (by decide +kernel), List.mem_of_getElem? (i := 742) (by decide +kernel), List.mem_of_getElem? (i := 743) (by decide +kernel)⟩
theorem lw_p10 : lw_okq (⟨"DotBook", "take", "(II)V"⟩, 16) := ⟨⟨by decide +kernel, by decide +kernel⟩, List.mem_of_getElem? (i := 33) (by decide +kernel), List.mem_of_getElem? (i := 746) (by decide +kernel), List.mem_of_getElem? (i := 747) (by decide +kernel)⟩
theorem lw_p11 : lw_okq (⟨"DotBook", "takeCell", "(LDotBook$Rule;II)I"⟩, 16) := ⟨⟨by decide +kernel, by decide +kernel⟩, List.mem_of_getElem? (i := 33) (by decide +kernel), List.mem_of_getElem? (i := 833) (by decide +kernel), List.mem_of_getElem? (i := 834) (by decide +kernel)⟩
theorem lw_p12 : lw_okq (⟨"DotBook", "translate", "(Ljava/lang/String;LDotBook$Sink;)V"⟩, 16) := ⟨⟨by decide +kernel, by decide +kernel⟩, List.mem_of_getElem? (i := 33) (by decide +kernel), List.mem_of_getElem? (i := 900) (by decide +kernel), List.mem_of_getElem? (i := 901) (by decide +kernel)⟩
theorem lw_p13 : lw_okq (⟨"DotBook", "word", "(Ljava/lang/String;ILDotBook$Sink;)V"⟩, 16) := ⟨⟨by decide +kernel, by decide +kernel⟩, List.mem_of_getElem? (i := 33) (by decide +kernel), List.mem_of_getElem? (i := 927) (by decide +kernel), List.mem_of_getElem? (i := 928) (by decide +kernel)⟩
theorem lw_p14 : lw_okq (⟨"DotBook", "ruleAt", "(Ljava/lang/String;IZ)LDotBook$Rule;"⟩, 16) := ⟨⟨by decide +kernel, by decide +kernel⟩, List.mem_of_getElem? (i := 33) (by decide +kernel), List.mem_of_getElem? (i := 949) (by decide +kernel), List.mem_of_getElem? (i := 950) (by decide +kernel)⟩
theorem lw_p15 : lw_okq (⟨"DotBook", "number", "(Ljava/lang/String;ILDotBook$Sink;)V"⟩, 16) := ⟨⟨by decide +kernel, by decide +kernel⟩, List.mem_of_getElem? (i := 33) (by decide +kernel), List.mem_of_getElem? (i := 967) (by decide +kernel), List.mem_of_getElem? (i := 968) (by decide +kernel)⟩
def lw_privs_1 : List (MethodName × Nat) := [(⟨"java/lang/Throwable", "fillInStackTrace", "(I)Ljava/lang/Throwable;"⟩, 6), (⟨"DotBook", "layOut", "()V"⟩, 16), (⟨"DotBook", "turn", "(Z)V"⟩, 16), (⟨"DotBook", "fill", "(LDotBook$Block;I)I"⟩, 16), (⟨"DotBook", "lineAt", "(I)LDotBook$Line;"⟩, 16), (⟨"java/util/ArrayList", "add", "(Ljava/lang/Object;[Ljava/lang/Object;I)V"⟩, 3), (⟨"java/util/ArrayList", "grow", "()[Ljava/lang/Object;"⟩, 3), (⟨"java/util/ArrayList", "grow", "(I)[Ljava/lang/Object;"⟩, 3), (⟨"DotBook", "place", "(LDotBook$Block;I)V"⟩, 16), (⟨"DotBook", "taken", "(II)Z"⟩, 16), (⟨"DotBook", "take", "(II)V"⟩, 16), (⟨"DotBook", "takeCell", "(LDotBook$Rule;II)I"⟩, 16), (⟨"DotBook", "translate", "(Ljava/lang/String;LDotBook$Sink;)V"⟩, 16), (⟨"DotBook", "word", "(Ljava/lang/String;ILDotBook$Sink;)V"⟩, 16), (⟨"DotBook", "ruleAt", "(Ljava/lang/String;IZ)LDotBook$Rule;"⟩, 16), (⟨"DotBook", "number", "(Ljava/lang/String;ILDotBook$Sink;)V"⟩, 16)]
theorem lw_r1 : ∀ q ∈ lw_privs_1, lw_okq q := List.forall_mem_cons.mpr ⟨lw_p0, List.forall_mem_cons.mpr ⟨lw_p1, List.forall_mem_cons.mpr ⟨lw_p2, List.forall_mem_cons.mpr ⟨lw_p3, List.forall_mem_cons.mpr ⟨lw_p4, List.forall_mem_cons.mpr ⟨lw_p5, List.forall_mem_cons.mpr ⟨lw_p6, List.forall_mem_cons.mpr ⟨lw_p7, List.forall_mem_cons.mpr ⟨lw_p8, List.forall_mem_cons.mpr ⟨lw_p9, List.forall_mem_cons.mpr ⟨lw_p10, List.forall_mem_cons.mpr ⟨lw_p11, List.forall_mem_cons.mpr ⟨lw_p12, List.forall_mem_cons.mpr ⟨lw_p13, List.forall_mem_cons.mpr ⟨lw_p14, List.forall_mem_cons.mpr ⟨lw_p15, fun _ h => absurd h List.not_mem_nil⟩⟩⟩⟩⟩⟩⟩⟩⟩⟩⟩⟩⟩⟩⟩⟩
theorem lw_p16 : lw_okq (⟨"DotBook", "blockAt", "(I)LDotBook$Block;"⟩, 16) := ⟨⟨by decide +kernel, by decide +kernel⟩, List.mem_of_getElem? (i := 33) (by decide +kernel), List.mem_of_getElem? (i := 981) (by decide +kernel), List.mem_of_getElem? (i := 982) (by decide +kernel)⟩
theorem lw_p17 : lw_okq (⟨"DotBook", "piece", "(LDotBook$Block;II)V"⟩, 16) := ⟨⟨by decide +kernel, by decide +kernel⟩, List.mem_of_getElem? (i := 33) (by decide +kernel), List.mem_of_getElem? (i := 1014) (by decide +kernel), List.mem_of_getElem? (i := 1015) (by decide +kernel)⟩
theorem lw_p18 : lw_okq (⟨"DotBook", "ruleBack", "(LDotBook$Block;III)LDotBook$Rule;"⟩, 16) := ⟨⟨by decide +kernel, by decide +kernel⟩, List.mem_of_getElem? (i := 33) (by decide +kernel), List.mem_of_getElem? (i := 1024) (by decide +kernel), List.mem_of_getElem? (i := 1025) (by decide +kernel)⟩
theorem lw_p19 : lw_okq (⟨"DotBook", "hear", "(CZ)V"⟩, 16) := ⟨⟨by decide +kernel, by decide +kernel⟩, List.mem_of_getElem? (i := 33) (by decide +kernel), List.mem_of_getElem? (i := 1028) (by decide +kernel), List.mem_of_getElem? (i := 1029) (by decide +kernel)⟩
theorem lw_p20 : lw_okq (⟨"DotBookModel", "takeRule", "(II)Z"⟩, 29) := ⟨⟨by decide +kernel, by decide +kernel⟩, List.mem_of_getElem? (i := 1052) (by decide +kernel), List.mem_of_getElem? (i := 1163) (by decide +kernel), List.mem_of_getElem? (i := 1164) (by decide +kernel)⟩
theorem lw_p21 : lw_okq (⟨"DotBookModel", "kindOf", "(C)I"⟩, 29) := ⟨⟨by decide +kernel, by decide +kernel⟩, List.mem_of_getElem? (i := 1052) (by decide +kernel), List.mem_of_getElem? (i := 1167) (by decide +kernel), List.mem_of_getElem? (i := 1168) (by decide +kernel)⟩
theorem lw_p22 : lw_okq (⟨"DotBookModel", "isSmall", "(C)Z"⟩, 29) := ⟨⟨by decide +kernel, by decide +kernel⟩, List.mem_of_getElem? (i := 1052) (by decide +kernel), List.mem_of_getElem? (i := 1171) (by decide +kernel), List.mem_of_getElem? (i := 1172) (by decide +kernel)⟩
theorem lw_p23 : lw_okq (⟨"DotBookModel", "readCells", "(II)Z"⟩, 29) := ⟨⟨by decide +kernel, by decide +kernel⟩, List.mem_of_getElem? (i := 1052) (by decide +kernel), List.mem_of_getElem? (i := 1175) (by decide +kernel), List.mem_of_getElem? (i := 1176) (by decide +kernel)⟩
theorem lw_p24 : lw_okq (⟨"DotBookModel", "isThere", "()Z"⟩, 29) := ⟨⟨by decide +kernel, by decide +kernel⟩, List.mem_of_getElem? (i := 1052) (by decide +kernel), List.mem_of_getElem? (i := 1179) (by decide +kernel), List.mem_of_getElem? (i := 1180) (by decide +kernel)⟩
theorem lw_p25 : lw_okq (⟨"DotBookModel", "isLetter", "(C)Z"⟩, 29) := ⟨⟨by decide +kernel, by decide +kernel⟩, List.mem_of_getElem? (i := 1052) (by decide +kernel), List.mem_of_getElem? (i := 1191) (by decide +kernel), List.mem_of_getElem? (i := 1192) (by decide +kernel)⟩
theorem lw_p26 : lw_okq (⟨"DotBookModel", "isCapital", "(C)Z"⟩, 29) := ⟨⟨by decide +kernel, by decide +kernel⟩, List.mem_of_getElem? (i := 1052) (by decide +kernel), List.mem_of_getElem? (i := 1195) (by decide +kernel), List.mem_of_getElem? (i := 1196) (by decide +kernel)⟩
theorem lw_p27 : lw_okq (⟨"DotBookModel", "isDigit", "(C)Z"⟩, 29) := ⟨⟨by decide +kernel, by decide +kernel⟩, List.mem_of_getElem? (i := 1052) (by decide +kernel), List.mem_of_getElem? (i := 1199) (by decide +kernel), List.mem_of_getElem? (i := 1200) (by decide +kernel)⟩
theorem lw_p28 : lw_okq (⟨"DotBookModel", "markOf", "(C)I"⟩, 29) := ⟨⟨by decide +kernel, by decide +kernel⟩, List.mem_of_getElem? (i := 1052) (by decide +kernel), List.mem_of_getElem? (i := 1203) (by decide +kernel), List.mem_of_getElem? (i := 1204) (by decide +kernel)⟩
theorem lw_p29 : lw_okq (⟨"DotBookModel", "translate", "()V"⟩, 29) := ⟨⟨by decide +kernel, by decide +kernel⟩, List.mem_of_getElem? (i := 1052) (by decide +kernel), List.mem_of_getElem? (i := 1207) (by decide +kernel), List.mem_of_getElem? (i := 1208) (by decide +kernel)⟩
theorem lw_p30 : lw_okq (⟨"DotBookModel", "translateWord", "(II)V"⟩, 29) := ⟨⟨by decide +kernel, by decide +kernel⟩, List.mem_of_getElem? (i := 1052) (by decide +kernel), List.mem_of_getElem? (i := 1211) (by decide +kernel), List.mem_of_getElem? (i := 1212) (by decide +kernel)⟩
theorem lw_p31 : lw_okq (⟨"DotBookModel", "add", "(II)V"⟩, 29) := ⟨⟨by decide +kernel, by decide +kernel⟩, List.mem_of_getElem? (i := 1052) (by decide +kernel), List.mem_of_getElem? (i := 1215) (by decide +kernel), List.mem_of_getElem? (i := 1216) (by decide +kernel)⟩
def lw_privs_2 : List (MethodName × Nat) := [(⟨"DotBook", "blockAt", "(I)LDotBook$Block;"⟩, 16), (⟨"DotBook", "piece", "(LDotBook$Block;II)V"⟩, 16), (⟨"DotBook", "ruleBack", "(LDotBook$Block;III)LDotBook$Rule;"⟩, 16), (⟨"DotBook", "hear", "(CZ)V"⟩, 16), (⟨"DotBookModel", "takeRule", "(II)Z"⟩, 29), (⟨"DotBookModel", "kindOf", "(C)I"⟩, 29), (⟨"DotBookModel", "isSmall", "(C)Z"⟩, 29), (⟨"DotBookModel", "readCells", "(II)Z"⟩, 29), (⟨"DotBookModel", "isThere", "()Z"⟩, 29), (⟨"DotBookModel", "isLetter", "(C)Z"⟩, 29), (⟨"DotBookModel", "isCapital", "(C)Z"⟩, 29), (⟨"DotBookModel", "isDigit", "(C)Z"⟩, 29), (⟨"DotBookModel", "markOf", "(C)I"⟩, 29), (⟨"DotBookModel", "translate", "()V"⟩, 29), (⟨"DotBookModel", "translateWord", "(II)V"⟩, 29), (⟨"DotBookModel", "add", "(II)V"⟩, 29)]
theorem lw_r2 : ∀ q ∈ lw_privs_2, lw_okq q := List.forall_mem_cons.mpr ⟨lw_p16, List.forall_mem_cons.mpr ⟨lw_p17, List.forall_mem_cons.mpr ⟨lw_p18, List.forall_mem_cons.mpr ⟨lw_p19, List.forall_mem_cons.mpr ⟨lw_p20, List.forall_mem_cons.mpr ⟨lw_p21, List.forall_mem_cons.mpr ⟨lw_p22, List.forall_mem_cons.mpr ⟨lw_p23, List.forall_mem_cons.mpr ⟨lw_p24, List.forall_mem_cons.mpr ⟨lw_p25, List.forall_mem_cons.mpr ⟨lw_p26, List.forall_mem_cons.mpr ⟨lw_p27, List.forall_mem_cons.mpr ⟨lw_p28, List.forall_mem_cons.mpr ⟨lw_p29, List.forall_mem_cons.mpr ⟨lw_p30, List.forall_mem_cons.mpr ⟨lw_p31, fun _ h => absurd h List.not_mem_nil⟩⟩⟩⟩⟩⟩⟩⟩⟩⟩⟩⟩⟩⟩⟩⟩
theorem lw_p32 : lw_okq (⟨"DotBookModel", "stands", "(IIIIZ)Z"⟩, 29) := ⟨⟨by decide +kernel, by decide +kernel⟩, List.mem_of_getElem? (i := 1052) (by decide +kernel), List.mem_of_getElem? (i := 1219) (by decide +kernel), List.mem_of_getElem? (i := 1220) (by decide +kernel)⟩
theorem lw_p33 : lw_okq (⟨"DotBookModel", "applies", "(IIIII)Z"⟩, 29) := ⟨⟨by decide +kernel, by decide +kernel⟩, List.mem_of_getElem? (i := 1052) (by decide +kernel), List.mem_of_getElem? (i := 1223) (by decide +kernel), List.mem_of_getElem? (i := 1224) (by decide +kernel)⟩
theorem lw_p34 : lw_okq (⟨"DotBookModel", "small", "(C)C"⟩, 29) := ⟨⟨by decide +kernel, by decide +kernel⟩, List.mem_of_getElem? (i := 1052) (by decide +kernel), List.mem_of_getElem? (i := 1227) (by decide +kernel), List.mem_of_getElem? (i := 1228) (by decide +kernel)⟩
theorem lw_p35 : lw_okq (⟨"DotBookModel", "cellOf", "(C)I"⟩, 29) := ⟨⟨by decide +kernel, by decide +kernel⟩, List.mem_of_getElem? (i := 1052) (by decide +kernel), List.mem_of_getElem? (i := 1231) (by decide +kernel), List.mem_of_getElem? (i := 1232) (by decide +kernel)⟩
theorem lw_p36 : lw_okq (⟨"DotBookModel", "digitCell", "(I)I"⟩, 29) := ⟨⟨by decide +kernel, by decide +kernel⟩, List.mem_of_getElem? (i := 1052) (by decide +kernel), List.mem_of_getElem? (i := 1235) (by decide +kernel), List.mem_of_getElem? (i := 1236) (by decide +kernel)⟩
theorem lw_p37 : lw_okq (⟨"DotBookModel", "noBlock", "(I)Z"⟩, 29) := ⟨⟨by decide +kernel, by decide +kernel⟩, List.mem_of_getElem? (i := 1052) (by decide +kernel), List.mem_of_getElem? (i := 1243) (by decide +kernel), List.mem_of_getElem? (i := 1244) (by decide +kernel)⟩
theorem lw_p38 : lw_okq (⟨"DotBookModel", "hear", "(C)V"⟩, 29) := ⟨⟨by decide +kernel, by decide +kernel⟩, List.mem_of_getElem? (i := 1052) (by decide +kernel), List.mem_of_getElem? (i := 1255) (by decide +kernel), List.mem_of_getElem? (i := 1256) (by decide +kernel)⟩
theorem lw_p39 : lw_okq (⟨"DotBookModel", "readPiece", "(II)V"⟩, 29) := ⟨⟨by decide +kernel, by decide +kernel⟩, List.mem_of_getElem? (i := 1052) (by decide +kernel), List.mem_of_getElem? (i := 1259) (by decide +kernel), List.mem_of_getElem? (i := 1260) (by decide +kernel)⟩
theorem lw_p40 : lw_okq (⟨"DotBookModel", "digitOf", "(I)I"⟩, 29) := ⟨⟨by decide +kernel, by decide +kernel⟩, List.mem_of_getElem? (i := 1052) (by decide +kernel), List.mem_of_getElem? (i := 1263) (by decide +kernel), List.mem_of_getElem? (i := 1264) (by decide +kernel)⟩
theorem lw_p41 : lw_okq (⟨"DotBookModel", "readOne", "(III)I"⟩, 29) := ⟨⟨by decide +kernel, by decide +kernel⟩, List.mem_of_getElem? (i := 1052) (by decide +kernel), List.mem_of_getElem? (i := 1267) (by decide +kernel), List.mem_of_getElem? (i := 1268) (by decide +kernel)⟩
theorem lw_p42 : lw_okq (⟨"DotBookModel", "cellsStand", "(IIII)Z"⟩, 29) := ⟨⟨by decide +kernel, by decide +kernel⟩, List.mem_of_getElem? (i := 1052) (by decide +kernel), List.mem_of_getElem? (i := 1271) (by decide +kernel), List.mem_of_getElem? (i := 1272) (by decide +kernel)⟩
theorem lw_p43 : lw_okq (⟨"DotBookModel", "characterOf", "(I)C"⟩, 29) := ⟨⟨by decide +kernel, by decide +kernel⟩, List.mem_of_getElem? (i := 1052) (by decide +kernel), List.mem_of_getElem? (i := 1275) (by decide +kernel), List.mem_of_getElem? (i := 1276) (by decide +kernel)⟩
theorem lw_p44 : lw_okq (⟨"DotBookModel", "layOut", "(II)V"⟩, 29) := ⟨⟨by decide +kernel, by decide +kernel⟩, List.mem_of_getElem? (i := 1052) (by decide +kernel), List.mem_of_getElem? (i := 1287) (by decide +kernel), List.mem_of_getElem? (i := 1288) (by decide +kernel)⟩
theorem lw_p45 : lw_okq (⟨"DotBookModel", "lay", "(IZ)I"⟩, 29) := ⟨⟨by decide +kernel, by decide +kernel⟩, List.mem_of_getElem? (i := 1052) (by decide +kernel), List.mem_of_getElem? (i := 1291) (by decide +kernel), List.mem_of_getElem? (i := 1292) (by decide +kernel)⟩
theorem lw_p46 : lw_okq (⟨"DotBookModel", "indentOf", "(II)I"⟩, 29) := ⟨⟨by decide +kernel, by decide +kernel⟩, List.mem_of_getElem? (i := 1052) (by decide +kernel), List.mem_of_getElem? (i := 1295) (by decide +kernel), List.mem_of_getElem? (i := 1296) (by decide +kernel)⟩
theorem lw_p47 : lw_okq (⟨"DotBookModel", "closeLine", "(IIZ)V"⟩, 29) := ⟨⟨by decide +kernel, by decide +kernel⟩, List.mem_of_getElem? (i := 1052) (by decide +kernel), List.mem_of_getElem? (i := 1299) (by decide +kernel), List.mem_of_getElem? (i := 1300) (by decide +kernel)⟩
def lw_privs_3 : List (MethodName × Nat) := [(⟨"DotBookModel", "stands", "(IIIIZ)Z"⟩, 29), (⟨"DotBookModel", "applies", "(IIIII)Z"⟩, 29), (⟨"DotBookModel", "small", "(C)C"⟩, 29), (⟨"DotBookModel", "cellOf", "(C)I"⟩, 29), (⟨"DotBookModel", "digitCell", "(I)I"⟩, 29), (⟨"DotBookModel", "noBlock", "(I)Z"⟩, 29), (⟨"DotBookModel", "hear", "(C)V"⟩, 29), (⟨"DotBookModel", "readPiece", "(II)V"⟩, 29), (⟨"DotBookModel", "digitOf", "(I)I"⟩, 29), (⟨"DotBookModel", "readOne", "(III)I"⟩, 29), (⟨"DotBookModel", "cellsStand", "(IIII)Z"⟩, 29), (⟨"DotBookModel", "characterOf", "(I)C"⟩, 29), (⟨"DotBookModel", "layOut", "(II)V"⟩, 29), (⟨"DotBookModel", "lay", "(IZ)I"⟩, 29), (⟨"DotBookModel", "indentOf", "(II)I"⟩, 29), (⟨"DotBookModel", "closeLine", "(IIZ)V"⟩, 29)]
theorem lw_r3 : ∀ q ∈ lw_privs_3, lw_okq q := List.forall_mem_cons.mpr ⟨lw_p32, List.forall_mem_cons.mpr ⟨lw_p33, List.forall_mem_cons.mpr ⟨lw_p34, List.forall_mem_cons.mpr ⟨lw_p35, List.forall_mem_cons.mpr ⟨lw_p36, List.forall_mem_cons.mpr ⟨lw_p37, List.forall_mem_cons.mpr ⟨lw_p38, List.forall_mem_cons.mpr ⟨lw_p39, List.forall_mem_cons.mpr ⟨lw_p40, List.forall_mem_cons.mpr ⟨lw_p41, List.forall_mem_cons.mpr ⟨lw_p42, List.forall_mem_cons.mpr ⟨lw_p43, List.forall_mem_cons.mpr ⟨lw_p44, List.forall_mem_cons.mpr ⟨lw_p45, List.forall_mem_cons.mpr ⟨lw_p46, List.forall_mem_cons.mpr ⟨lw_p47, fun _ h => absurd h List.not_mem_nil⟩⟩⟩⟩⟩⟩⟩⟩⟩⟩⟩⟩⟩⟩⟩⟩
theorem lw_p48 : lw_okq (⟨"DotBookModel", "putLine", "(II)V"⟩, 29) := ⟨⟨by decide +kernel, by decide +kernel⟩, List.mem_of_getElem? (i := 1052) (by decide +kernel), List.mem_of_getElem? (i := 1303) (by decide +kernel), List.mem_of_getElem? (i := 1304) (by decide +kernel)⟩
theorem lw_p49 : lw_okq (⟨"DotBookModel", "number", "(I)V"⟩, 29) := ⟨⟨by decide +kernel, by decide +kernel⟩, List.mem_of_getElem? (i := 1052) (by decide +kernel), List.mem_of_getElem? (i := 1311) (by decide +kernel), List.mem_of_getElem? (i := 1312) (by decide +kernel)⟩
def lw_privs_4 : List (MethodName × Nat) := [(⟨"DotBookModel", "putLine", "(II)V"⟩, 29), (⟨"DotBookModel", "number", "(I)V"⟩, 29)]
theorem lw_r4 : ∀ q ∈ lw_privs_4, lw_okq q := List.forall_mem_cons.mpr ⟨lw_p48, List.forall_mem_cons.mpr ⟨lw_p49, fun _ h => absurd h List.not_mem_nil⟩⟩
def lw_privs : List (MethodName × Nat) := lw_privs_1 ++ (lw_privs_2 ++ (lw_privs_3 ++ (lw_privs_4)))
def lw_tbl : List Cond := k2_sels lw_privs ++ tables_1
theorem lw_privs_ok : ∀ q ∈ lw_privs, lw_okq q := by
  show ∀ q ∈ lw_privs_1 ++ (lw_privs_2 ++ (lw_privs_3 ++ (lw_privs_4))), lw_okq q
  exact List.forall_mem_append.mpr ⟨lw_r1, List.forall_mem_append.mpr ⟨lw_r2, List.forall_mem_append.mpr ⟨lw_r3, lw_r4⟩⟩⟩
-- ===== end of PART A; then your names; then what follows =====
/-! THE CLAIM OUT OF ONE WALK OF THE LAW'S BODY. Your part is whole_start (and what it stands on); all else here is the same for every law, but numbers. -/
def R_law : String := "DotBookLaw"
def lw_P (b : Addr) (xs : List Int32) (args : Array Value) (s : State) : Prop := args = #[.ref b] ∧ s.IntsAt b xs ∧ xs.length ≤ 194 ∧ (Jvm.Cond.and given_1 narrow_1).before args s = true
def lw_Q (_ : Array Value) (s : State) (o : Outcome) (t : State) : Prop := o = .returned (some (.int 1)) ∧ Framed s o t [] 600288 7295648
def lw_Z (below : List Frame) (a : Array Value) (s : State) : State → Prop := fun t => ∃ o, t.status = .running ∧ Ended t below o ∧ lw_Q a s o t
/-- the law's own end, with 1 on the stack, nothing written that was there before, its room as the claim has it -/
theorem lw_ret {p : Program} {l : Launch} {e : Env} {s : State} {m : MethodId} {below : List Frame} {meth : Method} {c : Code} {b : Nat} (hx : p.tables.exec = Jvm.exec) (hb : c.code = code) (hr : meth.sig.returnType = ret) (hlocks : meth.locks = false) {pc : Nat} {H : Heap} {ls : Array Slot} (hdg : decode code pc = .ok (.ireturn, 1)) : W p l e room_1 s m #[Value.ref b] below meth c H [] 600288 7295648 (lw_Z below #[Value.ref b] s) (F0 m pc ls [.int 1]) := by
  intro T hT X
  obtain ⟨fs, hret, hrun, hended, hW, hframe⟩ := X.leave (v := some (.int 1)) (hlocks := hlocks) (fun h => by rw [hr] at h; cases h)
  have hmeth' : T.vm.method? m = some meth := X.method'
  refine ⟨T.setFrames fs, ?_, .returned (some (.int 1)), hrun, hended, rfl, ⟨_, rfl⟩, hW, hframe⟩
  jvm_step X.here [X.here.top, hx, hb, hdg, hmeth', hr, ret, narrow_b1]
  (try refine ⟨rfl, ?_⟩); (try refine ⟨rfl, ?_⟩)
  first | (intro acts; rw [hret _ acts rfl rfl rfl]) | rw [hret _ _ rfl rfl rfl]
  exact Steps.refl _
/-- what holds at the law's entry: the machine, the code, the tables' words (any of lw_tbl by 'hts w (by decide +kernel)'), the script of L ints xs at the cell b, what the Statement gives of the start (any of its parts by flat_of_before) -/
def lw_At (p : Program) (s : State) (m : MethodId) (meth : Method) (c : Code) (b L : Nat) (xs : Nat → Int32) : Prop :=
  p.tables.exec = Jvm.exec ∧ c.code = code ∧ meth.sig.returnType = ret ∧ c.maxLocals = 7 ∧ s.vm.findClass R_law = some m.cls ∧ (∀ w ∈ lw_tbl, w.before #[Value.ref b] s = true) ∧ va_X b L xs s s.heap ∧ b < s.heap.size ∧ meth.locks = false ∧ (Jvm.Cond.and given_1 narrow_1).before #[Value.ref b] s = true
end
section
/-! THE SMALL MACHINE (pure). Values: Value.int, Value.long, Value.ref n (0: null; below 20: constants; from 20 on: made), Value.retAddr 0: a local that isn't set. -/
abbrev mj_H : Type := (Nat → Nat → Int32) × (Nat → Nat → Nat) × (Nat → Nat → Int64) × (Nat → Nat) × (Nat → Nat) × Nat × Nat
/-- ints, references, longs by address and place; tag and length by address; the next address; units used -/
def mj_I (h : mj_H) : Nat → Nat → Int32 := h.1
def mj_R (h : mj_H) : Nat → Nat → Nat := h.2.1
def mj_L (h : mj_H) : Nat → Nat → Int64 := h.2.2.1
def mj_T (h : mj_H) : Nat → Nat := h.2.2.2.1
def mj_N (h : mj_H) : Nat → Nat := h.2.2.2.2.1
def mj_Z (h : mj_H) : Nat := h.2.2.2.2.2.1
def mj_U (h : mj_H) : Nat := h.2.2.2.2.2.2
def mj_C : Nat := 20
def mj_M : Nat := 600000
def mj_wI (h : mj_H) (a k : Nat) (v : Int32) : mj_H := (fun x i => if x = a ∧ i = k then v else h.1 x i, h.2)
def mj_wR (h : mj_H) (a k : Nat) (v : Nat) : mj_H := (h.1, fun x i => if x = a ∧ i = k then v else h.2.1 x i, h.2.2)
def mj_wL (h : mj_H) (a k : Nat) (v : Int64) : mj_H := (h.1, h.2.1, fun x i => if x = a ∧ i = k then v else h.2.2.1 x i, h.2.2.2)
/-- a new cell: tag, length, slots -/
def mj_nw (h : mj_H) (t n u : Nat) : mj_H := (fun x i => if x = mj_Z h then 0 else h.1 x i, fun x i => if x = mj_Z h then 0 else h.2.1 x i, fun x i => if x = mj_Z h then 0 else h.2.2.1 x i,
  fun x => if x = mj_Z h then t else mj_T h x, fun x => if x = mj_Z h then n else mj_N h x, mj_Z h + 1, mj_U h + (1 + u))
def mj_cp (h : mj_H) (s sp d dp n : Nat) : mj_H := (fun x i => if x = d ∧ dp ≤ i ∧ i < dp + n then h.1 s (sp + (i - dp)) else h.1 x i, fun x i => if x = d ∧ dp ≤ i ∧ i < dp + n then h.2.1 s (sp + (i - dp)) else h.2.1 x i, h.2.2)
def mj_cl (h : mj_H) (a : Nat) : mj_H := (fun x i => if x = mj_Z h then h.1 a i else h.1 x i, fun x i => if x = mj_Z h then h.2.1 a i else h.2.1 x i, fun x i => if x = mj_Z h then h.2.2.1 a i else h.2.2.1 x i,
  fun x => if x = mj_Z h then mj_T h a else mj_T h x, fun x => if x = mj_Z h then mj_N h a else mj_N h x, mj_Z h + 1, mj_U h + (1 + mj_N h a))
def mj_k : Int → Int32
  | .ofNat n => nI n
  | .negSucc n => - nI (n + 1)
def mj_nth : List Value → Nat → Value
  | [], _ => .retAddr 0
  | v :: _, 0 => v
  | _ :: l, k + 1 => mj_nth l k
def mj_set : List Value → Nat → Value → Option (List Value)
  | [], _, _ => none
  | _ :: l, 0, v => some (v :: l)
  | x :: l, k + 1, v => match mj_set l k v with
    | some r => some (x :: r)
    | none => none
def mj_c0 (c : ClassFile.Cond) (x : Int32) (t f : Nat) : Nat := match c with
  | .eq => if x = 0 then t else f
  | .ne => if x = 0 then f else t
  | .lt => if x < 0 then t else f
  | .ge => if 0 ≤ x then t else f
  | .gt => if 0 < x then t else f
  | .le => if x ≤ 0 then t else f
def mj_c2 (c : ClassFile.Cond) (x y : Int32) (t f : Nat) : Nat := match c with
  | .eq => if x = y then t else f
  | .ne => if x = y then f else t
  | .lt => if x < y then t else f
  | .ge => if y ≤ x then t else f
  | .gt => if y < x then t else f
  | .le => if x ≤ y then t else f
/-- two references that can be told apart by their numbers -/
def mj_ac (a b : Nat) : Prop := a = b ∨ (20 ≤ a ∧ b ≠ 15 ∧ b ≠ 16) ∨ (20 ≤ b ∧ a ≠ 15 ∧ a ≠ 16) ∨ (8 ≤ a ∧ a ≤ 11 ∧ 8 ≤ b ∧ b ≤ 11)
/-- slots of an object by its tag -/
def mj_sl : Nat → Nat
  | 0 => 16 | 1 => 4 | 2 => 4 | 3 => 3 | 4 => 5 | 5 => 5 | 6 => 5 | 7 => 29 | 8 => 6 | 9 => 6 | 10 => 6 | _ => 0
def mj_at : ArrayType → Nat
  | .int => 16 | .byte => 17 | .char => 18 | .long => 19 | _ => 63
def mj_fitR (v : Nat) : Prop := v ≠ 15
abbrev mj_X : Type := List Prop × Nat × List Value × List Value × mj_H
def mj_all : List Prop → Prop
  | [] => True
  | [a] => a
  | a :: b :: r => a ∧ mj_all (b :: r)
def mj_sw (x lo hi : Int) (d : Int) (offs : Array Int) : Nat := if x < lo ∨ hi < x then d.toNat else ((offs.toList.getD (x - lo).toNat 0)).toNat
def mj_lk (x : Int) (d : Int) : List (Int × Int) → Nat
  | [] => d.toNat
  | (k, t) :: r => if x = k then t.toNat else mj_lk x d r
/-- what the static with the number q holds -/
def mj_sv : Nat → Value
  | 0 => .int (nI 1) | 1 => .ref 1 | 2 => .ref 2 | 3 => .ref 7 | 4 => .ref 8 | 5 => .ref 9 | 6 => .ref 10 | 7 => .ref 11 | 8 => .ref 12 | 9 => .ref 13 | 10 => .ref 14 | 11 => .ref 15 | _ => .retAddr 0
/-- what 'ldc' lays -/
def mj_kon : Nat → Value
  | 0 => .ref 5 | 1 => .ref 3 | 2 => .ref 16 | 3 => .int (nI 2147483647) | 4 => .int (nI 2147483639) | _ => .retAddr 0
def mj_01 (v : Int32) : Prop := v = nI 0 ∨ v = nI 1
def mj_ra (t : Nat) : Prop := t = 20 ∨ t = 21 ∨ t = 22 ∨ t = 23
def mj_el (t v : Nat) : Prop := (t = 21 ∧ v = 5) ∨ (t = 22 ∧ v = 6) ∨ (t = 23 ∧ v = 4)
def mj_aT (t : Nat) : Prop := 16 ≤ t ∧ t ≤ 23
def mj_lo1 (k n : Nat) (lc st : List Value) (h : mj_H) : Option mj_X := match mj_nth lc k with
  | .int x => some ([], n, lc, .int x :: st, h)
  | _ => none
def mj_lo2 (k n : Nat) (lc st : List Value) (h : mj_H) : Option mj_X := match mj_nth lc k with
  | .ref x => some ([], n, lc, .ref x :: st, h)
  | _ => none
def mj_st1 (k n : Nat) (lc st : List Value) (h : mj_H) : Option mj_X := match st with
  | .int x :: r => match mj_set lc k (.int x) with
    | some l => some ([], n, l, r, h)
    | none => none
  | _ => none
def mj_st2 (k n : Nat) (lc st : List Value) (h : mj_H) : Option mj_X := match st with
  | .ref x :: r => match mj_set lc k (.ref x) with
    | some l => some ([], n, l, r, h)
    | none => none
  | _ => none
def mj_ld1 (t n : Nat) (lc st : List Value) (h : mj_H) : Option mj_X := match st with
  | .int i :: .ref a :: r => some ([mj_T h a = t, vp_in i (mj_N h a)], n, lc, .int (mj_I h a i.toNatClampNeg) :: r, h)
  | _ => none
def mj_b (x : Int32) : Int32 := x.toInt8.toInt32
def mj_c (x : Int32) : Int32 := (x.toUInt32 % 65536).toInt32
def mj_n0 (z n : Nat) (lc st : List Value) (h : mj_H) : Option mj_X := if z = 900 then (match st with
    | .int k :: .int dp :: .ref d :: .int sp :: .ref s :: r => bif Nat.ble r.length 8 then some ([20 ≤ s, 20 ≤ d, mj_T h s = mj_T h d, mj_T h d = 17 ∨ mj_T h d = 23, ¬ sp < 0, ¬ dp < 0, ¬ k < 0, sp.toNatClampNeg + k.toNatClampNeg ≤ mj_N h s, dp.toNatClampNeg + k.toNatClampNeg ≤ mj_N h d,
        mj_T h d = 23 → ∀ i, i < k.toNatClampNeg → mj_T h (mj_R h s (sp.toNatClampNeg + i)) = 4 ∧ 20 ≤ mj_R h s (sp.toNatClampNeg + i)], n, lc, r, mj_cp h s sp.toNatClampNeg d dp.toNatClampNeg k.toNatClampNeg) else none
    | _ => none) else none
def mj_n1 (z n k : Nat) (lc st : List Value) (h : mj_H) : Option mj_X := if z = 901 then (match st with
    | .ref a :: r => bif Nat.ble r.length 8 then some ([if k = 7 then a = 7 else (mj_T h a = 17 ∧ 20 ≤ a), mj_U h + (1 + mj_N h a) ≤ mj_M], n, lc, .ref (mj_Z h) :: r, mj_cl h a) else none
    | _ => none) else if z = 902 then (match st with
    | .ref a :: r => bif Nat.ble r.length 8 then some ([mj_T h a = 23, 20 ≤ a], n, lc, .ref 16 :: r, h) else none
    | _ => none) else none
def mj_n2 (z n : Nat) (lc st : List Value) (h : mj_H) : Option mj_X := if z = 903 then (match st with
    | .ref a :: r => bif Nat.ble r.length 8 then some ([20 ≤ a], n, lc, r, h) else none
    | _ => none) else none
/-- an instruction that stays in its method: what must hold; then pc, locals, stack, heap -/
def mj_do (i : Instr) (n j k : Nat) (lc st : List Value) (h : mj_H) : Option mj_X := match i with
  | .aconst_null => some ([], n, lc, .ref 0 :: st, h)
  | .dload k => some ([], n, lc, .int (nI k) :: st, h)
  | .dstore k => some ([], n, lc, .int (- nI k) :: st, h)
  | .ldc q => some ([], n, lc, mj_kon q :: st, h)
  | .iload k => mj_lo1 k n lc st h
  | .iload_n k => mj_lo1 k.val n lc st h
  | .aload k => mj_lo2 k n lc st h
  | .aload_n k => mj_lo2 k.val n lc st h
  | .istore k => mj_st1 k n lc st h
  | .istore_n k => mj_st1 k.val n lc st h
  | .astore k => mj_st2 k n lc st h
  | .astore_n k => mj_st2 k.val n lc st h
  | .iinc k c => match mj_nth lc k with
    | .int x => match mj_set lc k (.int (x + mj_k c)) with
      | some l => some ([], n, l, st, h)
      | none => none
    | _ => none
  | .multianewarray k c => match mj_nth lc k with
    | .int x => match mj_set lc k (.int (x + nI c)) with
      | some l => some ([], n, l, st, h)
      | none => none
    | _ => none
  | .iadd => match st with
    | .int y :: .int x :: r => some ([], n, lc, .int (x + y) :: r, h)
    | _ => none
  | .isub => match st with
    | .int y :: .int x :: r => some ([], n, lc, .int (x - y) :: r, h)
    | _ => none
  | .imul => match st with
    | .int y :: .int x :: r => some ([], n, lc, .int (x * y) :: r, h)
    | _ => none
  | .iand => match st with
    | .int y :: .int x :: r => some ([], n, lc, .int (x &&& y) :: r, h)
    | _ => none
  | .ior => match st with
    | .int y :: .int x :: r => some ([], n, lc, .int (x ||| y) :: r, h)
    | _ => none
  | .ishl => match st with
    | .int y :: .int x :: r => some ([], n, lc, .int (x <<< (y &&& 31)) :: r, h)
    | _ => none
  | .ishr => match st with
    | .int y :: .int x :: r => some ([], n, lc, .int (x >>> (y &&& 31)) :: r, h)
    | _ => none
  | .idiv => match st with
    | .int y :: .int x :: r => some ([¬ y = 0], n, lc, .int (x / y) :: r, h)
    | _ => none
  | .irem => match st with
    | .int y :: .int x :: r => some ([¬ y = 0], n, lc, .int (x - x / y * y) :: r, h)
    | _ => none
  | .ineg => match st with
    | .int x :: r => some ([], n, lc, .int (- x) :: r, h)
    | _ => none
  | .i2b => match st with
    | .int x :: r => some ([], n, lc, .int (mj_b x) :: r, h)
    | _ => none
  | .i2c => match st with
    | .int x :: r => some ([], n, lc, .int (mj_c x) :: r, h)
    | _ => none
  | .i2l => match st with
    | .int x :: r => some ([], n, lc, .long x.toInt64 :: r, h)
    | _ => none
  | .lcmp => match st with
    | .long y :: .long x :: r => some ([], n, lc, .int (lg_cmp x y) :: r, h)
    | _ => none
  | .dup => match st with
    | .int x :: r => some ([], n, lc, .int x :: .int x :: r, h)
    | .ref x :: r => some ([], n, lc, .ref x :: .ref x :: r, h)
    | _ => none
  | .dup_x1 => match st with
    | .int x :: .ref z :: r => some ([], n, lc, .int x :: .ref z :: .int x :: r, h)
    | .ref x :: .ref z :: r => some ([], n, lc, .ref x :: .ref z :: .ref x :: r, h)
    | _ => none
  | .dup2 => match st with
    | .int x :: .ref z :: r => some ([], n, lc, .int x :: .ref z :: .int x :: .ref z :: r, h)
    | _ => none
  | .pop => match st with
    | .int _ :: r => some ([], n, lc, r, h)
    | .ref _ :: r => some ([], n, lc, r, h)
    | _ => none
  | .ifCond c _ => match st with
    | .int x :: r => some ([], mj_c0 c x j n, lc, r, h)
    | _ => none
  | .if_icmp c _ => match st with
    | .int y :: .int x :: r => some ([], mj_c2 c x y j n, lc, r, h)
    | _ => none
  | .if_acmp c _ => match st with
    | .ref y :: .ref x :: r => match c with
      | .eq => some ([mj_ac x y], if x = y then j else n, lc, r, h)
      | .ne => some ([mj_ac x y], if x = y then n else j, lc, r, h)
    | _ => none
  | .ifnull _ => match st with
    | .ref x :: r => some ([mj_fitR x], if x = 0 then j else n, lc, r, h)
    | _ => none
  | .ifnonnull _ => match st with
    | .ref x :: r => some ([mj_fitR x], if x = 0 then n else j, lc, r, h)
    | _ => none
  | .goto _ => some ([], j, lc, st, h)
  | .tableswitch d lo hi offs => match st with
    | .int x :: r => some ([], mj_sw x.toInt lo hi d offs, lc, r, h)
    | _ => none
  | .lookupswitch d ps => match st with
    | .int x :: r => some ([], mj_lk x.toInt d ps.toList, lc, r, h)
    | _ => none
  | .iaload => mj_ld1 16 n lc st h
  | .baload => mj_ld1 17 n lc st h
  | .caload => mj_ld1 18 n lc st h
  | .laload => match st with
    | .int i :: .ref a :: r => some ([mj_T h a = 19, vp_in i (mj_N h a)], n, lc, .long (mj_L h a i.toNatClampNeg) :: r, h)
    | _ => none
  | .aaload => match st with
    | .int i :: .ref a :: r => some ([20 ≤ a, mj_ra (mj_T h a), vp_in i (mj_N h a)], n, lc, .ref (mj_R h a i.toNatClampNeg) :: r, h)
    | _ => none
  | .iastore => match st with
    | .int v :: .int i :: .ref a :: r => some ([20 ≤ a, mj_T h a = 16, vp_in i (mj_N h a)], n, lc, r, mj_wI h a i.toNatClampNeg v)
    | _ => none
  | .bastore => match st with
    | .int v :: .int i :: .ref a :: r => some ([20 ≤ a, mj_T h a = 17, vp_in i (mj_N h a)], n, lc, r, mj_wI h a i.toNatClampNeg (mj_b v))
    | _ => none
  | .castore => match st with
    | .int v :: .int i :: .ref a :: r => some ([20 ≤ a, mj_T h a = 18, vp_in i (mj_N h a)], n, lc, r, mj_wI h a i.toNatClampNeg (mj_c v))
    | _ => none
  | .lastore => match st with
    | .long v :: .int i :: .ref a :: r => some ([20 ≤ a, mj_T h a = 19, vp_in i (mj_N h a)], n, lc, r, mj_wL h a i.toNatClampNeg v)
    | _ => none
  | .aastore => match st with
    | .ref v :: .int i :: .ref a :: r => some ([20 ≤ a, 20 ≤ v, mj_el (mj_T h a) (mj_T h v), vp_in i (mj_N h a)], n, lc, r, mj_wR h a i.toNatClampNeg v)
    | _ => none
  | .arraylength => match st with
    | .ref a :: r => some ([mj_aT (mj_T h a)], n, lc, .int (nI (mj_N h a)) :: r, h)
    | _ => none
  | .newarray t => match st with
    | .int k :: r => some ([¬ k < 0, mj_U h + (1 + k.toNatClampNeg) ≤ mj_M], n, lc, .ref (mj_Z h) :: r, mj_nw h (mj_at t) k.toNatClampNeg k.toNatClampNeg)
    | _ => none
  | .anewarray t => match st with
    | .int k :: r => some ([¬ k < 0, mj_U h + (1 + k.toNatClampNeg) ≤ mj_M], n, lc, .ref (mj_Z h) :: r, mj_nw h t k.toNatClampNeg k.toNatClampNeg)
    | _ => none
  | .new t => some ([mj_U h + (1 + mj_sl t) ≤ mj_M], n, lc, .ref (mj_Z h) :: st, mj_nw h t 0 (mj_sl t))
  | .getfield t => match st with
    | .ref a :: r => some ([mj_T h a = t], n, lc, .int (mj_I h a k) :: r, h)
    | _ => none
  | .fload t => match st with
    | .ref a :: r => some ([mj_T h a = t], n, lc, .ref (mj_R h a k) :: r, h)
    | _ => none
  | .putfield t => match st with
    | .int v :: .ref a :: r => some ([20 ≤ a, mj_T h a = t], n, lc, r, mj_wI h a k v)
    | _ => none
  | .lstore t => match st with
    | .int v :: .ref a :: r => some ([20 ≤ a, mj_T h a = t, mj_01 v], n, lc, r, mj_wI h a k v)
    | _ => none
  | .fstore t => match st with
    | .ref v :: .ref a :: r => some ([20 ≤ a, mj_T h a = t], n, lc, r, mj_wR h a k v)
    | _ => none
  | .getstatic q => some ([], n, lc, mj_sv q :: st, h)
  | .checkcast t => match st with
    | .ref a :: r => some ([mj_T h a = t, 20 ≤ a], n, lc, .ref a :: r, h)
    | _ => none
  | .invokestatic z => mj_n0 z n lc st h
  | .invokevirtual z => mj_n1 z n k lc st h
  | .invokespecial z => mj_n2 z n lc st h
  | _ => none
end
section
/-! THE PROGRAM of the small machine, printed by gdata.py: method numbers: 0=Law.cell([II)I 1=Kind.values()[LDotBook$Kind; 2=ASB.<init>(I)V 3=SB.<init>()V 4=AbstractCollection.<init>()V 5=AbstractList.<init>()V 6=AL.<init>()V 7=Line.<init>()V 8=Math.min(II)I 9=Math.max(II)I 10=Book.<init>(II)V 11=Model.<init>(II)V 12=ASB.length()I 13=SB.length()I 14=ArraysSupport.newLength(III)I 15=ASB.newCapacity(I)I 16=Arrays.copyOf([BI)[B 17=ASB.ensureCapacityInternal(I)V 18=ASB.isLatin1()Z 19=Lat.canEncode(C)Z 20=ASB.append(C)Ljava/lang/AbstractStringBuilder; 21=SB.append(C)Ljava/lang/StringBuilder; 22=Book.type(C)I 23=Law.type(LDotBook;C[J)I 24=Model.type(C)I 25=Model.thrown()I 26=ASB.setLength(I)V 27=SB.setLength(I)V 28=Book.wipe()V 29=Model.wipe()V 30=Preconditions.checkIndex(IILjava/util/function/BiFunction;)I 31=Str.checkIndex(II)V 32=ASB.charAt(I)C 33=SB.charAt(I)C 34=Book.need(Z)V 35=Rule.<init>()V 36=Str.isLatin1()Z 37=Str.coder()B 38=Str.length()I 39=Lat.canEncode(I)Z 40=Lat.indexOfChar([BIII)I 41=Lat.indexOf([BIII)I 42=Str.indexOf(II)I 43=Str.indexOf(I)I 44=Book.small(C)Z 45=Book.takeCell(LDotBook$Rule;II)I 46=Rule.same(LDotBook$Rule;)Z 47=Book.take(II)V 48=Book.taken(II)Z 49=Book.rules(Z)I 50=Law.rules(LDotBook;Z[J)I 51=Model.kindOf(C)I 52=Model.isSmall(C)Z 53=Model.readCells(II)Z 54=Model.isThere()Z 55=Model.takeRule(II)Z 56=Model.rules(Z)I 57=Book.wrong()I 58=Model.wrong()I 59=ASB.getValue()[B 60=Integer.stringSize(I)I 61=Integer.getChars(II[B)I 62=ASB.append(I)Ljava/lang/AbstractStringBuilder; 63=SB.append(I)Ljava/lang/StringBuilder; 64=Arrays.checkLength(II)V 65=Arrays.copyOfRangeByte([BII)[B 66=Arrays.copyOfRange([BII)[B 67=Str.<init>(Ljava/lang/AbstractStringBuilder;Ljava/lang/Void;)V 68=Str.<init>(Ljava/lang/StringBuilder;)V 69=SB.toString()Ljava/lang/String; 70=Lat.charAt([BI)C 71=Str.charAt(I)C 72=Book.capital(C)Z 73=Book.letter(C)Z 74=Book.digit(C)Z 75=Book.known(Ljava/lang/String;)Z 76=Block.<init>(LDotBook$Kind;)V 77=Preconditions.checkFromToIndex(IIILjava/util/function/BiFunction;)I 78=Str.checkBoundsBeginEnd(III)V 79=Str.<init>([BB)V 80=Lat.newString([BII)Ljava/lang/String; 81=Str.substring(II)Ljava/lang/String; 82=Block.longer([B)[B 83=Block.put(II)V 84=Line.put(II)V 85=Rule.applies(III)Z 86=Book.lower(C)C 87=Book.ruleAt(Ljava/lang/String;IZ)LDotBook$Rule; 88=Book.cellOf(C)I 89=Book.word(Ljava/lang/String;ILDotBook$Sink;)V 90=Book.number(Ljava/lang/String;ILDotBook$Sink;)V 91=Book.translate(Ljava/lang/String;LDotBook$Sink;)V 92=Book.block(I)I 93=Law.block(LDotBook;I[J)I 94=Model.isCapital(C)Z 95=Model.isLetter(C)Z 96=Model.isDigit(C)Z 97=Model.markOf(C)I 98=Model.add(II)V 99=Model.applies(IIIII)Z 100=Model.small(C)C 101=Model.stands(IIIIZ)Z 102=Model.cellOf(C)I 103=Model.translateWord(II)V 104=Model.digitCell(I)I 105=Model.translate()V 106=Model.block(I)I 107=Book.blockAt(I)LDotBook$Block; 108=Book.size(I)I 109=Law.size(LDotBook;I[J)I 110=Model.noBlock(I)Z 111=Model.size(I)I 112=Book.cell(II)I 113=Law.cell(LDotBook;II[J)I 114=Model.cell(II)I 115=Block.pieceFrom(I)I 116=Block.pieceEnd(I)I 117=Book.characterOf(I)C 118=Book.digitOf(I)C 119=Book.ruleBack(LDotBook$Block;III)LDotBook$Rule; 120=Book.hear(CZ)V 121=Book.piece(LDotBook$Block;II)V 122=Book.back(I)I 123=Law.back(LDotBook;I[J)I 124=Model.hear(C)V 125=Model.digitOf(I)I 126=Model.cellsStand(IIII)Z 127=Model.characterOf(I)C 128=Model.readOne(III)I 129=Model.readPiece(II)V 130=Model.back(I)I 131=Book.heard(I)C 132=Model.heard(I)C 133=Book.turn(Z)V 134=Kind.indent(Z)I 135=AL.size()I 136=Arrays.copyOf([Ljava/lang/Object;ILjava/lang/Class;)[Ljava/lang/Object; 137=Arrays.copyOf([Ljava/lang/Object;I)[Ljava/lang/Object; 138=AL.grow(I)[Ljava/lang/Object; 139=AL.grow()[Ljava/lang/Object; 140=AL.add(Ljava/lang/Object;[Ljava/lang/Object;I)V 141=AL.add(Ljava/lang/Object;)Z 142=Objects.checkIndex(II)I 143=AL.elementData(I)Ljava/lang/Object; 144=AL.get(I)Ljava/lang/Object; 145=Book.lineAt(I)LDotBook$Line; 146=Book.fill(LDotBook$Block;I)I 147=Book.place(LDotBook$Block;I)V 148=Book.layOut()V 149=Book.pages()I 150=Model.indentOf(II)I 151=Model.putLine(II)V 152=Model.closeLine(IIZ)V 153=Model.lay(IZ)I 154=Model.layOut(II)V 155=Model.pages()I 156=Line.at(I)I 157=Book.at(III)I 158=Law.at(LDotBook;III[J)I 159=Model.number(I)V 160=Model.at(III)I 161=Book.where(I)I 162=Law.where(LDotBook;I[J)I 163=Model.where(I)I 164=Book.heading(I)I 165=Model.heading(I)I 166=Book.clear()V 167=Model.clear()V 168=Law.law([I)Z -/
def mc_0 (pc : Nat) : Option (Instr × Nat × Nat × Nat) := bif Nat.ble 7 pc then (bif Nat.ble 9 pc then (bif Nat.ble 12 pc then (bif Nat.ble 13 pc then (bif Nat.beq pc 13 then some (.ireturn, 14, 0, 0) else none) else (bif Nat.beq pc 12 then some (.dload 0, 13, 0, 0) else none)) else (bif Nat.beq pc 9 then some (.goto 0, 12, 13, 0) else none)) else (bif Nat.ble 8 pc then (bif Nat.beq pc 8 then some (.iaload, 9, 0, 0) else none) else (bif Nat.beq pc 7 then some (.iload_n 1, 8, 0, 0) else none))) else (bif Nat.ble 2 pc then (bif Nat.ble 3 pc then (bif Nat.ble 6 pc then (bif Nat.beq pc 6 then some (.aload_n 0, 7, 0, 0) else none) else (bif Nat.beq pc 3 then some (.if_icmp .ge 0, 6, 12, 0) else none)) else (bif Nat.beq pc 2 then some (.arraylength, 3, 0, 0) else none)) else (bif Nat.ble 1 pc then (bif Nat.beq pc 1 then some (.aload_n 0, 2, 0, 0) else none) else (bif Nat.beq pc 0 then some (.iload_n 1, 1, 0, 0) else none)))
def mc_1 (pc : Nat) : Option (Instr × Nat × Nat × Nat) := bif Nat.ble 6 pc then (bif Nat.ble 9 pc then (bif Nat.beq pc 9 then some (.areturn, 10, 0, 0) else none) else (bif Nat.beq pc 6 then some (.checkcast 20, 9, 21, 0) else none)) else (bif Nat.ble 3 pc then (bif Nat.beq pc 3 then some (.invokevirtual 901, 6, 20, 7) else none) else (bif Nat.beq pc 0 then some (.getstatic 3, 3, 16, 0) else none))
def mc_2 (pc : Nat) : Option (Instr × Nat × Nat × Nat) := bif Nat.ble 18 pc then (bif Nat.ble 30 pc then (bif Nat.ble 34 pc then (bif Nat.ble 35 pc then (bif Nat.ble 38 pc then (bif Nat.beq pc 38 then some (.return_, 39, 0, 0) else none) else (bif Nat.beq pc 35 then some (.lstore 1, 38, 22, 1) else none)) else (bif Nat.beq pc 34 then some (.dload 1, 35, 0, 0) else none)) else (bif Nat.ble 33 pc then (bif Nat.beq pc 33 then some (.aload_n 0, 34, 0, 0) else none) else (bif Nat.beq pc 30 then some (.fstore 1, 33, 15, 0) else none))) else (bif Nat.ble 22 pc then (bif Nat.ble 25 pc then (bif Nat.ble 26 pc then (bif Nat.beq pc 26 then some (.iload_n 1, 27, 0, 0) else none) else (bif Nat.beq pc 25 then some (.aload_n 0, 26, 0, 0) else none)) else (bif Nat.beq pc 22 then some (.goto 0, 25, 38, 0) else none)) else (bif Nat.ble 19 pc then (bif Nat.beq pc 19 then some (.lstore 1, 22, 22, 1) else none) else (bif Nat.beq pc 18 then some (.dload 0, 19, 0, 0) else none)))) else (bif Nat.ble 10 pc then (bif Nat.ble 12 pc then (bif Nat.ble 14 pc then (bif Nat.ble 17 pc then (bif Nat.beq pc 17 then some (.aload_n 0, 18, 0, 0) else none) else (bif Nat.beq pc 14 then some (.fstore 1, 17, 15, 0) else none)) else (bif Nat.beq pc 12 then some (.newarray .byte, 14, 0, 0) else none)) else (bif Nat.ble 11 pc then (bif Nat.beq pc 11 then some (.iload_n 1, 12, 0, 0) else none) else (bif Nat.beq pc 10 then some (.aload_n 0, 11, 0, 0) else none))) else (bif Nat.ble 4 pc then (bif Nat.ble 7 pc then (bif Nat.beq pc 7 then some (.ifCond .eq 0, 10, 25, 0) else none) else (bif Nat.beq pc 4 then some (.getstatic 0, 7, 18, 0) else none)) else (bif Nat.ble 1 pc then (bif Nat.beq pc 1 then some (.invokespecial 903, 4, 3, 0) else none) else (bif Nat.beq pc 0 then some (.aload_n 0, 1, 0, 0) else none))))
def mc_3 (pc : Nat) : Option (Instr × Nat × Nat × Nat) := bif Nat.ble 3 pc then (bif Nat.ble 6 pc then (bif Nat.beq pc 6 then some (.return_, 7, 0, 0) else none) else (bif Nat.beq pc 3 then some (.invokespecial 2, 6, 1, 0) else none)) else (bif Nat.ble 1 pc then (bif Nat.beq pc 1 then some (.dload 16, 3, 0, 0) else none) else (bif Nat.beq pc 0 then some (.aload_n 0, 1, 0, 0) else none))
def mc_4 (pc : Nat) : Option (Instr × Nat × Nat × Nat) := bif Nat.ble 1 pc then (bif Nat.ble 4 pc then (bif Nat.beq pc 4 then some (.return_, 5, 0, 0) else none) else (bif Nat.beq pc 1 then some (.invokespecial 903, 4, 1, 0) else none)) else (bif Nat.beq pc 0 then some (.aload_n 0, 1, 0, 0) else none)
def mc_5 (pc : Nat) : Option (Instr × Nat × Nat × Nat) := bif Nat.ble 5 pc then (bif Nat.ble 6 pc then (bif Nat.ble 9 pc then (bif Nat.beq pc 9 then some (.return_, 10, 0, 0) else none) else (bif Nat.beq pc 6 then some (.putfield 3, 9, 7, 2) else none)) else (bif Nat.beq pc 5 then some (.dload 0, 6, 0, 0) else none)) else (bif Nat.ble 1 pc then (bif Nat.ble 4 pc then (bif Nat.beq pc 4 then some (.aload_n 0, 5, 0, 0) else none) else (bif Nat.beq pc 1 then some (.invokespecial 4, 4, 1, 0) else none)) else (bif Nat.beq pc 0 then some (.aload_n 0, 1, 0, 0) else none))
def mc_6 (pc : Nat) : Option (Instr × Nat × Nat × Nat) := bif Nat.ble 5 pc then (bif Nat.ble 8 pc then (bif Nat.ble 11 pc then (bif Nat.beq pc 11 then some (.return_, 12, 0, 0) else none) else (bif Nat.beq pc 8 then some (.fstore 3, 11, 9, 0) else none)) else (bif Nat.beq pc 5 then some (.getstatic 8, 8, 39, 0) else none)) else (bif Nat.ble 1 pc then (bif Nat.ble 4 pc then (bif Nat.beq pc 4 then some (.aload_n 0, 5, 0, 0) else none) else (bif Nat.beq pc 1 then some (.invokespecial 5, 4, 1, 0) else none)) else (bif Nat.beq pc 0 then some (.aload_n 0, 1, 0, 0) else none))
def mc_7 (pc : Nat) : Option (Instr × Nat × Nat × Nat) := bif Nat.ble 5 pc then (bif Nat.ble 9 pc then (bif Nat.ble 12 pc then (bif Nat.beq pc 12 then some (.return_, 13, 0, 0) else none) else (bif Nat.beq pc 9 then some (.fstore 4, 12, 7, 0) else none)) else (bif Nat.ble 7 pc then (bif Nat.beq pc 7 then some (.newarray .byte, 9, 0, 0) else none) else (bif Nat.beq pc 5 then some (.dload 40, 7, 0, 0) else none))) else (bif Nat.ble 1 pc then (bif Nat.ble 4 pc then (bif Nat.beq pc 4 then some (.aload_n 0, 5, 0, 0) else none) else (bif Nat.beq pc 1 then some (.invokespecial 903, 4, 1, 0) else none)) else (bif Nat.beq pc 0 then some (.aload_n 0, 1, 0, 0) else none))
def mc_8 (pc : Nat) : Option (Instr × Nat × Nat × Nat) := bif Nat.ble 5 pc then (bif Nat.ble 9 pc then (bif Nat.ble 10 pc then (bif Nat.beq pc 10 then some (.ireturn, 11, 0, 0) else none) else (bif Nat.beq pc 9 then some (.iload_n 1, 10, 0, 0) else none)) else (bif Nat.ble 6 pc then (bif Nat.beq pc 6 then some (.goto 0, 9, 10, 0) else none) else (bif Nat.beq pc 5 then some (.iload_n 0, 6, 0, 0) else none))) else (bif Nat.ble 1 pc then (bif Nat.ble 2 pc then (bif Nat.beq pc 2 then some (.if_icmp .gt 0, 5, 9, 0) else none) else (bif Nat.beq pc 1 then some (.iload_n 1, 2, 0, 0) else none)) else (bif Nat.beq pc 0 then some (.iload_n 0, 1, 0, 0) else none))
def mc_9 (pc : Nat) : Option (Instr × Nat × Nat × Nat) := bif Nat.ble 5 pc then (bif Nat.ble 9 pc then (bif Nat.ble 10 pc then (bif Nat.beq pc 10 then some (.ireturn, 11, 0, 0) else none) else (bif Nat.beq pc 9 then some (.iload_n 1, 10, 0, 0) else none)) else (bif Nat.ble 6 pc then (bif Nat.beq pc 6 then some (.goto 0, 9, 10, 0) else none) else (bif Nat.beq pc 5 then some (.iload_n 0, 6, 0, 0) else none))) else (bif Nat.ble 1 pc then (bif Nat.ble 2 pc then (bif Nat.beq pc 2 then some (.if_icmp .lt 0, 5, 9, 0) else none) else (bif Nat.beq pc 1 then some (.iload_n 1, 2, 0, 0) else none)) else (bif Nat.beq pc 0 then some (.iload_n 0, 1, 0, 0) else none))
def mc_10 (pc : Nat) : Option (Instr × Nat × Nat × Nat) := bif Nat.ble 53 pc then (bif Nat.ble 81 pc then (bif Nat.ble 94 pc then (bif Nat.ble 98 pc then (bif Nat.ble 104 pc then (bif Nat.ble 107 pc then (bif Nat.beq pc 107 then some (.return_, 108, 0, 0) else none) else (bif Nat.beq pc 104 then some (.putfield 0, 107, 107, 1) else none)) else (bif Nat.ble 101 pc then (bif Nat.beq pc 101 then some (.invokestatic 9, 104, 101, 0) else none) else (bif Nat.beq pc 98 then some (.invokestatic 8, 101, 95, 0) else none))) else (bif Nat.ble 95 pc then (bif Nat.ble 97 pc then (bif Nat.beq pc 97 then some (.iload_n 2, 98, 0, 0) else none) else (bif Nat.beq pc 95 then some (.dload 20, 97, 0, 0) else none)) else (bif Nat.beq pc 94 then some (.dload 4, 95, 0, 0) else none))) else (bif Nat.ble 87 pc then (bif Nat.ble 90 pc then (bif Nat.ble 93 pc then (bif Nat.beq pc 93 then some (.aload_n 0, 94, 0, 0) else none) else (bif Nat.beq pc 90 then some (.putfield 0, 93, 104, 0) else none)) else (bif Nat.beq pc 87 then some (.invokestatic 9, 90, 101, 0) else none)) else (bif Nat.ble 83 pc then (bif Nat.ble 84 pc then (bif Nat.beq pc 84 then some (.invokestatic 8, 87, 95, 0) else none) else (bif Nat.beq pc 83 then some (.iload_n 1, 84, 0, 0) else none)) else (bif Nat.beq pc 81 then some (.dload 40, 83, 0, 0) else none)))) else (bif Nat.ble 67 pc then (bif Nat.ble 72 pc then (bif Nat.ble 78 pc then (bif Nat.ble 79 pc then (bif Nat.beq pc 79 then some (.dload 10, 81, 0, 0) else none) else (bif Nat.beq pc 78 then some (.aload_n 0, 79, 0, 0) else none)) else (bif Nat.ble 75 pc then (bif Nat.beq pc 75 then some (.fstore 0, 78, 91, 15) else none) else (bif Nat.beq pc 72 then some (.invokespecial 7, 75, 90, 0) else none))) else (bif Nat.ble 68 pc then (bif Nat.ble 71 pc then (bif Nat.beq pc 71 then some (.dup, 72, 0, 0) else none) else (bif Nat.beq pc 68 then some (.new 4, 71, 88, 0) else none)) else (bif Nat.beq pc 67 then some (.aload_n 0, 68, 0, 0) else none))) else (bif Nat.ble 60 pc then (bif Nat.ble 61 pc then (bif Nat.ble 64 pc then (bif Nat.beq pc 64 then some (.fstore 0, 67, 84, 11) else none) else (bif Nat.beq pc 61 then some (.invokespecial 6, 64, 83, 0) else none)) else (bif Nat.beq pc 60 then some (.dup, 61, 0, 0) else none)) else (bif Nat.ble 56 pc then (bif Nat.ble 57 pc then (bif Nat.beq pc 57 then some (.new 3, 60, 81, 0) else none) else (bif Nat.beq pc 56 then some (.aload_n 0, 57, 0, 0) else none)) else (bif Nat.beq pc 53 then some (.fstore 0, 56, 78, 9) else none))))) else (bif Nat.ble 25 pc then (bif Nat.ble 37 pc then (bif Nat.ble 45 pc then (bif Nat.ble 49 pc then (bif Nat.ble 50 pc then (bif Nat.beq pc 50 then some (.invokespecial 3, 53, 57, 0) else none) else (bif Nat.beq pc 49 then some (.dup, 50, 0, 0) else none)) else (bif Nat.ble 46 pc then (bif Nat.beq pc 46 then some (.new 1, 49, 55, 0) else none) else (bif Nat.beq pc 45 then some (.aload_n 0, 46, 0, 0) else none))) else (bif Nat.ble 39 pc then (bif Nat.ble 42 pc then (bif Nat.beq pc 42 then some (.fstore 0, 45, 74, 7) else none) else (bif Nat.beq pc 39 then some (.anewarray 22, 42, 72, 0) else none)) else (bif Nat.beq pc 37 then some (.dload 12, 39, 0, 0) else none))) else (bif Nat.ble 32 pc then (bif Nat.ble 33 pc then (bif Nat.ble 36 pc then (bif Nat.beq pc 36 then some (.aload_n 0, 37, 0, 0) else none) else (bif Nat.beq pc 33 then some (.putfield 0, 36, 68, 6) else none)) else (bif Nat.beq pc 32 then some (.dstore 1, 33, 0, 0) else none)) else (bif Nat.ble 28 pc then (bif Nat.ble 31 pc then (bif Nat.beq pc 31 then some (.aload_n 0, 32, 0, 0) else none) else (bif Nat.beq pc 28 then some (.fstore 0, 31, 64, 4) else none)) else (bif Nat.beq pc 25 then some (.anewarray 21, 28, 62, 0) else none)))) else (bif Nat.ble 12 pc then (bif Nat.ble 19 pc then (bif Nat.ble 22 pc then (bif Nat.ble 23 pc then (bif Nat.beq pc 23 then some (.dload 24, 25, 0, 0) else none) else (bif Nat.beq pc 22 then some (.aload_n 0, 23, 0, 0) else none)) else (bif Nat.beq pc 19 then some (.fstore 0, 22, 58, 3) else none)) else (bif Nat.ble 15 pc then (bif Nat.ble 16 pc then (bif Nat.beq pc 16 then some (.invokespecial 3, 19, 57, 0) else none) else (bif Nat.beq pc 15 then some (.dup, 16, 0, 0) else none)) else (bif Nat.beq pc 12 then some (.new 1, 15, 55, 0) else none))) else (bif Nat.ble 5 pc then (bif Nat.ble 8 pc then (bif Nat.ble 11 pc then (bif Nat.beq pc 11 then some (.aload_n 0, 12, 0, 0) else none) else (bif Nat.beq pc 8 then some (.fstore 0, 11, 51, 2) else none)) else (bif Nat.beq pc 5 then some (.invokestatic 1, 8, 45, 0) else none)) else (bif Nat.ble 1 pc then (bif Nat.ble 4 pc then (bif Nat.beq pc 4 then some (.aload_n 0, 5, 0, 0) else none) else (bif Nat.beq pc 1 then some (.invokespecial 903, 4, 39, 0) else none)) else (bif Nat.beq pc 0 then some (.aload_n 0, 1, 0, 0) else none)))))
def mc_11 (pc : Nat) : Option (Instr × Nat × Nat × Nat) := bif Nat.ble 89 pc then (bif Nat.ble 134 pc then (bif Nat.ble 155 pc then (bif Nat.ble 165 pc then (bif Nat.ble 173 pc then (bif Nat.ble 174 pc then (bif Nat.ble 177 pc then (bif Nat.beq pc 177 then some (.return_, 178, 0, 0) else none) else (bif Nat.beq pc 174 then some (.putfield 7, 177, 60, 2) else none)) else (bif Nat.beq pc 173 then some (.iload_n 2, 174, 0, 0) else none)) else (bif Nat.ble 168 pc then (bif Nat.ble 170 pc then (bif Nat.beq pc 170 then some (.goto 0, 173, 174, 0) else none) else (bif Nat.beq pc 168 then some (.dload 20, 170, 0, 0) else none)) else (bif Nat.beq pc 165 then some (.if_icmp .le 0, 168, 173, 0) else none))) else (bif Nat.ble 159 pc then (bif Nat.ble 162 pc then (bif Nat.ble 163 pc then (bif Nat.beq pc 163 then some (.dload 20, 165, 0, 0) else none) else (bif Nat.beq pc 162 then some (.iload_n 2, 163, 0, 0) else none)) else (bif Nat.beq pc 159 then some (.goto 0, 162, 174, 0) else none)) else (bif Nat.ble 158 pc then (bif Nat.beq pc 158 then some (.dload 4, 159, 0, 0) else none) else (bif Nat.beq pc 155 then some (.if_icmp .ge 0, 158, 162, 0) else none)))) else (bif Nat.ble 145 pc then (bif Nat.ble 152 pc then (bif Nat.ble 153 pc then (bif Nat.ble 154 pc then (bif Nat.beq pc 154 then some (.dload 4, 155, 0, 0) else none) else (bif Nat.beq pc 153 then some (.iload_n 2, 154, 0, 0) else none)) else (bif Nat.beq pc 152 then some (.aload_n 0, 153, 0, 0) else none)) else (bif Nat.ble 148 pc then (bif Nat.ble 149 pc then (bif Nat.beq pc 149 then some (.putfield 7, 152, 57, 1) else none) else (bif Nat.beq pc 148 then some (.iload_n 1, 149, 0, 0) else none)) else (bif Nat.beq pc 145 then some (.goto 0, 148, 149, 0) else none))) else (bif Nat.ble 138 pc then (bif Nat.ble 140 pc then (bif Nat.ble 143 pc then (bif Nat.beq pc 143 then some (.dload 40, 145, 0, 0) else none) else (bif Nat.beq pc 140 then some (.if_icmp .le 0, 143, 148, 0) else none)) else (bif Nat.beq pc 138 then some (.dload 40, 140, 0, 0) else none)) else (bif Nat.ble 137 pc then (bif Nat.beq pc 137 then some (.iload_n 1, 138, 0, 0) else none) else (bif Nat.beq pc 134 then some (.goto 0, 137, 149, 0) else none))))) else (bif Nat.ble 112 pc then (bif Nat.ble 122 pc then (bif Nat.ble 127 pc then (bif Nat.ble 129 pc then (bif Nat.ble 132 pc then (bif Nat.beq pc 132 then some (.dload 10, 134, 0, 0) else none) else (bif Nat.beq pc 129 then some (.if_icmp .ge 0, 132, 137, 0) else none)) else (bif Nat.beq pc 127 then some (.dload 10, 129, 0, 0) else none)) else (bif Nat.ble 125 pc then (bif Nat.ble 126 pc then (bif Nat.beq pc 126 then some (.iload_n 1, 127, 0, 0) else none) else (bif Nat.beq pc 125 then some (.aload_n 0, 126, 0, 0) else none)) else (bif Nat.beq pc 122 then some (.fstore 7, 125, 54, 27) else none))) else (bif Nat.ble 117 pc then (bif Nat.ble 118 pc then (bif Nat.ble 120 pc then (bif Nat.beq pc 120 then some (.newarray .int, 122, 0, 0) else none) else (bif Nat.beq pc 118 then some (.dload 12, 120, 0, 0) else none)) else (bif Nat.beq pc 117 then some (.aload_n 0, 118, 0, 0) else none)) else (bif Nat.ble 114 pc then (bif Nat.beq pc 114 then some (.fstore 7, 117, 51, 26) else none) else (bif Nat.beq pc 112 then some (.newarray .int, 114, 0, 0) else none)))) else (bif Nat.ble 101 pc then (bif Nat.ble 106 pc then (bif Nat.ble 109 pc then (bif Nat.ble 110 pc then (bif Nat.beq pc 110 then some (.dload 40, 112, 0, 0) else none) else (bif Nat.beq pc 109 then some (.aload_n 0, 110, 0, 0) else none)) else (bif Nat.beq pc 106 then some (.fstore 7, 109, 48, 20) else none)) else (bif Nat.ble 102 pc then (bif Nat.ble 104 pc then (bif Nat.beq pc 104 then some (.newarray .int, 106, 0, 0) else none) else (bif Nat.beq pc 102 then some (.dload 40, 104, 0, 0) else none)) else (bif Nat.beq pc 101 then some (.aload_n 0, 102, 0, 0) else none))) else (bif Nat.ble 93 pc then (bif Nat.ble 96 pc then (bif Nat.ble 98 pc then (bif Nat.beq pc 98 then some (.fstore 7, 101, 45, 18) else none) else (bif Nat.beq pc 96 then some (.newarray .char, 98, 0, 0) else none)) else (bif Nat.beq pc 93 then some (.dload 1500, 96, 0, 0) else none)) else (bif Nat.ble 92 pc then (bif Nat.beq pc 92 then some (.aload_n 0, 93, 0, 0) else none) else (bif Nat.beq pc 89 then some (.fstore 7, 92, 42, 16) else none)))))) else (bif Nat.ble 45 pc then (bif Nat.ble 66 pc then (bif Nat.ble 75 pc then (bif Nat.ble 83 pc then (bif Nat.ble 84 pc then (bif Nat.ble 87 pc then (bif Nat.beq pc 87 then some (.newarray .int, 89, 0, 0) else none) else (bif Nat.beq pc 84 then some (.dload 2880, 87, 0, 0) else none)) else (bif Nat.beq pc 83 then some (.aload_n 0, 84, 0, 0) else none)) else (bif Nat.ble 78 pc then (bif Nat.ble 80 pc then (bif Nat.beq pc 80 then some (.fstore 7, 83, 39, 15) else none) else (bif Nat.beq pc 78 then some (.newarray .int, 80, 0, 0) else none)) else (bif Nat.beq pc 75 then some (.dload 2880, 78, 0, 0) else none))) else (bif Nat.ble 69 pc then (bif Nat.ble 71 pc then (bif Nat.ble 74 pc then (bif Nat.beq pc 74 then some (.aload_n 0, 75, 0, 0) else none) else (bif Nat.beq pc 71 then some (.fstore 7, 74, 36, 14) else none)) else (bif Nat.beq pc 69 then some (.newarray .int, 71, 0, 0) else none)) else (bif Nat.ble 67 pc then (bif Nat.beq pc 67 then some (.dload 12, 69, 0, 0) else none) else (bif Nat.beq pc 66 then some (.aload_n 0, 67, 0, 0) else none)))) else (bif Nat.ble 54 pc then (bif Nat.ble 59 pc then (bif Nat.ble 61 pc then (bif Nat.ble 63 pc then (bif Nat.beq pc 63 then some (.fstore 7, 66, 33, 13) else none) else (bif Nat.beq pc 61 then some (.newarray .int, 63, 0, 0) else none)) else (bif Nat.beq pc 59 then some (.dload 12, 61, 0, 0) else none)) else (bif Nat.ble 55 pc then (bif Nat.ble 58 pc then (bif Nat.beq pc 58 then some (.aload_n 0, 59, 0, 0) else none) else (bif Nat.beq pc 55 then some (.putfield 7, 58, 29, 11) else none)) else (bif Nat.beq pc 54 then some (.dstore 1, 55, 0, 0) else none))) else (bif Nat.ble 48 pc then (bif Nat.ble 50 pc then (bif Nat.ble 53 pc then (bif Nat.beq pc 53 then some (.aload_n 0, 54, 0, 0) else none) else (bif Nat.beq pc 50 then some (.fstore 7, 53, 26, 10) else none)) else (bif Nat.beq pc 48 then some (.newarray .int, 50, 0, 0) else none)) else (bif Nat.ble 46 pc then (bif Nat.beq pc 46 then some (.dload 72, 48, 0, 0) else none) else (bif Nat.beq pc 45 then some (.aload_n 0, 46, 0, 0) else none))))) else (bif Nat.ble 21 pc then (bif Nat.ble 32 pc then (bif Nat.ble 38 pc then (bif Nat.ble 40 pc then (bif Nat.ble 42 pc then (bif Nat.beq pc 42 then some (.fstore 7, 45, 23, 9) else none) else (bif Nat.beq pc 40 then some (.newarray .int, 42, 0, 0) else none)) else (bif Nat.beq pc 38 then some (.dload 24, 40, 0, 0) else none)) else (bif Nat.ble 34 pc then (bif Nat.ble 37 pc then (bif Nat.beq pc 37 then some (.aload_n 0, 38, 0, 0) else none) else (bif Nat.beq pc 34 then some (.fstore 7, 37, 20, 8) else none)) else (bif Nat.beq pc 32 then some (.newarray .char, 34, 0, 0) else none))) else (bif Nat.ble 25 pc then (bif Nat.ble 28 pc then (bif Nat.ble 29 pc then (bif Nat.beq pc 29 then some (.dload 144, 32, 0, 0) else none) else (bif Nat.beq pc 28 then some (.aload_n 0, 29, 0, 0) else none)) else (bif Nat.beq pc 25 then some (.fstore 7, 28, 17, 7) else none)) else (bif Nat.ble 23 pc then (bif Nat.beq pc 23 then some (.newarray .int, 25, 0, 0) else none) else (bif Nat.beq pc 21 then some (.dload 24, 23, 0, 0) else none)))) else (bif Nat.ble 9 pc then (bif Nat.ble 15 pc then (bif Nat.ble 17 pc then (bif Nat.ble 20 pc then (bif Nat.beq pc 20 then some (.aload_n 0, 21, 0, 0) else none) else (bif Nat.beq pc 17 then some (.fstore 7, 20, 13, 6) else none)) else (bif Nat.beq pc 15 then some (.newarray .int, 17, 0, 0) else none)) else (bif Nat.ble 12 pc then (bif Nat.ble 13 pc then (bif Nat.beq pc 13 then some (.dload 24, 15, 0, 0) else none) else (bif Nat.beq pc 12 then some (.aload_n 0, 13, 0, 0) else none)) else (bif Nat.beq pc 9 then some (.fstore 7, 12, 7, 4) else none))) else (bif Nat.ble 4 pc then (bif Nat.ble 5 pc then (bif Nat.ble 7 pc then (bif Nat.beq pc 7 then some (.newarray .char, 9, 0, 0) else none) else (bif Nat.beq pc 5 then some (.dload 80, 7, 0, 0) else none)) else (bif Nat.beq pc 4 then some (.aload_n 0, 5, 0, 0) else none)) else (bif Nat.ble 1 pc then (bif Nat.beq pc 1 then some (.invokespecial 903, 4, 1, 0) else none) else (bif Nat.beq pc 0 then some (.aload_n 0, 1, 0, 0) else none))))))
def mc_12 (pc : Nat) : Option (Instr × Nat × Nat × Nat) := bif Nat.ble 1 pc then (bif Nat.ble 4 pc then (bif Nat.beq pc 4 then some (.ireturn, 5, 0, 0) else none) else (bif Nat.beq pc 1 then some (.getfield 1, 4, 79, 3) else none)) else (bif Nat.beq pc 0 then some (.aload_n 0, 1, 0, 0) else none)
def mc_13 (pc : Nat) : Option (Instr × Nat × Nat × Nat) := bif Nat.ble 1 pc then (bif Nat.ble 4 pc then (bif Nat.beq pc 4 then some (.ireturn, 5, 0, 0) else none) else (bif Nat.beq pc 1 then some (.invokespecial 12, 4, 343, 0) else none)) else (bif Nat.beq pc 0 then some (.aload_n 0, 1, 0, 0) else none)
def mc_14 (pc : Nat) : Option (Instr × Nat × Nat × Nat) := bif Nat.ble 10 pc then (bif Nat.ble 19 pc then (bif Nat.ble 21 pc then (bif Nat.ble 22 pc then (bif Nat.ble 26 pc then (bif Nat.beq pc 26 then some (.ireturn, 27, 0, 0) else none) else (bif Nat.beq pc 22 then some (.iload_n 1, 23, 0, 0) else none)) else (bif Nat.beq pc 21 then some (.iload_n 0, 22, 0, 0) else none)) else (bif Nat.ble 20 pc then (bif Nat.beq pc 20 then some (.ireturn, 21, 0, 0) else none) else (bif Nat.beq pc 19 then some (.iload_n 3, 20, 0, 0) else none))) else (bif Nat.ble 14 pc then (bif Nat.ble 16 pc then (bif Nat.beq pc 16 then some (.if_icmp .gt 0, 19, 21, 0) else none) else (bif Nat.beq pc 14 then some (.ldc 4, 16, 200, 0) else none)) else (bif Nat.ble 13 pc then (bif Nat.beq pc 13 then some (.iload_n 3, 14, 0, 0) else none) else (bif Nat.beq pc 10 then some (.if_icmp .ge 0, 13, 21, 0) else none)))) else (bif Nat.ble 6 pc then (bif Nat.ble 8 pc then (bif Nat.ble 9 pc then (bif Nat.beq pc 9 then some (.iload_n 3, 10, 0, 0) else none) else (bif Nat.beq pc 8 then some (.dload 0, 9, 0, 0) else none)) else (bif Nat.ble 7 pc then (bif Nat.beq pc 7 then some (.istore_n 3, 8, 0, 0) else none) else (bif Nat.beq pc 6 then some (.iadd, 7, 0, 0) else none))) else (bif Nat.ble 2 pc then (bif Nat.ble 3 pc then (bif Nat.beq pc 3 then some (.invokestatic 9, 6, 194, 0) else none) else (bif Nat.beq pc 2 then some (.iload_n 2, 3, 0, 0) else none)) else (bif Nat.ble 1 pc then (bif Nat.beq pc 1 then some (.iload_n 1, 2, 0, 0) else none) else (bif Nat.beq pc 0 then some (.iload_n 0, 1, 0, 0) else none))))
def mc_15 (pc : Nat) : Option (Instr × Nat × Nat × Nat) := bif Nat.ble 22 pc then (bif Nat.ble 36 pc then (bif Nat.ble 53 pc then (bif Nat.ble 57 pc then (bif Nat.ble 58 pc then (bif Nat.beq pc 58 then some (.ireturn, 59, 0, 0) else none) else (bif Nat.beq pc 57 then some (.ishr, 58, 0, 0) else none)) else (bif Nat.ble 54 pc then (bif Nat.beq pc 54 then some (.getfield 1, 57, 22, 1) else none) else (bif Nat.beq pc 53 then some (.aload_n 0, 54, 0, 0) else none))) else (bif Nat.ble 44 pc then (bif Nat.ble 51 pc then (bif Nat.beq pc 51 then some (.iload 5, 53, 0, 0) else none) else (bif Nat.beq pc 44 then some (.dup, 45, 0, 0) else none)) else (bif Nat.ble 38 pc then (bif Nat.beq pc 38 then some (.if_icmp .ne 0, 41, 51, 0) else none) else (bif Nat.beq pc 36 then some (.ldc 3, 38, 39, 0) else none)))) else (bif Nat.ble 28 pc then (bif Nat.ble 32 pc then (bif Nat.ble 34 pc then (bif Nat.beq pc 34 then some (.iload 5, 36, 0, 0) else none) else (bif Nat.beq pc 32 then some (.istore 5, 34, 0, 0) else none)) else (bif Nat.ble 29 pc then (bif Nat.beq pc 29 then some (.invokestatic 14, 32, 114, 0) else none) else (bif Nat.beq pc 28 then some (.iadd, 29, 0, 0) else none))) else (bif Nat.ble 24 pc then (bif Nat.ble 27 pc then (bif Nat.beq pc 27 then some (.ishl, 28, 0, 0) else none) else (bif Nat.beq pc 24 then some (.getfield 1, 27, 22, 1) else none)) else (bif Nat.ble 23 pc then (bif Nat.beq pc 23 then some (.aload_n 0, 24, 0, 0) else none) else (bif Nat.beq pc 22 then some (.dload 2, 23, 0, 0) else none))))) else (bif Nat.ble 12 pc then (bif Nat.ble 16 pc then (bif Nat.ble 19 pc then (bif Nat.ble 21 pc then (bif Nat.beq pc 21 then some (.iload_n 2, 22, 0, 0) else none) else (bif Nat.beq pc 19 then some (.iload 4, 21, 0, 0) else none)) else (bif Nat.ble 18 pc then (bif Nat.beq pc 18 then some (.iload_n 2, 19, 0, 0) else none) else (bif Nat.beq pc 16 then some (.istore 4, 18, 0, 0) else none))) else (bif Nat.ble 14 pc then (bif Nat.ble 15 pc then (bif Nat.beq pc 15 then some (.isub, 16, 0, 0) else none) else (bif Nat.beq pc 14 then some (.iload_n 2, 15, 0, 0) else none)) else (bif Nat.ble 13 pc then (bif Nat.beq pc 13 then some (.iload_n 3, 14, 0, 0) else none) else (bif Nat.beq pc 12 then some (.istore_n 3, 13, 0, 0) else none)))) else (bif Nat.ble 6 pc then (bif Nat.ble 8 pc then (bif Nat.ble 11 pc then (bif Nat.beq pc 11 then some (.ishl, 12, 0, 0) else none) else (bif Nat.beq pc 8 then some (.getfield 1, 11, 22, 1) else none)) else (bif Nat.ble 7 pc then (bif Nat.beq pc 7 then some (.aload_n 0, 8, 0, 0) else none) else (bif Nat.beq pc 6 then some (.iload_n 1, 7, 0, 0) else none))) else (bif Nat.ble 4 pc then (bif Nat.ble 5 pc then (bif Nat.beq pc 5 then some (.istore_n 2, 6, 0, 0) else none) else (bif Nat.beq pc 4 then some (.arraylength, 5, 0, 0) else none)) else (bif Nat.ble 1 pc then (bif Nat.beq pc 1 then some (.fload 1, 4, 15, 0) else none) else (bif Nat.beq pc 0 then some (.aload_n 0, 1, 0, 0) else none)))))
def mc_16 (pc : Nat) : Option (Instr × Nat × Nat × Nat) := bif Nat.ble 18 pc then (bif Nat.ble 23 pc then (bif Nat.ble 28 pc then (bif Nat.ble 31 pc then (bif Nat.ble 32 pc then (bif Nat.beq pc 32 then some (.areturn, 33, 0, 0) else none) else (bif Nat.beq pc 31 then some (.aload_n 2, 32, 0, 0) else none)) else (bif Nat.beq pc 28 then some (.invokestatic 900, 31, 150, 0) else none)) else (bif Nat.ble 24 pc then (bif Nat.ble 25 pc then (bif Nat.beq pc 25 then some (.invokestatic 8, 28, 304, 0) else none) else (bif Nat.beq pc 24 then some (.iload_n 1, 25, 0, 0) else none)) else (bif Nat.beq pc 23 then some (.arraylength, 24, 0, 0) else none))) else (bif Nat.ble 20 pc then (bif Nat.ble 21 pc then (bif Nat.ble 22 pc then (bif Nat.beq pc 22 then some (.aload_n 0, 23, 0, 0) else none) else (bif Nat.beq pc 21 then some (.dload 0, 22, 0, 0) else none)) else (bif Nat.beq pc 20 then some (.aload_n 2, 21, 0, 0) else none)) else (bif Nat.ble 19 pc then (bif Nat.beq pc 19 then some (.dload 0, 20, 0, 0) else none) else (bif Nat.beq pc 18 then some (.aload_n 0, 19, 0, 0) else none)))) else (bif Nat.ble 7 pc then (bif Nat.ble 14 pc then (bif Nat.ble 15 pc then (bif Nat.ble 17 pc then (bif Nat.beq pc 17 then some (.astore_n 2, 18, 0, 0) else none) else (bif Nat.beq pc 15 then some (.newarray .byte, 17, 0, 0) else none)) else (bif Nat.beq pc 14 then some (.iload_n 1, 15, 0, 0) else none)) else (bif Nat.ble 10 pc then (bif Nat.ble 13 pc then (bif Nat.beq pc 13 then some (.areturn, 14, 0, 0) else none) else (bif Nat.beq pc 10 then some (.checkcast 17, 13, 311, 0) else none)) else (bif Nat.beq pc 7 then some (.invokevirtual 901, 10, 310, 0) else none))) else (bif Nat.ble 2 pc then (bif Nat.ble 3 pc then (bif Nat.ble 6 pc then (bif Nat.beq pc 6 then some (.aload_n 0, 7, 0, 0) else none) else (bif Nat.beq pc 3 then some (.if_icmp .ne 0, 6, 14, 0) else none)) else (bif Nat.beq pc 2 then some (.arraylength, 3, 0, 0) else none)) else (bif Nat.ble 1 pc then (bif Nat.beq pc 1 then some (.aload_n 0, 2, 0, 0) else none) else (bif Nat.beq pc 0 then some (.iload_n 1, 1, 0, 0) else none))))
def mc_17 (pc : Nat) : Option (Instr × Nat × Nat × Nat) := bif Nat.ble 17 pc then (bif Nat.ble 27 pc then (bif Nat.ble 32 pc then (bif Nat.ble 35 pc then (bif Nat.ble 38 pc then (bif Nat.beq pc 38 then some (.return_, 39, 0, 0) else none) else (bif Nat.beq pc 35 then some (.fstore 1, 38, 15, 0) else none)) else (bif Nat.beq pc 32 then some (.invokestatic 16, 35, 108, 0) else none)) else (bif Nat.ble 28 pc then (bif Nat.ble 31 pc then (bif Nat.beq pc 31 then some (.ishl, 32, 0, 0) else none) else (bif Nat.beq pc 28 then some (.getfield 1, 31, 22, 1) else none)) else (bif Nat.beq pc 27 then some (.aload_n 0, 28, 0, 0) else none))) else (bif Nat.ble 22 pc then (bif Nat.ble 23 pc then (bif Nat.ble 24 pc then (bif Nat.beq pc 24 then some (.invokevirtual 15, 27, 104, 0) else none) else (bif Nat.beq pc 23 then some (.iload_n 1, 24, 0, 0) else none)) else (bif Nat.beq pc 22 then some (.aload_n 0, 23, 0, 0) else none)) else (bif Nat.ble 18 pc then (bif Nat.ble 19 pc then (bif Nat.beq pc 19 then some (.fload 1, 22, 15, 0) else none) else (bif Nat.beq pc 18 then some (.aload_n 0, 19, 0, 0) else none)) else (bif Nat.beq pc 17 then some (.aload_n 0, 18, 0, 0) else none)))) else (bif Nat.ble 9 pc then (bif Nat.ble 12 pc then (bif Nat.ble 13 pc then (bif Nat.ble 14 pc then (bif Nat.beq pc 14 then some (.ifCond .le 0, 17, 38, 0) else none) else (bif Nat.beq pc 13 then some (.isub, 14, 0, 0) else none)) else (bif Nat.beq pc 12 then some (.iload_n 2, 13, 0, 0) else none)) else (bif Nat.ble 10 pc then (bif Nat.ble 11 pc then (bif Nat.beq pc 11 then some (.iload_n 1, 12, 0, 0) else none) else (bif Nat.beq pc 10 then some (.istore_n 2, 11, 0, 0) else none)) else (bif Nat.beq pc 9 then some (.ishr, 10, 0, 0) else none))) else (bif Nat.ble 4 pc then (bif Nat.ble 5 pc then (bif Nat.ble 6 pc then (bif Nat.beq pc 6 then some (.getfield 1, 9, 22, 1) else none) else (bif Nat.beq pc 5 then some (.aload_n 0, 6, 0, 0) else none)) else (bif Nat.beq pc 4 then some (.arraylength, 5, 0, 0) else none)) else (bif Nat.ble 1 pc then (bif Nat.beq pc 1 then some (.fload 1, 4, 15, 0) else none) else (bif Nat.beq pc 0 then some (.aload_n 0, 1, 0, 0) else none))))
def mc_18 (pc : Nat) : Option (Instr × Nat × Nat × Nat) := bif Nat.ble 10 pc then (bif Nat.ble 14 pc then (bif Nat.ble 17 pc then (bif Nat.ble 18 pc then (bif Nat.beq pc 18 then some (.ireturn, 19, 0, 0) else none) else (bif Nat.beq pc 17 then some (.dload 0, 18, 0, 0) else none)) else (bif Nat.beq pc 14 then some (.goto 0, 17, 18, 0) else none)) else (bif Nat.ble 13 pc then (bif Nat.beq pc 13 then some (.dload 1, 14, 0, 0) else none) else (bif Nat.beq pc 10 then some (.ifCond .ne 0, 13, 17, 0) else none))) else (bif Nat.ble 6 pc then (bif Nat.ble 7 pc then (bif Nat.beq pc 7 then some (.getfield 1, 10, 22, 1) else none) else (bif Nat.beq pc 6 then some (.aload_n 0, 7, 0, 0) else none)) else (bif Nat.ble 3 pc then (bif Nat.beq pc 3 then some (.ifCond .eq 0, 6, 17, 0) else none) else (bif Nat.beq pc 0 then some (.getstatic 0, 3, 18, 0) else none)))
def mc_19 (pc : Nat) : Option (Instr × Nat × Nat × Nat) := bif Nat.ble 7 pc then (bif Nat.ble 11 pc then (bif Nat.ble 12 pc then (bif Nat.beq pc 12 then some (.ireturn, 13, 0, 0) else none) else (bif Nat.beq pc 11 then some (.dload 0, 12, 0, 0) else none)) else (bif Nat.ble 8 pc then (bif Nat.beq pc 8 then some (.goto 0, 11, 12, 0) else none) else (bif Nat.beq pc 7 then some (.dload 1, 8, 0, 0) else none))) else (bif Nat.ble 1 pc then (bif Nat.ble 4 pc then (bif Nat.beq pc 4 then some (.if_icmp .gt 0, 7, 11, 0) else none) else (bif Nat.beq pc 1 then some (.dload 255, 4, 0, 0) else none)) else (bif Nat.beq pc 0 then some (.iload_n 0, 1, 0, 0) else none))
def mc_20 (pc : Nat) : Option (Instr × Nat × Nat × Nat) := bif Nat.ble 36 pc then (bif Nat.ble 57 pc then (bif Nat.ble 66 pc then (bif Nat.ble 71 pc then (bif Nat.ble 75 pc then (bif Nat.ble 76 pc then (bif Nat.beq pc 76 then some (.areturn, 77, 0, 0) else none) else (bif Nat.beq pc 75 then some (.aload_n 0, 76, 0, 0) else none)) else (bif Nat.beq pc 71 then some (.iload_n 1, 72, 0, 0) else none)) else (bif Nat.ble 67 pc then (bif Nat.ble 68 pc then (bif Nat.beq pc 68 then some (.putfield 1, 71, 79, 3) else none) else (bif Nat.beq pc 67 then some (.iadd, 68, 0, 0) else none)) else (bif Nat.beq pc 66 then some (.dload 1, 67, 0, 0) else none))) else (bif Nat.ble 61 pc then (bif Nat.ble 62 pc then (bif Nat.ble 65 pc then (bif Nat.beq pc 65 then some (.dup_x1, 66, 0, 0) else none) else (bif Nat.beq pc 62 then some (.getfield 1, 65, 79, 3) else none)) else (bif Nat.beq pc 61 then some (.dup, 62, 0, 0) else none)) else (bif Nat.ble 60 pc then (bif Nat.beq pc 60 then some (.aload_n 0, 61, 0, 0) else none) else (bif Nat.beq pc 57 then some (.fload 1, 60, 15, 0) else none)))) else (bif Nat.ble 45 pc then (bif Nat.ble 49 pc then (bif Nat.ble 52 pc then (bif Nat.ble 56 pc then (bif Nat.beq pc 56 then some (.aload_n 0, 57, 0, 0) else none) else (bif Nat.beq pc 52 then some (.aload_n 0, 53, 0, 0) else none)) else (bif Nat.beq pc 49 then some (.ifCond .eq 0, 52, 56, 0) else none)) else (bif Nat.ble 46 pc then (bif Nat.beq pc 46 then some (.invokevirtual 18, 49, 83, 0) else none) else (bif Nat.beq pc 45 then some (.aload_n 0, 46, 0, 0) else none))) else (bif Nat.ble 40 pc then (bif Nat.ble 41 pc then (bif Nat.ble 42 pc then (bif Nat.beq pc 42 then some (.goto 0, 45, 75, 0) else none) else (bif Nat.beq pc 41 then some (.bastore, 42, 0, 0) else none)) else (bif Nat.beq pc 40 then some (.i2b, 41, 0, 0) else none)) else (bif Nat.ble 39 pc then (bif Nat.beq pc 39 then some (.iload_n 1, 40, 0, 0) else none) else (bif Nat.beq pc 36 then some (.putfield 1, 39, 79, 3) else none))))) else (bif Nat.ble 18 pc then (bif Nat.ble 29 pc then (bif Nat.ble 33 pc then (bif Nat.ble 34 pc then (bif Nat.ble 35 pc then (bif Nat.beq pc 35 then some (.iadd, 36, 0, 0) else none) else (bif Nat.beq pc 34 then some (.dload 1, 35, 0, 0) else none)) else (bif Nat.beq pc 33 then some (.dup_x1, 34, 0, 0) else none)) else (bif Nat.ble 30 pc then (bif Nat.beq pc 30 then some (.getfield 1, 33, 79, 3) else none) else (bif Nat.beq pc 29 then some (.dup, 30, 0, 0) else none))) else (bif Nat.ble 24 pc then (bif Nat.ble 25 pc then (bif Nat.ble 28 pc then (bif Nat.beq pc 28 then some (.aload_n 0, 29, 0, 0) else none) else (bif Nat.beq pc 25 then some (.fload 1, 28, 15, 0) else none)) else (bif Nat.beq pc 24 then some (.aload_n 0, 25, 0, 0) else none)) else (bif Nat.ble 21 pc then (bif Nat.beq pc 21 then some (.ifCond .eq 0, 24, 45, 0) else none) else (bif Nat.beq pc 18 then some (.invokestatic 19, 21, 191, 0) else none)))) else (bif Nat.ble 7 pc then (bif Nat.ble 11 pc then (bif Nat.ble 14 pc then (bif Nat.ble 17 pc then (bif Nat.beq pc 17 then some (.iload_n 1, 18, 0, 0) else none) else (bif Nat.beq pc 14 then some (.ifCond .eq 0, 17, 45, 0) else none)) else (bif Nat.beq pc 11 then some (.invokevirtual 18, 14, 83, 0) else none)) else (bif Nat.ble 10 pc then (bif Nat.beq pc 10 then some (.aload_n 0, 11, 0, 0) else none) else (bif Nat.beq pc 7 then some (.invokevirtual 17, 10, 100, 0) else none))) else (bif Nat.ble 2 pc then (bif Nat.ble 5 pc then (bif Nat.ble 6 pc then (bif Nat.beq pc 6 then some (.iadd, 7, 0, 0) else none) else (bif Nat.beq pc 5 then some (.dload 1, 6, 0, 0) else none)) else (bif Nat.beq pc 2 then some (.getfield 1, 5, 79, 3) else none)) else (bif Nat.ble 1 pc then (bif Nat.beq pc 1 then some (.aload_n 0, 2, 0, 0) else none) else (bif Nat.beq pc 0 then some (.aload_n 0, 1, 0, 0) else none)))))
def mc_21 (pc : Nat) : Option (Instr × Nat × Nat × Nat) := bif Nat.ble 5 pc then (bif Nat.ble 6 pc then (bif Nat.ble 7 pc then (bif Nat.beq pc 7 then some (.areturn, 8, 0, 0) else none) else (bif Nat.beq pc 6 then some (.aload_n 0, 7, 0, 0) else none)) else (bif Nat.beq pc 5 then some (.pop, 6, 0, 0) else none)) else (bif Nat.ble 1 pc then (bif Nat.ble 2 pc then (bif Nat.beq pc 2 then some (.invokespecial 20, 5, 50, 0) else none) else (bif Nat.beq pc 1 then some (.iload_n 1, 2, 0, 0) else none)) else (bif Nat.beq pc 0 then some (.aload_n 0, 1, 0, 0) else none))
def mc_22 (pc : Nat) : Option (Instr × Nat × Nat × Nat) := bif Nat.ble 29 pc then (bif Nat.ble 45 pc then (bif Nat.ble 50 pc then (bif Nat.ble 53 pc then (bif Nat.ble 56 pc then (bif Nat.beq pc 56 then some (.ireturn, 57, 0, 0) else none) else (bif Nat.beq pc 53 then some (.invokevirtual 13, 56, 113, 0) else none)) else (bif Nat.beq pc 50 then some (.fload 0, 53, 58, 3) else none)) else (bif Nat.ble 48 pc then (bif Nat.ble 49 pc then (bif Nat.beq pc 49 then some (.aload_n 0, 50, 0, 0) else none) else (bif Nat.beq pc 48 then some (.pop, 49, 0, 0) else none)) else (bif Nat.beq pc 45 then some (.invokevirtual 21, 48, 120, 0) else none))) else (bif Nat.ble 40 pc then (bif Nat.ble 41 pc then (bif Nat.ble 44 pc then (bif Nat.beq pc 44 then some (.iload_n 1, 45, 0, 0) else none) else (bif Nat.beq pc 41 then some (.fload 0, 44, 58, 3) else none)) else (bif Nat.beq pc 40 then some (.aload_n 0, 41, 0, 0) else none)) else (bif Nat.ble 32 pc then (bif Nat.ble 35 pc then (bif Nat.beq pc 35 then some (.dup, 36, 0, 0) else none) else (bif Nat.beq pc 32 then some (.jsr 589943, 35, 117, 0) else none)) else (bif Nat.beq pc 29 then some (.if_icmp .ne 0, 32, 40, 0) else none)))) else (bif Nat.ble 12 pc then (bif Nat.ble 21 pc then (bif Nat.ble 24 pc then (bif Nat.ble 27 pc then (bif Nat.beq pc 27 then some (.dload 80, 29, 0, 0) else none) else (bif Nat.beq pc 24 then some (.invokevirtual 13, 27, 113, 0) else none)) else (bif Nat.beq pc 21 then some (.fload 0, 24, 58, 3) else none)) else (bif Nat.ble 15 pc then (bif Nat.ble 20 pc then (bif Nat.beq pc 20 then some (.aload_n 0, 21, 0, 0) else none) else (bif Nat.beq pc 15 then some (.dup, 16, 0, 0) else none)) else (bif Nat.beq pc 12 then some (.jsr 524400, 15, 110, 0) else none))) else (bif Nat.ble 6 pc then (bif Nat.ble 7 pc then (bif Nat.ble 9 pc then (bif Nat.beq pc 9 then some (.if_icmp .le 0, 12, 20, 0) else none) else (bif Nat.beq pc 7 then some (.dload 126, 9, 0, 0) else none)) else (bif Nat.beq pc 6 then some (.iload_n 1, 7, 0, 0) else none)) else (bif Nat.ble 1 pc then (bif Nat.ble 3 pc then (bif Nat.beq pc 3 then some (.if_icmp .lt 0, 6, 12, 0) else none) else (bif Nat.beq pc 1 then some (.dload 32, 3, 0, 0) else none)) else (bif Nat.beq pc 0 then some (.iload_n 1, 1, 0, 0) else none))))
def mc_23 (pc : Nat) : Option (Instr × Nat × Nat × Nat) := bif Nat.ble 12 pc then (bif Nat.ble 16 pc then (bif Nat.ble 18 pc then (bif Nat.ble 19 pc then (bif Nat.beq pc 19 then some (.ireturn, 20, 0, 0) else none) else (bif Nat.beq pc 18 then some (.dload 0, 19, 0, 0) else none)) else (bif Nat.ble 17 pc then (bif Nat.beq pc 17 then some (.ireturn, 18, 0, 0) else none) else (bif Nat.beq pc 16 then some (.dload 2, 17, 0, 0) else none))) else (bif Nat.ble 14 pc then (bif Nat.ble 15 pc then (bif Nat.beq pc 15 then some (.astore_n 3, 16, 0, 0) else none) else (bif Nat.beq pc 14 then some (.ireturn, 15, 0, 0) else none)) else (bif Nat.ble 13 pc then (bif Nat.beq pc 13 then some (.dload 1, 14, 0, 0) else none) else (bif Nat.beq pc 12 then some (.astore_n 3, 13, 0, 0) else none)))) else (bif Nat.ble 4 pc then (bif Nat.ble 8 pc then (bif Nat.ble 9 pc then (bif Nat.beq pc 9 then some (.goto 0, 12, 18, 0) else none) else (bif Nat.beq pc 8 then some (.lastore, 9, 0, 0) else none)) else (bif Nat.ble 7 pc then (bif Nat.beq pc 7 then some (.i2l, 8, 0, 0) else none) else (bif Nat.beq pc 4 then some (.invokevirtual 22, 7, 7, 0) else none))) else (bif Nat.ble 2 pc then (bif Nat.ble 3 pc then (bif Nat.beq pc 3 then some (.iload_n 1, 4, 0, 0) else none) else (bif Nat.beq pc 2 then some (.aload_n 0, 3, 0, 0) else none)) else (bif Nat.ble 1 pc then (bif Nat.beq pc 1 then some (.dload 0, 2, 0, 0) else none) else (bif Nat.beq pc 0 then some (.aload_n 2, 1, 0, 0) else none))))
def mc_24 (pc : Nat) : Option (Instr × Nat × Nat × Nat) := bif Nat.ble 35 pc then (bif Nat.ble 52 pc then (bif Nat.ble 59 pc then (bif Nat.ble 63 pc then (bif Nat.ble 64 pc then (bif Nat.ble 67 pc then (bif Nat.beq pc 67 then some (.ireturn, 68, 0, 0) else none) else (bif Nat.beq pc 64 then some (.getfield 7, 67, 80, 3) else none)) else (bif Nat.beq pc 63 then some (.aload_n 0, 64, 0, 0) else none)) else (bif Nat.ble 60 pc then (bif Nat.beq pc 60 then some (.putfield 7, 63, 80, 3) else none) else (bif Nat.beq pc 59 then some (.iadd, 60, 0, 0) else none))) else (bif Nat.ble 54 pc then (bif Nat.ble 55 pc then (bif Nat.ble 58 pc then (bif Nat.beq pc 58 then some (.dload 1, 59, 0, 0) else none) else (bif Nat.beq pc 55 then some (.getfield 7, 58, 80, 3) else none)) else (bif Nat.beq pc 54 then some (.dup, 55, 0, 0) else none)) else (bif Nat.ble 53 pc then (bif Nat.beq pc 53 then some (.aload_n 0, 54, 0, 0) else none) else (bif Nat.beq pc 52 then some (.castore, 53, 0, 0) else none)))) else (bif Nat.ble 43 pc then (bif Nat.ble 47 pc then (bif Nat.ble 48 pc then (bif Nat.ble 51 pc then (bif Nat.beq pc 51 then some (.iload_n 1, 52, 0, 0) else none) else (bif Nat.beq pc 48 then some (.getfield 7, 51, 80, 3) else none)) else (bif Nat.beq pc 47 then some (.aload_n 0, 48, 0, 0) else none)) else (bif Nat.ble 44 pc then (bif Nat.beq pc 44 then some (.fload 7, 47, 7, 4) else none) else (bif Nat.beq pc 43 then some (.aload_n 0, 44, 0, 0) else none))) else (bif Nat.ble 41 pc then (bif Nat.ble 42 pc then (bif Nat.beq pc 42 then some (.ireturn, 43, 0, 0) else none) else (bif Nat.beq pc 41 then some (.dload 0, 42, 0, 0) else none)) else (bif Nat.ble 38 pc then (bif Nat.beq pc 38 then some (.ifCond .eq 0, 41, 43, 0) else none) else (bif Nat.beq pc 35 then some (.getfield 7, 38, 63, 0) else none))))) else (bif Nat.ble 17 pc then (bif Nat.ble 26 pc then (bif Nat.ble 30 pc then (bif Nat.ble 31 pc then (bif Nat.ble 34 pc then (bif Nat.beq pc 34 then some (.aload_n 0, 35, 0, 0) else none) else (bif Nat.beq pc 31 then some (.putfield 7, 34, 63, 0) else none)) else (bif Nat.beq pc 30 then some (.dload 0, 31, 0, 0) else none)) else (bif Nat.ble 27 pc then (bif Nat.beq pc 27 then some (.goto 0, 30, 31, 0) else none) else (bif Nat.beq pc 26 then some (.dload 2, 27, 0, 0) else none))) else (bif Nat.ble 21 pc then (bif Nat.ble 23 pc then (bif Nat.beq pc 23 then some (.if_icmp .ne 0, 26, 30, 0) else none) else (bif Nat.beq pc 21 then some (.dload 80, 23, 0, 0) else none)) else (bif Nat.ble 18 pc then (bif Nat.beq pc 18 then some (.getfield 7, 21, 80, 3) else none) else (bif Nat.beq pc 17 then some (.aload_n 0, 18, 0, 0) else none)))) else (bif Nat.ble 7 pc then (bif Nat.ble 10 pc then (bif Nat.ble 13 pc then (bif Nat.ble 14 pc then (bif Nat.beq pc 14 then some (.goto 0, 17, 31, 0) else none) else (bif Nat.beq pc 13 then some (.dload 1, 14, 0, 0) else none)) else (bif Nat.beq pc 10 then some (.if_icmp .le 0, 13, 17, 0) else none)) else (bif Nat.ble 8 pc then (bif Nat.beq pc 8 then some (.dload 126, 10, 0, 0) else none) else (bif Nat.beq pc 7 then some (.iload_n 1, 8, 0, 0) else none))) else (bif Nat.ble 2 pc then (bif Nat.ble 4 pc then (bif Nat.beq pc 4 then some (.if_icmp .lt 0, 7, 13, 0) else none) else (bif Nat.beq pc 2 then some (.dload 32, 4, 0, 0) else none)) else (bif Nat.ble 1 pc then (bif Nat.beq pc 1 then some (.iload_n 1, 2, 0, 0) else none) else (bif Nat.beq pc 0 then some (.aload_n 0, 1, 0, 0) else none)))))
def mc_25 (pc : Nat) : Option (Instr × Nat × Nat × Nat) := bif Nat.ble 1 pc then (bif Nat.ble 4 pc then (bif Nat.beq pc 4 then some (.ireturn, 5, 0, 0) else none) else (bif Nat.beq pc 1 then some (.getfield 7, 4, 63, 0) else none)) else (bif Nat.beq pc 0 then some (.aload_n 0, 1, 0, 0) else none)
def mc_26 (pc : Nat) : Option (Instr × Nat × Nat × Nat) := bif Nat.ble 41 pc then (bif Nat.ble 64 pc then (bif Nat.ble 73 pc then (bif Nat.ble 77 pc then (bif Nat.ble 78 pc then (bif Nat.ble 81 pc then (bif Nat.beq pc 81 then some (.return_, 82, 0, 0) else none) else (bif Nat.beq pc 78 then some (.putfield 1, 81, 79, 3) else none)) else (bif Nat.beq pc 77 then some (.iload_n 1, 78, 0, 0) else none)) else (bif Nat.ble 76 pc then (bif Nat.beq pc 76 then some (.aload_n 0, 77, 0, 0) else none) else (bif Nat.beq pc 73 then some (.lstore 1, 76, 73, 2) else none))) else (bif Nat.ble 68 pc then (bif Nat.ble 71 pc then (bif Nat.ble 72 pc then (bif Nat.beq pc 72 then some (.dload 1, 73, 0, 0) else none) else (bif Nat.beq pc 71 then some (.aload_n 0, 72, 0, 0) else none)) else (bif Nat.beq pc 68 then some (.if_icmp .le 0, 71, 76, 0) else none)) else (bif Nat.ble 67 pc then (bif Nat.beq pc 67 then some (.iload_n 1, 68, 0, 0) else none) else (bif Nat.beq pc 64 then some (.getfield 1, 67, 79, 3) else none)))) else (bif Nat.ble 52 pc then (bif Nat.ble 56 pc then (bif Nat.ble 60 pc then (bif Nat.ble 63 pc then (bif Nat.beq pc 63 then some (.aload_n 0, 64, 0, 0) else none) else (bif Nat.beq pc 60 then some (.goto 0, 63, 76, 0) else none)) else (bif Nat.beq pc 56 then some (.iload_n 1, 57, 0, 0) else none)) else (bif Nat.ble 53 pc then (bif Nat.beq pc 53 then some (.getfield 1, 56, 79, 3) else none) else (bif Nat.beq pc 52 then some (.aload_n 0, 53, 0, 0) else none))) else (bif Nat.ble 48 pc then (bif Nat.ble 49 pc then (bif Nat.beq pc 49 then some (.fload 1, 52, 15, 0) else none) else (bif Nat.beq pc 48 then some (.aload_n 0, 49, 0, 0) else none)) else (bif Nat.ble 45 pc then (bif Nat.beq pc 45 then some (.goto 0, 48, 76, 0) else none) else (bif Nat.beq pc 41 then some (.iload_n 1, 42, 0, 0) else none))))) else (bif Nat.ble 22 pc then (bif Nat.ble 30 pc then (bif Nat.ble 34 pc then (bif Nat.ble 37 pc then (bif Nat.ble 38 pc then (bif Nat.beq pc 38 then some (.getfield 1, 41, 79, 3) else none) else (bif Nat.beq pc 37 then some (.aload_n 0, 38, 0, 0) else none)) else (bif Nat.beq pc 34 then some (.fload 1, 37, 15, 0) else none)) else (bif Nat.ble 33 pc then (bif Nat.beq pc 33 then some (.aload_n 0, 34, 0, 0) else none) else (bif Nat.beq pc 30 then some (.ifCond .eq 0, 33, 48, 0) else none))) else (bif Nat.ble 26 pc then (bif Nat.ble 27 pc then (bif Nat.beq pc 27 then some (.invokevirtual 18, 30, 83, 0) else none) else (bif Nat.beq pc 26 then some (.aload_n 0, 27, 0, 0) else none)) else (bif Nat.ble 23 pc then (bif Nat.beq pc 23 then some (.if_icmp .ge 0, 26, 63, 0) else none) else (bif Nat.beq pc 22 then some (.iload_n 1, 23, 0, 0) else none)))) else (bif Nat.ble 13 pc then (bif Nat.ble 15 pc then (bif Nat.ble 18 pc then (bif Nat.ble 19 pc then (bif Nat.beq pc 19 then some (.getfield 1, 22, 79, 3) else none) else (bif Nat.beq pc 18 then some (.aload_n 0, 19, 0, 0) else none)) else (bif Nat.beq pc 15 then some (.invokevirtual 17, 18, 100, 0) else none)) else (bif Nat.ble 14 pc then (bif Nat.beq pc 14 then some (.iload_n 1, 15, 0, 0) else none) else (bif Nat.beq pc 13 then some (.aload_n 0, 14, 0, 0) else none))) else (bif Nat.ble 7 pc then (bif Nat.ble 8 pc then (bif Nat.beq pc 8 then some (.iload_n 1, 9, 0, 0) else none) else (bif Nat.beq pc 7 then some (.dup, 8, 0, 0) else none)) else (bif Nat.ble 1 pc then (bif Nat.beq pc 1 then some (.ifCond .ge 0, 4, 13, 0) else none) else (bif Nat.beq pc 0 then some (.iload_n 1, 1, 0, 0) else none)))))
def mc_27 (pc : Nat) : Option (Instr × Nat × Nat × Nat) := bif Nat.ble 2 pc then (bif Nat.ble 5 pc then (bif Nat.beq pc 5 then some (.return_, 6, 0, 0) else none) else (bif Nat.beq pc 2 then some (.invokespecial 26, 5, 333, 0) else none)) else (bif Nat.ble 1 pc then (bif Nat.beq pc 1 then some (.iload_n 1, 2, 0, 0) else none) else (bif Nat.beq pc 0 then some (.aload_n 0, 1, 0, 0) else none))
def mc_28 (pc : Nat) : Option (Instr × Nat × Nat × Nat) := bif Nat.ble 4 pc then (bif Nat.ble 5 pc then (bif Nat.ble 8 pc then (bif Nat.beq pc 8 then some (.return_, 9, 0, 0) else none) else (bif Nat.beq pc 5 then some (.invokevirtual 27, 8, 124, 0) else none)) else (bif Nat.beq pc 4 then some (.dload 0, 5, 0, 0) else none)) else (bif Nat.ble 1 pc then (bif Nat.beq pc 1 then some (.fload 0, 4, 58, 3) else none) else (bif Nat.beq pc 0 then some (.aload_n 0, 1, 0, 0) else none))
def mc_29 (pc : Nat) : Option (Instr × Nat × Nat × Nat) := bif Nat.ble 5 pc then (bif Nat.ble 7 pc then (bif Nat.ble 10 pc then (bif Nat.beq pc 10 then some (.return_, 11, 0, 0) else none) else (bif Nat.beq pc 7 then some (.putfield 7, 10, 80, 3) else none)) else (bif Nat.ble 6 pc then (bif Nat.beq pc 6 then some (.dload 0, 7, 0, 0) else none) else (bif Nat.beq pc 5 then some (.aload_n 0, 6, 0, 0) else none))) else (bif Nat.ble 1 pc then (bif Nat.ble 2 pc then (bif Nat.beq pc 2 then some (.putfield 7, 5, 63, 0) else none) else (bif Nat.beq pc 1 then some (.dload 0, 2, 0, 0) else none)) else (bif Nat.beq pc 0 then some (.aload_n 0, 1, 0, 0) else none))
def mc_30 (pc : Nat) : Option (Instr × Nat × Nat × Nat) := bif Nat.ble 9 pc then (bif Nat.ble 11 pc then (bif Nat.ble 16 pc then (bif Nat.ble 17 pc then (bif Nat.beq pc 17 then some (.ireturn, 18, 0, 0) else none) else (bif Nat.beq pc 16 then some (.iload_n 0, 17, 0, 0) else none)) else (bif Nat.beq pc 11 then some (.iload_n 1, 12, 0, 0) else none)) else (bif Nat.ble 10 pc then (bif Nat.beq pc 10 then some (.iload_n 0, 11, 0, 0) else none) else (bif Nat.beq pc 9 then some (.aload_n 2, 10, 0, 0) else none))) else (bif Nat.ble 4 pc then (bif Nat.ble 5 pc then (bif Nat.ble 6 pc then (bif Nat.beq pc 6 then some (.if_icmp .lt 0, 9, 16, 0) else none) else (bif Nat.beq pc 5 then some (.iload_n 1, 6, 0, 0) else none)) else (bif Nat.beq pc 4 then some (.iload_n 0, 5, 0, 0) else none)) else (bif Nat.ble 1 pc then (bif Nat.beq pc 1 then some (.ifCond .lt 0, 4, 9, 0) else none) else (bif Nat.beq pc 0 then some (.iload_n 0, 1, 0, 0) else none)))
def mc_31 (pc : Nat) : Option (Instr × Nat × Nat × Nat) := bif Nat.ble 5 pc then (bif Nat.ble 8 pc then (bif Nat.ble 9 pc then (bif Nat.beq pc 9 then some (.return_, 10, 0, 0) else none) else (bif Nat.beq pc 8 then some (.pop, 9, 0, 0) else none)) else (bif Nat.beq pc 5 then some (.invokestatic 30, 8, 1059, 0) else none)) else (bif Nat.ble 1 pc then (bif Nat.ble 2 pc then (bif Nat.beq pc 2 then some (.getstatic 11, 5, 1053, 0) else none) else (bif Nat.beq pc 1 then some (.iload_n 1, 2, 0, 0) else none)) else (bif Nat.beq pc 0 then some (.iload_n 0, 1, 0, 0) else none))
def mc_32 (pc : Nat) : Option (Instr × Nat × Nat × Nat) := bif Nat.ble 23 pc then (bif Nat.ble 35 pc then (bif Nat.ble 41 pc then (bif Nat.ble 43 pc then (bif Nat.ble 47 pc then (bif Nat.beq pc 47 then some (.ireturn, 48, 0, 0) else none) else (bif Nat.beq pc 43 then some (.iload_n 1, 44, 0, 0) else none)) else (bif Nat.ble 42 pc then (bif Nat.beq pc 42 then some (.aload_n 3, 43, 0, 0) else none) else (bif Nat.beq pc 41 then some (.ireturn, 42, 0, 0) else none))) else (bif Nat.ble 39 pc then (bif Nat.ble 40 pc then (bif Nat.beq pc 40 then some (.i2c, 41, 0, 0) else none) else (bif Nat.beq pc 39 then some (.iand, 40, 0, 0) else none)) else (bif Nat.ble 36 pc then (bif Nat.beq pc 36 then some (.dload 255, 39, 0, 0) else none) else (bif Nat.beq pc 35 then some (.baload, 36, 0, 0) else none)))) else (bif Nat.ble 29 pc then (bif Nat.ble 33 pc then (bif Nat.ble 34 pc then (bif Nat.beq pc 34 then some (.iload_n 1, 35, 0, 0) else none) else (bif Nat.beq pc 33 then some (.aload_n 3, 34, 0, 0) else none)) else (bif Nat.ble 30 pc then (bif Nat.beq pc 30 then some (.ifCond .ne 0, 33, 42, 0) else none) else (bif Nat.beq pc 29 then some (.iload_n 2, 30, 0, 0) else none))) else (bif Nat.ble 24 pc then (bif Nat.ble 26 pc then (bif Nat.beq pc 26 then some (.invokestatic 31, 29, 144, 0) else none) else (bif Nat.beq pc 24 then some (.iload 4, 26, 0, 0) else none)) else (bif Nat.beq pc 23 then some (.iload_n 1, 24, 0, 0) else none)))) else (bif Nat.ble 11 pc then (bif Nat.ble 16 pc then (bif Nat.ble 18 pc then (bif Nat.ble 21 pc then (bif Nat.beq pc 21 then some (.istore 4, 23, 0, 0) else none) else (bif Nat.beq pc 18 then some (.invokestatic 8, 21, 138, 0) else none)) else (bif Nat.ble 17 pc then (bif Nat.beq pc 17 then some (.ishr, 18, 0, 0) else none) else (bif Nat.beq pc 16 then some (.iload_n 2, 17, 0, 0) else none))) else (bif Nat.ble 14 pc then (bif Nat.ble 15 pc then (bif Nat.beq pc 15 then some (.arraylength, 16, 0, 0) else none) else (bif Nat.beq pc 14 then some (.aload_n 3, 15, 0, 0) else none)) else (bif Nat.beq pc 11 then some (.getfield 1, 14, 79, 3) else none))) else (bif Nat.ble 5 pc then (bif Nat.ble 9 pc then (bif Nat.ble 10 pc then (bif Nat.beq pc 10 then some (.aload_n 0, 11, 0, 0) else none) else (bif Nat.beq pc 9 then some (.astore_n 3, 10, 0, 0) else none)) else (bif Nat.ble 6 pc then (bif Nat.beq pc 6 then some (.fload 1, 9, 15, 0) else none) else (bif Nat.beq pc 5 then some (.aload_n 0, 6, 0, 0) else none))) else (bif Nat.ble 1 pc then (bif Nat.ble 4 pc then (bif Nat.beq pc 4 then some (.istore_n 2, 5, 0, 0) else none) else (bif Nat.beq pc 1 then some (.getfield 1, 4, 22, 1) else none)) else (bif Nat.beq pc 0 then some (.aload_n 0, 1, 0, 0) else none))))
def mc_33 (pc : Nat) : Option (Instr × Nat × Nat × Nat) := bif Nat.ble 2 pc then (bif Nat.ble 5 pc then (bif Nat.beq pc 5 then some (.ireturn, 6, 0, 0) else none) else (bif Nat.beq pc 2 then some (.invokespecial 32, 5, 329, 0) else none)) else (bif Nat.ble 1 pc then (bif Nat.beq pc 1 then some (.iload_n 1, 2, 0, 0) else none) else (bif Nat.beq pc 0 then some (.aload_n 0, 1, 0, 0) else none))
def mc_34 (pc : Nat) : Option (Instr × Nat × Nat × Nat) := bif Nat.ble 4 pc then (bif Nat.ble 7 pc then (bif Nat.ble 12 pc then (bif Nat.beq pc 12 then some (.return_, 13, 0, 0) else none) else (bif Nat.beq pc 7 then some (.dup, 8, 0, 0) else none)) else (bif Nat.beq pc 4 then some (.jsr 524400, 7, 110, 0) else none)) else (bif Nat.ble 1 pc then (bif Nat.beq pc 1 then some (.ifCond .ne 0, 4, 12, 0) else none) else (bif Nat.beq pc 0 then some (.iload_n 0, 1, 0, 0) else none))
def mc_35 (pc : Nat) : Option (Instr × Nat × Nat × Nat) := bif Nat.ble 9 pc then (bif Nat.ble 14 pc then (bif Nat.ble 16 pc then (bif Nat.ble 19 pc then (bif Nat.beq pc 19 then some (.return_, 20, 0, 0) else none) else (bif Nat.beq pc 16 then some (.fstore 5, 19, 15, 3) else none)) else (bif Nat.beq pc 14 then some (.newarray .byte, 16, 0, 0) else none)) else (bif Nat.ble 12 pc then (bif Nat.ble 13 pc then (bif Nat.beq pc 13 then some (.dload 3, 14, 0, 0) else none) else (bif Nat.beq pc 12 then some (.aload_n 0, 13, 0, 0) else none)) else (bif Nat.beq pc 9 then some (.fstore 5, 12, 9, 1) else none))) else (bif Nat.ble 4 pc then (bif Nat.ble 5 pc then (bif Nat.ble 7 pc then (bif Nat.beq pc 7 then some (.newarray .char, 9, 0, 0) else none) else (bif Nat.beq pc 5 then some (.dload 6, 7, 0, 0) else none)) else (bif Nat.beq pc 4 then some (.aload_n 0, 5, 0, 0) else none)) else (bif Nat.ble 1 pc then (bif Nat.beq pc 1 then some (.invokespecial 903, 4, 3, 0) else none) else (bif Nat.beq pc 0 then some (.aload_n 0, 1, 0, 0) else none)))
def mc_36 (pc : Nat) : Option (Instr × Nat × Nat × Nat) := bif Nat.ble 10 pc then (bif Nat.ble 14 pc then (bif Nat.ble 17 pc then (bif Nat.ble 18 pc then (bif Nat.beq pc 18 then some (.ireturn, 19, 0, 0) else none) else (bif Nat.beq pc 17 then some (.dload 0, 18, 0, 0) else none)) else (bif Nat.beq pc 14 then some (.goto 0, 17, 18, 0) else none)) else (bif Nat.ble 13 pc then (bif Nat.beq pc 13 then some (.dload 1, 14, 0, 0) else none) else (bif Nat.beq pc 10 then some (.ifCond .ne 0, 13, 17, 0) else none))) else (bif Nat.ble 6 pc then (bif Nat.ble 7 pc then (bif Nat.beq pc 7 then some (.getfield 2, 10, 15, 1) else none) else (bif Nat.beq pc 6 then some (.aload_n 0, 7, 0, 0) else none)) else (bif Nat.ble 3 pc then (bif Nat.beq pc 3 then some (.ifCond .eq 0, 6, 17, 0) else none) else (bif Nat.beq pc 0 then some (.getstatic 0, 3, 38, 0) else none)))
def mc_37 (pc : Nat) : Option (Instr × Nat × Nat × Nat) := bif Nat.ble 7 pc then (bif Nat.ble 13 pc then (bif Nat.ble 14 pc then (bif Nat.beq pc 14 then some (.ireturn, 15, 0, 0) else none) else (bif Nat.beq pc 13 then some (.dload 1, 14, 0, 0) else none)) else (bif Nat.ble 10 pc then (bif Nat.beq pc 10 then some (.goto 0, 13, 14, 0) else none) else (bif Nat.beq pc 7 then some (.getfield 2, 10, 15, 1) else none))) else (bif Nat.ble 3 pc then (bif Nat.ble 6 pc then (bif Nat.beq pc 6 then some (.aload_n 0, 7, 0, 0) else none) else (bif Nat.beq pc 3 then some (.ifCond .eq 0, 6, 13, 0) else none)) else (bif Nat.beq pc 0 then some (.getstatic 0, 3, 38, 0) else none))
def mc_38 (pc : Nat) : Option (Instr × Nat × Nat × Nat) := bif Nat.ble 5 pc then (bif Nat.ble 9 pc then (bif Nat.ble 10 pc then (bif Nat.beq pc 10 then some (.ireturn, 11, 0, 0) else none) else (bif Nat.beq pc 9 then some (.ishr, 10, 0, 0) else none)) else (bif Nat.ble 6 pc then (bif Nat.beq pc 6 then some (.invokevirtual 37, 9, 335, 0) else none) else (bif Nat.beq pc 5 then some (.aload_n 0, 6, 0, 0) else none))) else (bif Nat.ble 1 pc then (bif Nat.ble 4 pc then (bif Nat.beq pc 4 then some (.arraylength, 5, 0, 0) else none) else (bif Nat.beq pc 1 then some (.fload 2, 4, 9, 0) else none)) else (bif Nat.beq pc 0 then some (.aload_n 0, 1, 0, 0) else none))
def mc_39 (pc : Nat) : Option (Instr × Nat × Nat × Nat) := bif Nat.ble 8 pc then (bif Nat.ble 12 pc then (bif Nat.ble 15 pc then (bif Nat.ble 16 pc then (bif Nat.beq pc 16 then some (.ireturn, 17, 0, 0) else none) else (bif Nat.beq pc 15 then some (.dload 0, 16, 0, 0) else none)) else (bif Nat.beq pc 12 then some (.goto 0, 15, 16, 0) else none)) else (bif Nat.ble 11 pc then (bif Nat.beq pc 11 then some (.dload 1, 12, 0, 0) else none) else (bif Nat.beq pc 8 then some (.if_icmp .gt 0, 11, 15, 0) else none))) else (bif Nat.ble 4 pc then (bif Nat.ble 5 pc then (bif Nat.beq pc 5 then some (.dload 255, 8, 0, 0) else none) else (bif Nat.beq pc 4 then some (.iload_n 0, 5, 0, 0) else none)) else (bif Nat.ble 1 pc then (bif Nat.beq pc 1 then some (.ifCond .lt 0, 4, 15, 0) else none) else (bif Nat.beq pc 0 then some (.iload_n 0, 1, 0, 0) else none)))
def mc_40 (pc : Nat) : Option (Instr × Nat × Nat × Nat) := bif Nat.ble 14 pc then (bif Nat.ble 24 pc then (bif Nat.ble 28 pc then (bif Nat.ble 31 pc then (bif Nat.ble 32 pc then (bif Nat.beq pc 32 then some (.ireturn, 33, 0, 0) else none) else (bif Nat.beq pc 31 then some (.dstore 1, 32, 0, 0) else none)) else (bif Nat.beq pc 28 then some (.goto 0, 31, 7, 0) else none)) else (bif Nat.ble 25 pc then (bif Nat.beq pc 25 then some (.multianewarray 5 1, 28, 0, 0) else none) else (bif Nat.beq pc 24 then some (.ireturn, 25, 0, 0) else none))) else (bif Nat.ble 17 pc then (bif Nat.ble 19 pc then (bif Nat.ble 22 pc then (bif Nat.beq pc 22 then some (.iload 5, 24, 0, 0) else none) else (bif Nat.beq pc 19 then some (.if_icmp .ne 0, 22, 25, 0) else none)) else (bif Nat.beq pc 17 then some (.iload 4, 19, 0, 0) else none)) else (bif Nat.ble 16 pc then (bif Nat.beq pc 16 then some (.baload, 17, 0, 0) else none) else (bif Nat.beq pc 14 then some (.iload 5, 16, 0, 0) else none)))) else (bif Nat.ble 5 pc then (bif Nat.ble 9 pc then (bif Nat.ble 10 pc then (bif Nat.ble 13 pc then (bif Nat.beq pc 13 then some (.aload_n 0, 14, 0, 0) else none) else (bif Nat.beq pc 10 then some (.if_icmp .ge 0, 13, 31, 0) else none)) else (bif Nat.beq pc 9 then some (.iload_n 3, 10, 0, 0) else none)) else (bif Nat.ble 7 pc then (bif Nat.beq pc 7 then some (.iload 5, 9, 0, 0) else none) else (bif Nat.beq pc 5 then some (.istore 5, 7, 0, 0) else none))) else (bif Nat.ble 2 pc then (bif Nat.ble 4 pc then (bif Nat.beq pc 4 then some (.iload_n 2, 5, 0, 0) else none) else (bif Nat.beq pc 2 then some (.istore 4, 4, 0, 0) else none)) else (bif Nat.ble 1 pc then (bif Nat.beq pc 1 then some (.i2b, 2, 0, 0) else none) else (bif Nat.beq pc 0 then some (.iload_n 1, 1, 0, 0) else none))))
def mc_41 (pc : Nat) : Option (Instr × Nat × Nat × Nat) := bif Nat.ble 18 pc then (bif Nat.ble 28 pc then (bif Nat.ble 31 pc then (bif Nat.ble 33 pc then (bif Nat.ble 36 pc then (bif Nat.beq pc 36 then some (.ireturn, 37, 0, 0) else none) else (bif Nat.beq pc 33 then some (.invokestatic 40, 36, 95, 0) else none)) else (bif Nat.ble 32 pc then (bif Nat.beq pc 32 then some (.iload_n 3, 33, 0, 0) else none) else (bif Nat.beq pc 31 then some (.iload_n 2, 32, 0, 0) else none))) else (bif Nat.ble 29 pc then (bif Nat.ble 30 pc then (bif Nat.beq pc 30 then some (.iload_n 1, 31, 0, 0) else none) else (bif Nat.beq pc 29 then some (.aload_n 0, 30, 0, 0) else none)) else (bif Nat.beq pc 28 then some (.ireturn, 29, 0, 0) else none))) else (bif Nat.ble 23 pc then (bif Nat.ble 24 pc then (bif Nat.ble 27 pc then (bif Nat.beq pc 27 then some (.dstore 1, 28, 0, 0) else none) else (bif Nat.beq pc 24 then some (.if_icmp .lt 0, 27, 29, 0) else none)) else (bif Nat.beq pc 23 then some (.iload_n 3, 24, 0, 0) else none)) else (bif Nat.ble 21 pc then (bif Nat.ble 22 pc then (bif Nat.beq pc 22 then some (.iload_n 2, 23, 0, 0) else none) else (bif Nat.beq pc 21 then some (.istore_n 3, 22, 0, 0) else none)) else (bif Nat.beq pc 18 then some (.invokestatic 8, 21, 38, 0) else none)))) else (bif Nat.ble 10 pc then (bif Nat.ble 15 pc then (bif Nat.ble 16 pc then (bif Nat.ble 17 pc then (bif Nat.beq pc 17 then some (.arraylength, 18, 0, 0) else none) else (bif Nat.beq pc 16 then some (.aload_n 0, 17, 0, 0) else none)) else (bif Nat.beq pc 15 then some (.iload_n 3, 16, 0, 0) else none)) else (bif Nat.ble 11 pc then (bif Nat.ble 14 pc then (bif Nat.beq pc 14 then some (.istore_n 2, 15, 0, 0) else none) else (bif Nat.beq pc 11 then some (.invokestatic 9, 14, 92, 0) else none)) else (bif Nat.beq pc 10 then some (.dload 0, 11, 0, 0) else none))) else (bif Nat.ble 7 pc then (bif Nat.ble 8 pc then (bif Nat.ble 9 pc then (bif Nat.beq pc 9 then some (.iload_n 2, 10, 0, 0) else none) else (bif Nat.beq pc 8 then some (.ireturn, 9, 0, 0) else none)) else (bif Nat.beq pc 7 then some (.dstore 1, 8, 0, 0) else none)) else (bif Nat.ble 1 pc then (bif Nat.ble 4 pc then (bif Nat.beq pc 4 then some (.ifCond .ne 0, 7, 9, 0) else none) else (bif Nat.beq pc 1 then some (.invokestatic 39, 4, 88, 0) else none)) else (bif Nat.beq pc 0 then some (.iload_n 1, 1, 0, 0) else none))))
def mc_42 (pc : Nat) : Option (Instr × Nat × Nat × Nat) := bif Nat.ble 17 pc then (bif Nat.ble 27 pc then (bif Nat.ble 29 pc then (bif Nat.ble 30 pc then (bif Nat.ble 36 pc then (bif Nat.beq pc 36 then some (.ireturn, 37, 0, 0) else none) else (bif Nat.beq pc 30 then some (.invokevirtual 38, 33, 505, 0) else none)) else (bif Nat.beq pc 29 then some (.aload_n 0, 30, 0, 0) else none)) else (bif Nat.ble 28 pc then (bif Nat.beq pc 28 then some (.iload_n 2, 29, 0, 0) else none) else (bif Nat.beq pc 27 then some (.iload_n 1, 28, 0, 0) else none))) else (bif Nat.ble 23 pc then (bif Nat.ble 24 pc then (bif Nat.beq pc 24 then some (.fload 2, 27, 9, 0) else none) else (bif Nat.beq pc 23 then some (.aload_n 0, 24, 0, 0) else none)) else (bif Nat.ble 20 pc then (bif Nat.beq pc 20 then some (.goto 0, 23, 36, 0) else none) else (bif Nat.beq pc 17 then some (.invokestatic 41, 20, 637, 0) else none)))) else (bif Nat.ble 8 pc then (bif Nat.ble 12 pc then (bif Nat.ble 13 pc then (bif Nat.ble 14 pc then (bif Nat.beq pc 14 then some (.invokevirtual 38, 17, 505, 0) else none) else (bif Nat.beq pc 13 then some (.aload_n 0, 14, 0, 0) else none)) else (bif Nat.beq pc 12 then some (.iload_n 2, 13, 0, 0) else none)) else (bif Nat.ble 11 pc then (bif Nat.beq pc 11 then some (.iload_n 1, 12, 0, 0) else none) else (bif Nat.beq pc 8 then some (.fload 2, 11, 9, 0) else none))) else (bif Nat.ble 4 pc then (bif Nat.ble 7 pc then (bif Nat.beq pc 7 then some (.aload_n 0, 8, 0, 0) else none) else (bif Nat.beq pc 4 then some (.ifCond .eq 0, 7, 23, 0) else none)) else (bif Nat.ble 1 pc then (bif Nat.beq pc 1 then some (.invokevirtual 36, 4, 492, 0) else none) else (bif Nat.beq pc 0 then some (.aload_n 0, 1, 0, 0) else none))))
def mc_43 (pc : Nat) : Option (Instr × Nat × Nat × Nat) := bif Nat.ble 2 pc then (bif Nat.ble 3 pc then (bif Nat.ble 6 pc then (bif Nat.beq pc 6 then some (.ireturn, 7, 0, 0) else none) else (bif Nat.beq pc 3 then some (.invokevirtual 42, 6, 633, 0) else none)) else (bif Nat.beq pc 2 then some (.dload 0, 3, 0, 0) else none)) else (bif Nat.ble 1 pc then (bif Nat.beq pc 1 then some (.iload_n 1, 2, 0, 0) else none) else (bif Nat.beq pc 0 then some (.aload_n 0, 1, 0, 0) else none))
def mc_44 (pc : Nat) : Option (Instr × Nat × Nat × Nat) := bif Nat.ble 9 pc then (bif Nat.ble 13 pc then (bif Nat.ble 16 pc then (bif Nat.ble 17 pc then (bif Nat.beq pc 17 then some (.ireturn, 18, 0, 0) else none) else (bif Nat.beq pc 16 then some (.dload 0, 17, 0, 0) else none)) else (bif Nat.beq pc 13 then some (.goto 0, 16, 17, 0) else none)) else (bif Nat.ble 12 pc then (bif Nat.beq pc 12 then some (.dload 1, 13, 0, 0) else none) else (bif Nat.beq pc 9 then some (.if_icmp .gt 0, 12, 16, 0) else none))) else (bif Nat.ble 3 pc then (bif Nat.ble 6 pc then (bif Nat.ble 7 pc then (bif Nat.beq pc 7 then some (.dload 122, 9, 0, 0) else none) else (bif Nat.beq pc 6 then some (.iload_n 0, 7, 0, 0) else none)) else (bif Nat.beq pc 3 then some (.if_icmp .lt 0, 6, 16, 0) else none)) else (bif Nat.ble 1 pc then (bif Nat.beq pc 1 then some (.dload 97, 3, 0, 0) else none) else (bif Nat.beq pc 0 then some (.iload_n 0, 1, 0, 0) else none)))
def mc_45 (pc : Nat) : Option (Instr × Nat × Nat × Nat) := bif Nat.ble 60 pc then (bif Nat.ble 86 pc then (bif Nat.ble 97 pc then (bif Nat.ble 103 pc then (bif Nat.ble 105 pc then (bif Nat.ble 107 pc then (bif Nat.beq pc 107 then some (.ireturn, 108, 0, 0) else none) else (bif Nat.beq pc 105 then some (.iload 4, 107, 0, 0) else none)) else (bif Nat.ble 104 pc then (bif Nat.beq pc 104 then some (.bastore, 105, 0, 0) else none) else (bif Nat.beq pc 103 then some (.i2b, 104, 0, 0) else none))) else (bif Nat.ble 98 pc then (bif Nat.ble 101 pc then (bif Nat.beq pc 101 then some (.iload 6, 103, 0, 0) else none) else (bif Nat.beq pc 98 then some (.putfield 5, 101, 144, 4) else none)) else (bif Nat.beq pc 97 then some (.iadd, 98, 0, 0) else none))) else (bif Nat.ble 91 pc then (bif Nat.ble 95 pc then (bif Nat.ble 96 pc then (bif Nat.beq pc 96 then some (.dload 1, 97, 0, 0) else none) else (bif Nat.beq pc 95 then some (.dup_x1, 96, 0, 0) else none)) else (bif Nat.ble 92 pc then (bif Nat.beq pc 92 then some (.getfield 5, 95, 144, 4) else none) else (bif Nat.beq pc 91 then some (.dup, 92, 0, 0) else none))) else (bif Nat.ble 87 pc then (bif Nat.ble 90 pc then (bif Nat.beq pc 90 then some (.aload_n 1, 91, 0, 0) else none) else (bif Nat.beq pc 87 then some (.fload 5, 90, 159, 3) else none)) else (bif Nat.beq pc 86 then some (.aload_n 1, 87, 0, 0) else none)))) else (bif Nat.ble 70 pc then (bif Nat.ble 78 pc then (bif Nat.ble 82 pc then (bif Nat.ble 83 pc then (bif Nat.beq pc 83 then some (.invokestatic 34, 86, 132, 0) else none) else (bif Nat.beq pc 82 then some (.dload 0, 83, 0, 0) else none)) else (bif Nat.ble 79 pc then (bif Nat.beq pc 79 then some (.goto 0, 82, 83, 0) else none) else (bif Nat.beq pc 78 then some (.dload 1, 79, 0, 0) else none))) else (bif Nat.ble 73 pc then (bif Nat.ble 75 pc then (bif Nat.beq pc 75 then some (.ifCond .le 0, 78, 82, 0) else none) else (bif Nat.beq pc 73 then some (.iload 6, 75, 0, 0) else none)) else (bif Nat.beq pc 70 then some (.goto 0, 73, 10, 0) else none))) else (bif Nat.ble 65 pc then (bif Nat.ble 67 pc then (bif Nat.ble 68 pc then (bif Nat.beq pc 68 then some (.istore 6, 70, 0, 0) else none) else (bif Nat.beq pc 67 then some (.ior, 68, 0, 0) else none)) else (bif Nat.ble 66 pc then (bif Nat.beq pc 66 then some (.ishl, 67, 0, 0) else none) else (bif Nat.beq pc 65 then some (.isub, 66, 0, 0) else none))) else (bif Nat.ble 61 pc then (bif Nat.ble 63 pc then (bif Nat.beq pc 63 then some (.dload 49, 65, 0, 0) else none) else (bif Nat.beq pc 61 then some (.iload 5, 63, 0, 0) else none)) else (bif Nat.beq pc 60 then some (.dload 1, 61, 0, 0) else none))))) else (bif Nat.ble 27 pc then (bif Nat.ble 44 pc then (bif Nat.ble 50 pc then (bif Nat.ble 56 pc then (bif Nat.ble 58 pc then (bif Nat.beq pc 58 then some (.iload 6, 60, 0, 0) else none) else (bif Nat.beq pc 56 then some (.istore 5, 58, 0, 0) else none)) else (bif Nat.ble 53 pc then (bif Nat.beq pc 53 then some (.invokevirtual 33, 56, 131, 0) else none) else (bif Nat.beq pc 50 then some (.multianewarray 4 1, 53, 0, 0) else none))) else (bif Nat.ble 45 pc then (bif Nat.ble 48 pc then (bif Nat.beq pc 48 then some (.iload 4, 50, 0, 0) else none) else (bif Nat.beq pc 45 then some (.fload 0, 48, 58, 3) else none)) else (bif Nat.beq pc 44 then some (.aload_n 0, 45, 0, 0) else none))) else (bif Nat.ble 34 pc then (bif Nat.ble 39 pc then (bif Nat.ble 41 pc then (bif Nat.beq pc 41 then some (.if_icmp .gt 0, 44, 73, 0) else none) else (bif Nat.beq pc 39 then some (.dload 54, 41, 0, 0) else none)) else (bif Nat.ble 36 pc then (bif Nat.beq pc 36 then some (.invokevirtual 33, 39, 131, 0) else none) else (bif Nat.beq pc 34 then some (.iload 4, 36, 0, 0) else none))) else (bif Nat.ble 30 pc then (bif Nat.ble 31 pc then (bif Nat.beq pc 31 then some (.fload 0, 34, 58, 3) else none) else (bif Nat.beq pc 30 then some (.aload_n 0, 31, 0, 0) else none)) else (bif Nat.beq pc 27 then some (.if_icmp .le 0, 30, 73, 0) else none)))) else (bif Nat.ble 12 pc then (bif Nat.ble 17 pc then (bif Nat.ble 22 pc then (bif Nat.ble 25 pc then (bif Nat.beq pc 25 then some (.iload 5, 27, 0, 0) else none) else (bif Nat.beq pc 22 then some (.invokevirtual 33, 25, 131, 0) else none)) else (bif Nat.ble 20 pc then (bif Nat.beq pc 20 then some (.iload 4, 22, 0, 0) else none) else (bif Nat.beq pc 17 then some (.fload 0, 20, 58, 3) else none))) else (bif Nat.ble 13 pc then (bif Nat.ble 16 pc then (bif Nat.beq pc 16 then some (.aload_n 0, 17, 0, 0) else none) else (bif Nat.beq pc 13 then some (.if_icmp .ge 0, 16, 73, 0) else none)) else (bif Nat.beq pc 12 then some (.iload_n 3, 13, 0, 0) else none))) else (bif Nat.ble 5 pc then (bif Nat.ble 8 pc then (bif Nat.ble 10 pc then (bif Nat.beq pc 10 then some (.iload 4, 12, 0, 0) else none) else (bif Nat.beq pc 8 then some (.istore 6, 10, 0, 0) else none)) else (bif Nat.ble 7 pc then (bif Nat.beq pc 7 then some (.dload 0, 8, 0, 0) else none) else (bif Nat.beq pc 5 then some (.istore 5, 7, 0, 0) else none))) else (bif Nat.ble 1 pc then (bif Nat.ble 3 pc then (bif Nat.beq pc 3 then some (.dload 48, 5, 0, 0) else none) else (bif Nat.beq pc 1 then some (.istore 4, 3, 0, 0) else none)) else (bif Nat.beq pc 0 then some (.iload_n 2, 1, 0, 0) else none)))))
def mc_46 (pc : Nat) : Option (Instr × Nat × Nat × Nat) := bif Nat.ble 35 pc then (bif Nat.ble 53 pc then (bif Nat.ble 62 pc then (bif Nat.ble 66 pc then (bif Nat.ble 69 pc then (bif Nat.ble 70 pc then (bif Nat.beq pc 70 then some (.ireturn, 71, 0, 0) else none) else (bif Nat.beq pc 69 then some (.iload_n 2, 70, 0, 0) else none)) else (bif Nat.beq pc 66 then some (.goto 0, 69, 30, 0) else none)) else (bif Nat.ble 63 pc then (bif Nat.beq pc 63 then some (.multianewarray 3 1, 66, 0, 0) else none) else (bif Nat.beq pc 62 then some (.istore_n 2, 63, 0, 0) else none))) else (bif Nat.ble 57 pc then (bif Nat.ble 58 pc then (bif Nat.ble 61 pc then (bif Nat.beq pc 61 then some (.dload 0, 62, 0, 0) else none) else (bif Nat.beq pc 58 then some (.goto 0, 61, 62, 0) else none)) else (bif Nat.beq pc 57 then some (.dload 1, 58, 0, 0) else none)) else (bif Nat.ble 54 pc then (bif Nat.beq pc 54 then some (.if_icmp .ne 0, 57, 61, 0) else none) else (bif Nat.beq pc 53 then some (.caload, 54, 0, 0) else none)))) else (bif Nat.ble 46 pc then (bif Nat.ble 48 pc then (bif Nat.ble 49 pc then (bif Nat.ble 52 pc then (bif Nat.beq pc 52 then some (.iload_n 3, 53, 0, 0) else none) else (bif Nat.beq pc 49 then some (.fload 5, 52, 9, 1) else none)) else (bif Nat.beq pc 48 then some (.aload_n 1, 49, 0, 0) else none)) else (bif Nat.ble 47 pc then (bif Nat.beq pc 47 then some (.caload, 48, 0, 0) else none) else (bif Nat.beq pc 46 then some (.iload_n 3, 47, 0, 0) else none))) else (bif Nat.ble 39 pc then (bif Nat.ble 42 pc then (bif Nat.ble 43 pc then (bif Nat.beq pc 43 then some (.fload 5, 46, 9, 1) else none) else (bif Nat.beq pc 42 then some (.aload_n 0, 43, 0, 0) else none)) else (bif Nat.beq pc 39 then some (.ifCond .eq 0, 42, 69, 0) else none)) else (bif Nat.ble 38 pc then (bif Nat.beq pc 38 then some (.iload_n 2, 39, 0, 0) else none) else (bif Nat.beq pc 35 then some (.if_icmp .ge 0, 38, 69, 0) else none))))) else (bif Nat.ble 19 pc then (bif Nat.ble 28 pc then (bif Nat.ble 30 pc then (bif Nat.ble 31 pc then (bif Nat.ble 32 pc then (bif Nat.beq pc 32 then some (.getfield 5, 35, 23, 2) else none) else (bif Nat.beq pc 31 then some (.aload_n 0, 32, 0, 0) else none)) else (bif Nat.beq pc 30 then some (.iload_n 3, 31, 0, 0) else none)) else (bif Nat.ble 29 pc then (bif Nat.beq pc 29 then some (.istore_n 3, 30, 0, 0) else none) else (bif Nat.beq pc 28 then some (.dload 0, 29, 0, 0) else none))) else (bif Nat.ble 23 pc then (bif Nat.ble 26 pc then (bif Nat.ble 27 pc then (bif Nat.beq pc 27 then some (.istore_n 2, 28, 0, 0) else none) else (bif Nat.beq pc 26 then some (.dload 0, 27, 0, 0) else none)) else (bif Nat.beq pc 23 then some (.goto 0, 26, 27, 0) else none)) else (bif Nat.ble 22 pc then (bif Nat.beq pc 22 then some (.dload 1, 23, 0, 0) else none) else (bif Nat.beq pc 19 then some (.if_icmp .ne 0, 22, 26, 0) else none)))) else (bif Nat.ble 8 pc then (bif Nat.ble 12 pc then (bif Nat.ble 15 pc then (bif Nat.ble 16 pc then (bif Nat.beq pc 16 then some (.getfield 5, 19, 23, 2) else none) else (bif Nat.beq pc 15 then some (.aload_n 1, 16, 0, 0) else none)) else (bif Nat.beq pc 12 then some (.getfield 5, 15, 23, 2) else none)) else (bif Nat.ble 11 pc then (bif Nat.beq pc 11 then some (.aload_n 0, 12, 0, 0) else none) else (bif Nat.beq pc 8 then some (.if_icmp .ne 0, 11, 26, 0) else none))) else (bif Nat.ble 4 pc then (bif Nat.ble 5 pc then (bif Nat.beq pc 5 then some (.getfield 5, 8, 19, 0) else none) else (bif Nat.beq pc 4 then some (.aload_n 1, 5, 0, 0) else none)) else (bif Nat.ble 1 pc then (bif Nat.beq pc 1 then some (.getfield 5, 4, 19, 0) else none) else (bif Nat.beq pc 0 then some (.aload_n 0, 1, 0, 0) else none)))))
def mc_47 (pc : Nat) : Option (Instr × Nat × Nat × Nat) := bif Nat.ble 164 pc then (bif Nat.ble 253 pc then (bif Nat.ble 297 pc then (bif Nat.ble 321 pc then (bif Nat.ble 332 pc then (bif Nat.ble 337 pc then (bif Nat.ble 338 pc then (bif Nat.ble 341 pc then (bif Nat.beq pc 341 then some (.return_, 342, 0, 0) else none) else (bif Nat.beq pc 338 then some (.putfield 0, 341, 128, 5) else none)) else (bif Nat.beq pc 337 then some (.iadd, 338, 0, 0) else none)) else (bif Nat.ble 333 pc then (bif Nat.ble 336 pc then (bif Nat.beq pc 336 then some (.dload 1, 337, 0, 0) else none) else (bif Nat.beq pc 333 then some (.getfield 0, 336, 128, 5) else none)) else (bif Nat.beq pc 332 then some (.dup, 333, 0, 0) else none))) else (bif Nat.ble 325 pc then (bif Nat.ble 328 pc then (bif Nat.ble 331 pc then (bif Nat.beq pc 331 then some (.aload_n 0, 332, 0, 0) else none) else (bif Nat.beq pc 328 then some (.goto 0, 331, 294, 0) else none)) else (bif Nat.beq pc 325 then some (.multianewarray 5 1, 328, 0, 0) else none)) else (bif Nat.ble 322 pc then (bif Nat.beq pc 322 then some (.invokestatic 34, 325, 132, 0) else none) else (bif Nat.beq pc 321 then some (.dload 0, 322, 0, 0) else none)))) else (bif Nat.ble 309 pc then (bif Nat.ble 314 pc then (bif Nat.ble 317 pc then (bif Nat.ble 318 pc then (bif Nat.beq pc 318 then some (.goto 0, 321, 322, 0) else none) else (bif Nat.beq pc 317 then some (.dload 1, 318, 0, 0) else none)) else (bif Nat.beq pc 314 then some (.ifCond .ne 0, 317, 321, 0) else none)) else (bif Nat.ble 310 pc then (bif Nat.ble 311 pc then (bif Nat.beq pc 311 then some (.invokevirtual 46, 314, 155, 0) else none) else (bif Nat.beq pc 310 then some (.aload_n 3, 311, 0, 0) else none)) else (bif Nat.beq pc 309 then some (.aaload, 310, 0, 0) else none))) else (bif Nat.ble 303 pc then (bif Nat.ble 304 pc then (bif Nat.ble 307 pc then (bif Nat.beq pc 307 then some (.iload 5, 309, 0, 0) else none) else (bif Nat.beq pc 304 then some (.fload 0, 307, 64, 4) else none)) else (bif Nat.beq pc 303 then some (.aload_n 0, 304, 0, 0) else none)) else (bif Nat.ble 300 pc then (bif Nat.beq pc 300 then some (.if_icmp .ge 0, 303, 331, 0) else none) else (bif Nat.beq pc 297 then some (.getfield 0, 300, 128, 5) else none))))) else (bif Nat.ble 275 pc then (bif Nat.ble 285 pc then (bif Nat.ble 292 pc then (bif Nat.ble 294 pc then (bif Nat.ble 296 pc then (bif Nat.beq pc 296 then some (.aload_n 0, 297, 0, 0) else none) else (bif Nat.beq pc 294 then some (.iload 5, 296, 0, 0) else none)) else (bif Nat.beq pc 292 then some (.istore 5, 294, 0, 0) else none)) else (bif Nat.ble 288 pc then (bif Nat.ble 291 pc then (bif Nat.beq pc 291 then some (.dload 0, 292, 0, 0) else none) else (bif Nat.beq pc 288 then some (.goto 0, 291, 226, 0) else none)) else (bif Nat.beq pc 285 then some (.invokestatic 34, 288, 132, 0) else none))) else (bif Nat.ble 280 pc then (bif Nat.ble 281 pc then (bif Nat.ble 284 pc then (bif Nat.beq pc 284 then some (.dload 0, 285, 0, 0) else none) else (bif Nat.beq pc 281 then some (.goto 0, 284, 285, 0) else none)) else (bif Nat.beq pc 280 then some (.dload 1, 281, 0, 0) else none)) else (bif Nat.ble 277 pc then (bif Nat.beq pc 277 then some (.if_icmp .ne 0, 280, 284, 0) else none) else (bif Nat.beq pc 275 then some (.dload 45, 277, 0, 0) else none)))) else (bif Nat.ble 262 pc then (bif Nat.ble 267 pc then (bif Nat.ble 270 pc then (bif Nat.ble 272 pc then (bif Nat.beq pc 272 then some (.invokevirtual 33, 275, 131, 0) else none) else (bif Nat.beq pc 270 then some (.iload 4, 272, 0, 0) else none)) else (bif Nat.beq pc 267 then some (.fload 0, 270, 58, 3) else none)) else (bif Nat.ble 263 pc then (bif Nat.ble 266 pc then (bif Nat.beq pc 266 then some (.aload_n 0, 267, 0, 0) else none) else (bif Nat.beq pc 263 then some (.if_icmp .eq 0, 266, 280, 0) else none)) else (bif Nat.beq pc 262 then some (.iload_n 2, 263, 0, 0) else none))) else (bif Nat.ble 255 pc then (bif Nat.ble 258 pc then (bif Nat.ble 260 pc then (bif Nat.beq pc 260 then some (.iload 4, 262, 0, 0) else none) else (bif Nat.beq pc 258 then some (.istore 4, 260, 0, 0) else none)) else (bif Nat.beq pc 255 then some (.invokevirtual 45, 258, 151, 0) else none)) else (bif Nat.ble 254 pc then (bif Nat.beq pc 254 then some (.iload_n 2, 255, 0, 0) else none) else (bif Nat.beq pc 253 then some (.iadd, 254, 0, 0) else none)))))) else (bif Nat.ble 210 pc then (bif Nat.ble 233 pc then (bif Nat.ble 244 pc then (bif Nat.ble 249 pc then (bif Nat.ble 250 pc then (bif Nat.ble 252 pc then (bif Nat.beq pc 252 then some (.dload 1, 253, 0, 0) else none) else (bif Nat.beq pc 250 then some (.iload 4, 252, 0, 0) else none)) else (bif Nat.beq pc 249 then some (.aload_n 3, 250, 0, 0) else none)) else (bif Nat.ble 245 pc then (bif Nat.ble 248 pc then (bif Nat.beq pc 248 then some (.aload_n 0, 249, 0, 0) else none) else (bif Nat.beq pc 245 then some (.invokestatic 34, 248, 132, 0) else none)) else (bif Nat.beq pc 244 then some (.dload 0, 245, 0, 0) else none))) else (bif Nat.ble 237 pc then (bif Nat.ble 240 pc then (bif Nat.ble 241 pc then (bif Nat.beq pc 241 then some (.goto 0, 244, 245, 0) else none) else (bif Nat.beq pc 240 then some (.dload 1, 241, 0, 0) else none)) else (bif Nat.beq pc 237 then some (.if_icmp .ge 0, 240, 244, 0) else none)) else (bif Nat.ble 236 pc then (bif Nat.beq pc 236 then some (.dload 3, 237, 0, 0) else none) else (bif Nat.beq pc 233 then some (.getfield 5, 236, 144, 4) else none)))) else (bif Nat.ble 222 pc then (bif Nat.ble 228 pc then (bif Nat.ble 229 pc then (bif Nat.ble 232 pc then (bif Nat.beq pc 232 then some (.aload_n 3, 233, 0, 0) else none) else (bif Nat.beq pc 229 then some (.if_icmp .ge 0, 232, 291, 0) else none)) else (bif Nat.beq pc 228 then some (.iload_n 2, 229, 0, 0) else none)) else (bif Nat.ble 223 pc then (bif Nat.ble 226 pc then (bif Nat.beq pc 226 then some (.iload 4, 228, 0, 0) else none) else (bif Nat.beq pc 223 then some (.invokestatic 34, 226, 132, 0) else none)) else (bif Nat.beq pc 222 then some (.dload 0, 223, 0, 0) else none))) else (bif Nat.ble 215 pc then (bif Nat.ble 218 pc then (bif Nat.ble 219 pc then (bif Nat.beq pc 219 then some (.goto 0, 222, 223, 0) else none) else (bif Nat.beq pc 218 then some (.dload 1, 219, 0, 0) else none)) else (bif Nat.beq pc 215 then some (.if_icmp .ne 0, 218, 222, 0) else none)) else (bif Nat.ble 213 pc then (bif Nat.beq pc 213 then some (.dload 61, 215, 0, 0) else none) else (bif Nat.beq pc 210 then some (.invokevirtual 33, 213, 131, 0) else none))))) else (bif Nat.ble 187 pc then (bif Nat.ble 198 pc then (bif Nat.ble 204 pc then (bif Nat.ble 205 pc then (bif Nat.ble 208 pc then (bif Nat.beq pc 208 then some (.iload 4, 210, 0, 0) else none) else (bif Nat.beq pc 205 then some (.fload 0, 208, 58, 3) else none)) else (bif Nat.beq pc 204 then some (.aload_n 0, 205, 0, 0) else none)) else (bif Nat.ble 200 pc then (bif Nat.ble 201 pc then (bif Nat.beq pc 201 then some (.if_icmp .ge 0, 204, 222, 0) else none) else (bif Nat.beq pc 200 then some (.iload_n 2, 201, 0, 0) else none)) else (bif Nat.beq pc 198 then some (.iload 4, 200, 0, 0) else none))) else (bif Nat.ble 191 pc then (bif Nat.ble 194 pc then (bif Nat.ble 195 pc then (bif Nat.beq pc 195 then some (.if_icmp .lt 0, 198, 222, 0) else none) else (bif Nat.beq pc 194 then some (.dload 2, 195, 0, 0) else none)) else (bif Nat.beq pc 191 then some (.getfield 5, 194, 142, 2) else none)) else (bif Nat.ble 190 pc then (bif Nat.beq pc 190 then some (.aload_n 3, 191, 0, 0) else none) else (bif Nat.beq pc 187 then some (.ifCond .lt 0, 190, 222, 0) else none)))) else (bif Nat.ble 176 pc then (bif Nat.ble 180 pc then (bif Nat.ble 183 pc then (bif Nat.ble 184 pc then (bif Nat.beq pc 184 then some (.getfield 5, 187, 139, 0) else none) else (bif Nat.beq pc 183 then some (.aload_n 3, 184, 0, 0) else none)) else (bif Nat.beq pc 180 then some (.goto 0, 183, 114, 0) else none)) else (bif Nat.ble 179 pc then (bif Nat.beq pc 179 then some (.castore, 180, 0, 0) else none) else (bif Nat.beq pc 176 then some (.invokevirtual 33, 179, 131, 0) else none))) else (bif Nat.ble 168 pc then (bif Nat.ble 171 pc then (bif Nat.ble 173 pc then (bif Nat.beq pc 173 then some (.multianewarray 4 1, 176, 0, 0) else none) else (bif Nat.beq pc 171 then some (.iload 4, 173, 0, 0) else none)) else (bif Nat.beq pc 168 then some (.fload 0, 171, 58, 3) else none)) else (bif Nat.ble 167 pc then (bif Nat.beq pc 167 then some (.aload_n 0, 168, 0, 0) else none) else (bif Nat.beq pc 164 then some (.putfield 5, 167, 142, 2) else none))))))) else (bif Nat.ble 82 pc then (bif Nat.ble 120 pc then (bif Nat.ble 145 pc then (bif Nat.ble 156 pc then (bif Nat.ble 161 pc then (bif Nat.ble 162 pc then (bif Nat.ble 163 pc then (bif Nat.beq pc 163 then some (.iadd, 164, 0, 0) else none) else (bif Nat.beq pc 162 then some (.dload 1, 163, 0, 0) else none)) else (bif Nat.beq pc 161 then some (.dup_x1, 162, 0, 0) else none)) else (bif Nat.ble 157 pc then (bif Nat.ble 158 pc then (bif Nat.beq pc 158 then some (.getfield 5, 161, 142, 2) else none) else (bif Nat.beq pc 157 then some (.dup, 158, 0, 0) else none)) else (bif Nat.beq pc 156 then some (.aload_n 3, 157, 0, 0) else none))) else (bif Nat.ble 149 pc then (bif Nat.ble 152 pc then (bif Nat.ble 153 pc then (bif Nat.beq pc 153 then some (.fload 5, 156, 147, 1) else none) else (bif Nat.beq pc 152 then some (.aload_n 3, 153, 0, 0) else none)) else (bif Nat.beq pc 149 then some (.invokestatic 34, 152, 132, 0) else none)) else (bif Nat.ble 148 pc then (bif Nat.beq pc 148 then some (.dload 0, 149, 0, 0) else none) else (bif Nat.beq pc 145 then some (.goto 0, 148, 149, 0) else none)))) else (bif Nat.ble 132 pc then (bif Nat.ble 139 pc then (bif Nat.ble 141 pc then (bif Nat.ble 144 pc then (bif Nat.beq pc 144 then some (.dload 1, 145, 0, 0) else none) else (bif Nat.beq pc 141 then some (.if_icmp .ge 0, 144, 148, 0) else none)) else (bif Nat.beq pc 139 then some (.dload 6, 141, 0, 0) else none)) else (bif Nat.ble 135 pc then (bif Nat.ble 136 pc then (bif Nat.beq pc 136 then some (.getfield 5, 139, 142, 2) else none) else (bif Nat.beq pc 135 then some (.aload_n 3, 136, 0, 0) else none)) else (bif Nat.beq pc 132 then some (.ifCond .eq 0, 135, 183, 0) else none))) else (bif Nat.ble 124 pc then (bif Nat.ble 126 pc then (bif Nat.ble 129 pc then (bif Nat.beq pc 129 then some (.invokestatic 44, 132, 1, 0) else none) else (bif Nat.beq pc 126 then some (.invokevirtual 33, 129, 131, 0) else none)) else (bif Nat.beq pc 124 then some (.iload 4, 126, 0, 0) else none)) else (bif Nat.ble 121 pc then (bif Nat.beq pc 121 then some (.fload 0, 124, 58, 3) else none) else (bif Nat.beq pc 120 then some (.aload_n 0, 121, 0, 0) else none))))) else (bif Nat.ble 101 pc then (bif Nat.ble 110 pc then (bif Nat.ble 114 pc then (bif Nat.ble 116 pc then (bif Nat.ble 117 pc then (bif Nat.beq pc 117 then some (.if_icmp .ge 0, 120, 183, 0) else none) else (bif Nat.beq pc 116 then some (.iload_n 2, 117, 0, 0) else none)) else (bif Nat.beq pc 114 then some (.iload 4, 116, 0, 0) else none)) else (bif Nat.ble 111 pc then (bif Nat.ble 112 pc then (bif Nat.beq pc 112 then some (.istore 4, 114, 0, 0) else none) else (bif Nat.beq pc 111 then some (.iadd, 112, 0, 0) else none)) else (bif Nat.beq pc 110 then some (.dload 2, 111, 0, 0) else none))) else (bif Nat.ble 105 pc then (bif Nat.ble 106 pc then (bif Nat.ble 109 pc then (bif Nat.beq pc 109 then some (.iload_n 1, 110, 0, 0) else none) else (bif Nat.beq pc 106 then some (.putfield 5, 109, 144, 4) else none)) else (bif Nat.beq pc 105 then some (.dload 0, 106, 0, 0) else none)) else (bif Nat.ble 104 pc then (bif Nat.beq pc 104 then some (.aload_n 3, 105, 0, 0) else none) else (bif Nat.beq pc 101 then some (.putfield 5, 104, 142, 2) else none)))) else (bif Nat.ble 90 pc then (bif Nat.ble 96 pc then (bif Nat.ble 99 pc then (bif Nat.ble 100 pc then (bif Nat.beq pc 100 then some (.dload 0, 101, 0, 0) else none) else (bif Nat.beq pc 99 then some (.aload_n 3, 100, 0, 0) else none)) else (bif Nat.beq pc 96 then some (.putfield 5, 99, 139, 0) else none)) else (bif Nat.ble 93 pc then (bif Nat.beq pc 93 then some (.invokevirtual 43, 96, 29, 0) else none) else (bif Nat.beq pc 90 then some (.invokevirtual 33, 93, 131, 0) else none))) else (bif Nat.ble 85 pc then (bif Nat.ble 86 pc then (bif Nat.ble 89 pc then (bif Nat.beq pc 89 then some (.iload_n 1, 90, 0, 0) else none) else (bif Nat.beq pc 86 then some (.fload 0, 89, 58, 3) else none)) else (bif Nat.beq pc 85 then some (.aload_n 0, 86, 0, 0) else none)) else (bif Nat.ble 83 pc then (bif Nat.beq pc 83 then some (.ldc 0, 85, 137, 0) else none) else (bif Nat.beq pc 82 then some (.aload_n 3, 83, 0, 0) else none)))))) else (bif Nat.ble 40 pc then (bif Nat.ble 63 pc then (bif Nat.ble 72 pc then (bif Nat.ble 77 pc then (bif Nat.ble 80 pc then (bif Nat.ble 81 pc then (bif Nat.beq pc 81 then some (.aastore, 82, 0, 0) else none) else (bif Nat.beq pc 80 then some (.aload_n 3, 81, 0, 0) else none)) else (bif Nat.beq pc 77 then some (.getfield 0, 80, 128, 5) else none)) else (bif Nat.ble 73 pc then (bif Nat.ble 76 pc then (bif Nat.beq pc 76 then some (.aload_n 0, 77, 0, 0) else none) else (bif Nat.beq pc 73 then some (.fload 0, 76, 64, 4) else none)) else (bif Nat.beq pc 72 then some (.aload_n 0, 73, 0, 0) else none))) else (bif Nat.ble 67 pc then (bif Nat.ble 70 pc then (bif Nat.ble 71 pc then (bif Nat.beq pc 71 then some (.astore_n 3, 72, 0, 0) else none) else (bif Nat.beq pc 70 then some (.aaload, 71, 0, 0) else none)) else (bif Nat.beq pc 67 then some (.getfield 0, 70, 128, 5) else none)) else (bif Nat.ble 66 pc then (bif Nat.beq pc 66 then some (.aload_n 0, 67, 0, 0) else none) else (bif Nat.beq pc 63 then some (.fload 0, 66, 64, 4) else none)))) else (bif Nat.ble 49 pc then (bif Nat.ble 56 pc then (bif Nat.ble 59 pc then (bif Nat.ble 62 pc then (bif Nat.beq pc 62 then some (.aload_n 0, 63, 0, 0) else none) else (bif Nat.beq pc 59 then some (.goto 0, 62, 71, 0) else none)) else (bif Nat.beq pc 56 then some (.invokespecial 35, 59, 136, 0) else none)) else (bif Nat.ble 52 pc then (bif Nat.ble 55 pc then (bif Nat.beq pc 55 then some (.dup, 56, 0, 0) else none) else (bif Nat.beq pc 52 then some (.new 5, 55, 62, 0) else none)) else (bif Nat.beq pc 49 then some (.ifnonnull 0, 52, 62, 0) else none))) else (bif Nat.ble 44 pc then (bif Nat.ble 45 pc then (bif Nat.ble 48 pc then (bif Nat.beq pc 48 then some (.aaload, 49, 0, 0) else none) else (bif Nat.beq pc 45 then some (.getfield 0, 48, 128, 5) else none)) else (bif Nat.beq pc 44 then some (.aload_n 0, 45, 0, 0) else none)) else (bif Nat.ble 41 pc then (bif Nat.beq pc 41 then some (.fload 0, 44, 64, 4) else none) else (bif Nat.beq pc 40 then some (.aload_n 0, 41, 0, 0) else none))))) else (bif Nat.ble 18 pc then (bif Nat.ble 27 pc then (bif Nat.ble 33 pc then (bif Nat.ble 36 pc then (bif Nat.ble 37 pc then (bif Nat.beq pc 37 then some (.invokestatic 34, 40, 132, 0) else none) else (bif Nat.beq pc 36 then some (.dload 0, 37, 0, 0) else none)) else (bif Nat.beq pc 33 then some (.goto 0, 36, 37, 0) else none)) else (bif Nat.ble 29 pc then (bif Nat.ble 32 pc then (bif Nat.beq pc 32 then some (.dload 1, 33, 0, 0) else none) else (bif Nat.beq pc 29 then some (.if_icmp .ne 0, 32, 36, 0) else none)) else (bif Nat.beq pc 27 then some (.dload 32, 29, 0, 0) else none))) else (bif Nat.ble 22 pc then (bif Nat.ble 23 pc then (bif Nat.ble 24 pc then (bif Nat.beq pc 24 then some (.invokevirtual 33, 27, 131, 0) else none) else (bif Nat.beq pc 23 then some (.iadd, 24, 0, 0) else none)) else (bif Nat.beq pc 22 then some (.dload 1, 23, 0, 0) else none)) else (bif Nat.ble 21 pc then (bif Nat.beq pc 21 then some (.iload_n 1, 22, 0, 0) else none) else (bif Nat.beq pc 18 then some (.fload 0, 21, 58, 3) else none)))) else (bif Nat.ble 10 pc then (bif Nat.ble 12 pc then (bif Nat.ble 14 pc then (bif Nat.ble 17 pc then (bif Nat.beq pc 17 then some (.aload_n 0, 18, 0, 0) else none) else (bif Nat.beq pc 14 then some (.if_icmp .lt 0, 17, 36, 0) else none)) else (bif Nat.beq pc 12 then some (.dload 6, 14, 0, 0) else none)) else (bif Nat.ble 11 pc then (bif Nat.beq pc 11 then some (.isub, 12, 0, 0) else none) else (bif Nat.beq pc 10 then some (.iload_n 1, 11, 0, 0) else none))) else (bif Nat.ble 4 pc then (bif Nat.ble 6 pc then (bif Nat.ble 9 pc then (bif Nat.beq pc 9 then some (.iload_n 2, 10, 0, 0) else none) else (bif Nat.beq pc 6 then some (.if_icmp .ge 0, 9, 36, 0) else none)) else (bif Nat.beq pc 4 then some (.dload 24, 6, 0, 0) else none)) else (bif Nat.ble 1 pc then (bif Nat.beq pc 1 then some (.getfield 0, 4, 128, 5) else none) else (bif Nat.beq pc 0 then some (.aload_n 0, 1, 0, 0) else none)))))))
def mc_48 (pc : Nat) : Option (Instr × Nat × Nat × Nat) := bif Nat.ble 6 pc then (bif Nat.ble 8 pc then (bif Nat.ble 9 pc then (bif Nat.ble 10 pc then (bif Nat.beq pc 10 then some (.ireturn, 11, 0, 0) else none) else (bif Nat.beq pc 9 then some (.dload 0, 10, 0, 0) else none)) else (bif Nat.beq pc 8 then some (.astore_n 3, 9, 0, 0) else none)) else (bif Nat.ble 7 pc then (bif Nat.beq pc 7 then some (.ireturn, 8, 0, 0) else none) else (bif Nat.beq pc 6 then some (.dload 1, 7, 0, 0) else none))) else (bif Nat.ble 2 pc then (bif Nat.ble 3 pc then (bif Nat.beq pc 3 then some (.invokevirtual 47, 6, 163, 0) else none) else (bif Nat.beq pc 2 then some (.iload_n 2, 3, 0, 0) else none)) else (bif Nat.ble 1 pc then (bif Nat.beq pc 1 then some (.iload_n 1, 2, 0, 0) else none) else (bif Nat.beq pc 0 then some (.aload_n 0, 1, 0, 0) else none)))
def mc_49 (pc : Nat) : Option (Instr × Nat × Nat × Nat) := bif Nat.ble 65 pc then (bif Nat.ble 100 pc then (bif Nat.ble 118 pc then (bif Nat.ble 130 pc then (bif Nat.ble 134 pc then (bif Nat.ble 135 pc then (bif Nat.ble 138 pc then (bif Nat.beq pc 138 then some (.ireturn, 139, 0, 0) else none) else (bif Nat.beq pc 135 then some (.getfield 0, 138, 128, 5) else none)) else (bif Nat.beq pc 134 then some (.aload_n 0, 135, 0, 0) else none)) else (bif Nat.ble 131 pc then (bif Nat.beq pc 131 then some (.invokevirtual 28, 134, 171, 0) else none) else (bif Nat.beq pc 130 then some (.aload_n 0, 131, 0, 0) else none))) else (bif Nat.ble 122 pc then (bif Nat.ble 125 pc then (bif Nat.beq pc 125 then some (.dup, 126, 0, 0) else none) else (bif Nat.beq pc 122 then some (.jsr 524400, 125, 110, 0) else none)) else (bif Nat.ble 119 pc then (bif Nat.beq pc 119 then some (.putfield 0, 122, 128, 5) else none) else (bif Nat.beq pc 118 then some (.iload_n 2, 119, 0, 0) else none)))) else (bif Nat.ble 110 pc then (bif Nat.ble 114 pc then (bif Nat.ble 117 pc then (bif Nat.beq pc 117 then some (.aload_n 0, 118, 0, 0) else none) else (bif Nat.beq pc 114 then some (.ifCond .ne 0, 117, 130, 0) else none)) else (bif Nat.ble 113 pc then (bif Nat.beq pc 113 then some (.iload_n 1, 114, 0, 0) else none) else (bif Nat.beq pc 110 then some (.ifCond .lt 0, 113, 130, 0) else none))) else (bif Nat.ble 106 pc then (bif Nat.ble 107 pc then (bif Nat.beq pc 107 then some (.getfield 0, 110, 68, 6) else none) else (bif Nat.beq pc 106 then some (.aload_n 0, 107, 0, 0) else none)) else (bif Nat.ble 103 pc then (bif Nat.beq pc 103 then some (.goto 0, 106, 15, 0) else none) else (bif Nat.beq pc 100 then some (.multianewarray 4 1, 103, 0, 0) else none))))) else (bif Nat.ble 83 pc then (bif Nat.ble 92 pc then (bif Nat.ble 97 pc then (bif Nat.ble 98 pc then (bif Nat.ble 99 pc then (bif Nat.beq pc 99 then some (.istore_n 3, 100, 0, 0) else none) else (bif Nat.beq pc 98 then some (.iadd, 99, 0, 0) else none)) else (bif Nat.beq pc 97 then some (.dload 1, 98, 0, 0) else none)) else (bif Nat.ble 95 pc then (bif Nat.beq pc 95 then some (.iload 5, 97, 0, 0) else none) else (bif Nat.beq pc 92 then some (.putfield 0, 95, 68, 6) else none))) else (bif Nat.ble 87 pc then (bif Nat.ble 90 pc then (bif Nat.beq pc 90 then some (.iload 4, 92, 0, 0) else none) else (bif Nat.beq pc 87 then some (.goto 0, 90, 92, 0) else none)) else (bif Nat.ble 84 pc then (bif Nat.beq pc 84 then some (.getfield 0, 87, 68, 6) else none) else (bif Nat.beq pc 83 then some (.aload_n 0, 84, 0, 0) else none)))) else (bif Nat.ble 73 pc then (bif Nat.ble 77 pc then (bif Nat.ble 80 pc then (bif Nat.beq pc 80 then some (.ifCond .lt 0, 83, 90, 0) else none) else (bif Nat.beq pc 77 then some (.getfield 0, 80, 68, 6) else none)) else (bif Nat.ble 76 pc then (bif Nat.beq pc 76 then some (.aload_n 0, 77, 0, 0) else none) else (bif Nat.beq pc 73 then some (.ifCond .ne 0, 76, 83, 0) else none))) else (bif Nat.ble 70 pc then (bif Nat.ble 71 pc then (bif Nat.beq pc 71 then some (.iload 6, 73, 0, 0) else none) else (bif Nat.beq pc 70 then some (.aload_n 0, 71, 0, 0) else none)) else (bif Nat.ble 68 pc then (bif Nat.beq pc 68 then some (.istore 6, 70, 0, 0) else none) else (bif Nat.beq pc 65 then some (.invokevirtual 48, 68, 167, 0) else none)))))) else (bif Nat.ble 27 pc then (bif Nat.ble 45 pc then (bif Nat.ble 55 pc then (bif Nat.ble 61 pc then (bif Nat.ble 62 pc then (bif Nat.ble 63 pc then (bif Nat.beq pc 63 then some (.iload 5, 65, 0, 0) else none) else (bif Nat.beq pc 62 then some (.iload_n 3, 63, 0, 0) else none)) else (bif Nat.beq pc 61 then some (.aload_n 0, 62, 0, 0) else none)) else (bif Nat.ble 58 pc then (bif Nat.beq pc 58 then some (.goto 0, 61, 29, 0) else none) else (bif Nat.beq pc 55 then some (.multianewarray 5 1, 58, 0, 0) else none))) else (bif Nat.ble 50 pc then (bif Nat.ble 52 pc then (bif Nat.beq pc 52 then some (.if_icmp .eq 0, 55, 61, 0) else none) else (bif Nat.beq pc 50 then some (.dload 59, 52, 0, 0) else none)) else (bif Nat.ble 47 pc then (bif Nat.beq pc 47 then some (.invokevirtual 33, 50, 131, 0) else none) else (bif Nat.beq pc 45 then some (.iload 5, 47, 0, 0) else none)))) else (bif Nat.ble 35 pc then (bif Nat.ble 41 pc then (bif Nat.ble 42 pc then (bif Nat.beq pc 42 then some (.fload 0, 45, 58, 3) else none) else (bif Nat.beq pc 41 then some (.aload_n 0, 42, 0, 0) else none)) else (bif Nat.ble 38 pc then (bif Nat.beq pc 38 then some (.if_icmp .ge 0, 41, 61, 0) else none) else (bif Nat.beq pc 35 then some (.invokevirtual 13, 38, 113, 0) else none))) else (bif Nat.ble 31 pc then (bif Nat.ble 32 pc then (bif Nat.beq pc 32 then some (.fload 0, 35, 58, 3) else none) else (bif Nat.beq pc 31 then some (.aload_n 0, 32, 0, 0) else none)) else (bif Nat.ble 29 pc then (bif Nat.beq pc 29 then some (.iload 5, 31, 0, 0) else none) else (bif Nat.beq pc 27 then some (.istore 5, 29, 0, 0) else none))))) else (bif Nat.ble 12 pc then (bif Nat.ble 17 pc then (bif Nat.ble 23 pc then (bif Nat.ble 26 pc then (bif Nat.beq pc 26 then some (.iload_n 3, 27, 0, 0) else none) else (bif Nat.beq pc 23 then some (.if_icmp .gt 0, 26, 106, 0) else none)) else (bif Nat.ble 20 pc then (bif Nat.beq pc 20 then some (.invokevirtual 13, 23, 113, 0) else none) else (bif Nat.beq pc 17 then some (.fload 0, 20, 58, 3) else none))) else (bif Nat.ble 15 pc then (bif Nat.ble 16 pc then (bif Nat.beq pc 16 then some (.aload_n 0, 17, 0, 0) else none) else (bif Nat.beq pc 15 then some (.iload_n 3, 16, 0, 0) else none)) else (bif Nat.ble 13 pc then (bif Nat.beq pc 13 then some (.istore 4, 15, 0, 0) else none) else (bif Nat.beq pc 12 then some (.dload 0, 13, 0, 0) else none)))) else (bif Nat.ble 6 pc then (bif Nat.ble 10 pc then (bif Nat.ble 11 pc then (bif Nat.beq pc 11 then some (.istore_n 3, 12, 0, 0) else none) else (bif Nat.beq pc 10 then some (.dload 0, 11, 0, 0) else none)) else (bif Nat.ble 7 pc then (bif Nat.beq pc 7 then some (.putfield 0, 10, 68, 6) else none) else (bif Nat.beq pc 6 then some (.dstore 1, 7, 0, 0) else none))) else (bif Nat.ble 4 pc then (bif Nat.ble 5 pc then (bif Nat.beq pc 5 then some (.aload_n 0, 6, 0, 0) else none) else (bif Nat.beq pc 4 then some (.istore_n 2, 5, 0, 0) else none)) else (bif Nat.ble 1 pc then (bif Nat.beq pc 1 then some (.getfield 0, 4, 128, 5) else none) else (bif Nat.beq pc 0 then some (.aload_n 0, 1, 0, 0) else none))))))
def mc_50 (pc : Nat) : Option (Instr × Nat × Nat × Nat) := bif Nat.ble 8 pc then (bif Nat.ble 13 pc then (bif Nat.ble 15 pc then (bif Nat.ble 16 pc then (bif Nat.beq pc 16 then some (.ireturn, 17, 0, 0) else none) else (bif Nat.beq pc 15 then some (.dload 0, 16, 0, 0) else none)) else (bif Nat.ble 14 pc then (bif Nat.beq pc 14 then some (.ireturn, 15, 0, 0) else none) else (bif Nat.beq pc 13 then some (.dload 1, 14, 0, 0) else none))) else (bif Nat.ble 9 pc then (bif Nat.ble 12 pc then (bif Nat.beq pc 12 then some (.astore_n 3, 13, 0, 0) else none) else (bif Nat.beq pc 9 then some (.goto 0, 12, 15, 0) else none)) else (bif Nat.beq pc 8 then some (.lastore, 9, 0, 0) else none))) else (bif Nat.ble 3 pc then (bif Nat.ble 4 pc then (bif Nat.ble 7 pc then (bif Nat.beq pc 7 then some (.i2l, 8, 0, 0) else none) else (bif Nat.beq pc 4 then some (.invokevirtual 49, 7, 17, 0) else none)) else (bif Nat.beq pc 3 then some (.iload_n 1, 4, 0, 0) else none)) else (bif Nat.ble 1 pc then (bif Nat.ble 2 pc then (bif Nat.beq pc 2 then some (.aload_n 0, 3, 0, 0) else none) else (bif Nat.beq pc 1 then some (.dload 0, 2, 0, 0) else none)) else (bif Nat.beq pc 0 then some (.aload_n 2, 1, 0, 0) else none)))
def mc_51 (pc : Nat) : Option (Instr × Nat × Nat × Nat) := bif Nat.ble 26 pc then (bif Nat.ble 40 pc then (bif Nat.ble 46 pc then (bif Nat.ble 50 pc then (bif Nat.ble 51 pc then (bif Nat.beq pc 51 then some (.ireturn, 52, 0, 0) else none) else (bif Nat.beq pc 50 then some (.dstore 1, 51, 0, 0) else none)) else (bif Nat.ble 47 pc then (bif Nat.beq pc 47 then some (.goto 0, 50, 51, 0) else none) else (bif Nat.beq pc 46 then some (.dload 4, 47, 0, 0) else none))) else (bif Nat.ble 41 pc then (bif Nat.ble 43 pc then (bif Nat.beq pc 43 then some (.if_icmp .ne 0, 46, 50, 0) else none) else (bif Nat.beq pc 41 then some (.dload 97, 43, 0, 0) else none)) else (bif Nat.beq pc 40 then some (.iload_n 1, 41, 0, 0) else none))) else (bif Nat.ble 31 pc then (bif Nat.ble 36 pc then (bif Nat.ble 37 pc then (bif Nat.beq pc 37 then some (.goto 0, 40, 51, 0) else none) else (bif Nat.beq pc 36 then some (.dload 3, 37, 0, 0) else none)) else (bif Nat.ble 33 pc then (bif Nat.beq pc 33 then some (.if_icmp .ne 0, 36, 40, 0) else none) else (bif Nat.beq pc 31 then some (.dload 101, 33, 0, 0) else none))) else (bif Nat.ble 27 pc then (bif Nat.ble 30 pc then (bif Nat.beq pc 30 then some (.iload_n 1, 31, 0, 0) else none) else (bif Nat.beq pc 27 then some (.goto 0, 30, 51, 0) else none)) else (bif Nat.beq pc 26 then some (.dload 2, 27, 0, 0) else none)))) else (bif Nat.ble 11 pc then (bif Nat.ble 17 pc then (bif Nat.ble 21 pc then (bif Nat.ble 23 pc then (bif Nat.beq pc 23 then some (.if_icmp .ne 0, 26, 30, 0) else none) else (bif Nat.beq pc 21 then some (.dload 109, 23, 0, 0) else none)) else (bif Nat.ble 20 pc then (bif Nat.beq pc 20 then some (.iload_n 1, 21, 0, 0) else none) else (bif Nat.beq pc 17 then some (.goto 0, 20, 51, 0) else none))) else (bif Nat.ble 13 pc then (bif Nat.ble 16 pc then (bif Nat.beq pc 16 then some (.dload 1, 17, 0, 0) else none) else (bif Nat.beq pc 13 then some (.if_icmp .ne 0, 16, 20, 0) else none)) else (bif Nat.beq pc 11 then some (.dload 98, 13, 0, 0) else none))) else (bif Nat.ble 6 pc then (bif Nat.ble 7 pc then (bif Nat.ble 10 pc then (bif Nat.beq pc 10 then some (.iload_n 1, 11, 0, 0) else none) else (bif Nat.beq pc 7 then some (.goto 0, 10, 51, 0) else none)) else (bif Nat.beq pc 6 then some (.dload 0, 7, 0, 0) else none)) else (bif Nat.ble 1 pc then (bif Nat.ble 3 pc then (bif Nat.beq pc 3 then some (.if_icmp .ne 0, 6, 10, 0) else none) else (bif Nat.beq pc 1 then some (.dload 119, 3, 0, 0) else none)) else (bif Nat.beq pc 0 then some (.iload_n 1, 1, 0, 0) else none))))
def mc_52 (pc : Nat) : Option (Instr × Nat × Nat × Nat) := bif Nat.ble 9 pc then (bif Nat.ble 13 pc then (bif Nat.ble 16 pc then (bif Nat.ble 17 pc then (bif Nat.beq pc 17 then some (.ireturn, 18, 0, 0) else none) else (bif Nat.beq pc 16 then some (.dload 0, 17, 0, 0) else none)) else (bif Nat.beq pc 13 then some (.goto 0, 16, 17, 0) else none)) else (bif Nat.ble 12 pc then (bif Nat.beq pc 12 then some (.dload 1, 13, 0, 0) else none) else (bif Nat.beq pc 9 then some (.if_icmp .gt 0, 12, 16, 0) else none))) else (bif Nat.ble 3 pc then (bif Nat.ble 6 pc then (bif Nat.ble 7 pc then (bif Nat.beq pc 7 then some (.dload 122, 9, 0, 0) else none) else (bif Nat.beq pc 6 then some (.iload_n 1, 7, 0, 0) else none)) else (bif Nat.beq pc 3 then some (.if_icmp .lt 0, 6, 16, 0) else none)) else (bif Nat.ble 1 pc then (bif Nat.beq pc 1 then some (.dload 97, 3, 0, 0) else none) else (bif Nat.beq pc 0 then some (.iload_n 1, 1, 0, 0) else none)))
def mc_53 (pc : Nat) : Option (Instr × Nat × Nat × Nat) := bif Nat.ble 68 pc then (bif Nat.ble 107 pc then (bif Nat.ble 121 pc then (bif Nat.ble 133 pc then (bif Nat.ble 138 pc then (bif Nat.ble 139 pc then (bif Nat.ble 140 pc then (bif Nat.beq pc 140 then some (.ireturn, 141, 0, 0) else none) else (bif Nat.beq pc 139 then some (.dload 1, 140, 0, 0) else none)) else (bif Nat.beq pc 138 then some (.iastore, 139, 0, 0) else none)) else (bif Nat.ble 134 pc then (bif Nat.ble 137 pc then (bif Nat.beq pc 137 then some (.iload_n 3, 138, 0, 0) else none) else (bif Nat.beq pc 134 then some (.getfield 7, 137, 83, 5) else none)) else (bif Nat.beq pc 133 then some (.aload_n 0, 134, 0, 0) else none))) else (bif Nat.ble 126 pc then (bif Nat.ble 129 pc then (bif Nat.ble 130 pc then (bif Nat.beq pc 130 then some (.fload 7, 133, 23, 9) else none) else (bif Nat.beq pc 129 then some (.aload_n 0, 130, 0, 0) else none)) else (bif Nat.beq pc 126 then some (.goto 0, 129, 11, 0) else none)) else (bif Nat.ble 123 pc then (bif Nat.beq pc 123 then some (.multianewarray 6 1, 126, 0, 0) else none) else (bif Nat.beq pc 121 then some (.istore 5, 123, 0, 0) else none)))) else (bif Nat.ble 114 pc then (bif Nat.ble 116 pc then (bif Nat.ble 117 pc then (bif Nat.ble 119 pc then (bif Nat.beq pc 119 then some (.iload 7, 121, 0, 0) else none) else (bif Nat.beq pc 117 then some (.istore 4, 119, 0, 0) else none)) else (bif Nat.beq pc 116 then some (.iadd, 117, 0, 0) else none)) else (bif Nat.ble 115 pc then (bif Nat.beq pc 115 then some (.ishl, 116, 0, 0) else none) else (bif Nat.beq pc 114 then some (.isub, 115, 0, 0) else none))) else (bif Nat.ble 110 pc then (bif Nat.ble 111 pc then (bif Nat.ble 113 pc then (bif Nat.beq pc 113 then some (.dload 1, 114, 0, 0) else none) else (bif Nat.beq pc 111 then some (.iload 7, 113, 0, 0) else none)) else (bif Nat.beq pc 110 then some (.dload 1, 111, 0, 0) else none)) else (bif Nat.ble 108 pc then (bif Nat.beq pc 108 then some (.iload 4, 110, 0, 0) else none) else (bif Nat.beq pc 107 then some (.ireturn, 108, 0, 0) else none))))) else (bif Nat.ble 86 pc then (bif Nat.ble 96 pc then (bif Nat.ble 101 pc then (bif Nat.ble 103 pc then (bif Nat.ble 106 pc then (bif Nat.beq pc 106 then some (.dload 0, 107, 0, 0) else none) else (bif Nat.beq pc 103 then some (.if_icmp .gt 0, 106, 108, 0) else none)) else (bif Nat.beq pc 101 then some (.iload 5, 103, 0, 0) else none)) else (bif Nat.ble 99 pc then (bif Nat.beq pc 99 then some (.iload 7, 101, 0, 0) else none) else (bif Nat.beq pc 96 then some (.if_icmp .gt 0, 99, 106, 0) else none))) else (bif Nat.ble 89 pc then (bif Nat.ble 92 pc then (bif Nat.ble 94 pc then (bif Nat.beq pc 94 then some (.dload 6, 96, 0, 0) else none) else (bif Nat.beq pc 92 then some (.iload 7, 94, 0, 0) else none)) else (bif Nat.beq pc 89 then some (.if_icmp .lt 0, 92, 106, 0) else none)) else (bif Nat.ble 88 pc then (bif Nat.beq pc 88 then some (.dload 1, 89, 0, 0) else none) else (bif Nat.beq pc 86 then some (.iload 7, 88, 0, 0) else none)))) else (bif Nat.ble 78 pc then (bif Nat.ble 81 pc then (bif Nat.ble 83 pc then (bif Nat.ble 84 pc then (bif Nat.beq pc 84 then some (.istore 7, 86, 0, 0) else none) else (bif Nat.beq pc 83 then some (.isub, 84, 0, 0) else none)) else (bif Nat.beq pc 81 then some (.dload 48, 83, 0, 0) else none)) else (bif Nat.ble 80 pc then (bif Nat.beq pc 80 then some (.caload, 81, 0, 0) else none) else (bif Nat.beq pc 78 then some (.iload 6, 80, 0, 0) else none))) else (bif Nat.ble 71 pc then (bif Nat.ble 74 pc then (bif Nat.ble 75 pc then (bif Nat.beq pc 75 then some (.fload 7, 78, 7, 4) else none) else (bif Nat.beq pc 74 then some (.aload_n 0, 75, 0, 0) else none)) else (bif Nat.beq pc 71 then some (.goto 0, 74, 123, 0) else none)) else (bif Nat.ble 69 pc then (bif Nat.beq pc 69 then some (.istore 5, 71, 0, 0) else none) else (bif Nat.beq pc 68 then some (.dload 0, 69, 0, 0) else none)))))) else (bif Nat.ble 35 pc then (bif Nat.ble 52 pc then (bif Nat.ble 59 pc then (bif Nat.ble 62 pc then (bif Nat.ble 65 pc then (bif Nat.ble 66 pc then (bif Nat.beq pc 66 then some (.istore 4, 68, 0, 0) else none) else (bif Nat.beq pc 65 then some (.dload 0, 66, 0, 0) else none)) else (bif Nat.beq pc 62 then some (.multianewarray 3 1, 65, 0, 0) else none)) else (bif Nat.ble 61 pc then (bif Nat.beq pc 61 then some (.iastore, 62, 0, 0) else none) else (bif Nat.beq pc 59 then some (.iload 4, 61, 0, 0) else none))) else (bif Nat.ble 56 pc then (bif Nat.ble 57 pc then (bif Nat.ble 58 pc then (bif Nat.beq pc 58 then some (.iadd, 59, 0, 0) else none) else (bif Nat.beq pc 57 then some (.iload_n 3, 58, 0, 0) else none)) else (bif Nat.beq pc 56 then some (.imul, 57, 0, 0) else none)) else (bif Nat.ble 53 pc then (bif Nat.beq pc 53 then some (.getfield 7, 56, 83, 5) else none) else (bif Nat.beq pc 52 then some (.aload_n 0, 53, 0, 0) else none)))) else (bif Nat.ble 45 pc then (bif Nat.ble 47 pc then (bif Nat.ble 48 pc then (bif Nat.ble 51 pc then (bif Nat.beq pc 51 then some (.dload 3, 52, 0, 0) else none) else (bif Nat.beq pc 48 then some (.fload 7, 51, 26, 10) else none)) else (bif Nat.beq pc 47 then some (.aload_n 0, 48, 0, 0) else none)) else (bif Nat.ble 46 pc then (bif Nat.beq pc 46 then some (.ireturn, 47, 0, 0) else none) else (bif Nat.beq pc 45 then some (.dload 0, 46, 0, 0) else none))) else (bif Nat.ble 40 pc then (bif Nat.ble 41 pc then (bif Nat.ble 42 pc then (bif Nat.beq pc 42 then some (.if_icmp .ne 0, 45, 47, 0) else none) else (bif Nat.beq pc 41 then some (.dload 3, 42, 0, 0) else none)) else (bif Nat.beq pc 40 then some (.iload_n 3, 41, 0, 0) else none)) else (bif Nat.ble 37 pc then (bif Nat.beq pc 37 then some (.ifCond .eq 0, 40, 45, 0) else none) else (bif Nat.beq pc 35 then some (.iload 4, 37, 0, 0) else none))))) else (bif Nat.ble 14 pc then (bif Nat.ble 24 pc then (bif Nat.ble 29 pc then (bif Nat.ble 30 pc then (bif Nat.ble 32 pc then (bif Nat.beq pc 32 then some (.if_icmp .ne 0, 35, 74, 0) else none) else (bif Nat.beq pc 30 then some (.dload 45, 32, 0, 0) else none)) else (bif Nat.beq pc 29 then some (.caload, 30, 0, 0) else none)) else (bif Nat.ble 27 pc then (bif Nat.beq pc 27 then some (.iload 6, 29, 0, 0) else none) else (bif Nat.beq pc 24 then some (.fload 7, 27, 7, 4) else none))) else (bif Nat.ble 19 pc then (bif Nat.ble 20 pc then (bif Nat.ble 23 pc then (bif Nat.beq pc 23 then some (.aload_n 0, 24, 0, 0) else none) else (bif Nat.beq pc 20 then some (.if_icmp .eq 0, 23, 35, 0) else none)) else (bif Nat.beq pc 19 then some (.iload_n 2, 20, 0, 0) else none)) else (bif Nat.ble 17 pc then (bif Nat.beq pc 17 then some (.iload 6, 19, 0, 0) else none) else (bif Nat.beq pc 14 then some (.if_icmp .gt 0, 17, 129, 0) else none)))) else (bif Nat.ble 6 pc then (bif Nat.ble 9 pc then (bif Nat.ble 11 pc then (bif Nat.ble 13 pc then (bif Nat.beq pc 13 then some (.iload_n 2, 14, 0, 0) else none) else (bif Nat.beq pc 11 then some (.iload 6, 13, 0, 0) else none)) else (bif Nat.beq pc 9 then some (.istore 6, 11, 0, 0) else none)) else (bif Nat.ble 8 pc then (bif Nat.beq pc 8 then some (.iload_n 1, 9, 0, 0) else none) else (bif Nat.beq pc 6 then some (.istore 5, 8, 0, 0) else none))) else (bif Nat.ble 2 pc then (bif Nat.ble 3 pc then (bif Nat.ble 5 pc then (bif Nat.beq pc 5 then some (.dload 0, 6, 0, 0) else none) else (bif Nat.beq pc 3 then some (.istore 4, 5, 0, 0) else none)) else (bif Nat.beq pc 2 then some (.dload 0, 3, 0, 0) else none)) else (bif Nat.ble 1 pc then (bif Nat.beq pc 1 then some (.istore_n 3, 2, 0, 0) else none) else (bif Nat.beq pc 0 then some (.dload 0, 1, 0, 0) else none))))))
def mc_54 (pc : Nat) : Option (Instr × Nat × Nat × Nat) := bif Nat.ble 60 pc then (bif Nat.ble 92 pc then (bif Nat.ble 105 pc then (bif Nat.ble 116 pc then (bif Nat.ble 120 pc then (bif Nat.ble 123 pc then (bif Nat.ble 124 pc then (bif Nat.beq pc 124 then some (.ireturn, 125, 0, 0) else none) else (bif Nat.beq pc 123 then some (.dload 0, 124, 0, 0) else none)) else (bif Nat.beq pc 120 then some (.goto 0, 123, 2, 0) else none)) else (bif Nat.ble 117 pc then (bif Nat.beq pc 117 then some (.multianewarray 1 1, 120, 0, 0) else none) else (bif Nat.beq pc 116 then some (.ireturn, 117, 0, 0) else none))) else (bif Nat.ble 111 pc then (bif Nat.ble 112 pc then (bif Nat.ble 115 pc then (bif Nat.beq pc 115 then some (.dload 1, 116, 0, 0) else none) else (bif Nat.beq pc 112 then some (.ifCond .eq 0, 115, 117, 0) else none)) else (bif Nat.beq pc 111 then some (.iload_n 2, 112, 0, 0) else none)) else (bif Nat.ble 108 pc then (bif Nat.beq pc 108 then some (.goto 0, 111, 54, 0) else none) else (bif Nat.beq pc 105 then some (.multianewarray 3 1, 108, 0, 0) else none)))) else (bif Nat.ble 96 pc then (bif Nat.ble 100 pc then (bif Nat.ble 103 pc then (bif Nat.ble 104 pc then (bif Nat.beq pc 104 then some (.istore_n 2, 105, 0, 0) else none) else (bif Nat.beq pc 103 then some (.dload 0, 104, 0, 0) else none)) else (bif Nat.beq pc 100 then some (.goto 0, 103, 104, 0) else none)) else (bif Nat.ble 99 pc then (bif Nat.beq pc 99 then some (.dload 1, 100, 0, 0) else none) else (bif Nat.beq pc 96 then some (.if_icmp .ne 0, 99, 103, 0) else none))) else (bif Nat.ble 94 pc then (bif Nat.ble 95 pc then (bif Nat.beq pc 95 then some (.caload, 96, 0, 0) else none) else (bif Nat.beq pc 94 then some (.iadd, 95, 0, 0) else none)) else (bif Nat.ble 93 pc then (bif Nat.beq pc 93 then some (.iload_n 3, 94, 0, 0) else none) else (bif Nat.beq pc 92 then some (.imul, 93, 0, 0) else none))))) else (bif Nat.ble 78 pc then (bif Nat.ble 82 pc then (bif Nat.ble 86 pc then (bif Nat.ble 88 pc then (bif Nat.ble 89 pc then (bif Nat.beq pc 89 then some (.getfield 7, 92, 83, 5) else none) else (bif Nat.beq pc 88 then some (.aload_n 0, 89, 0, 0) else none)) else (bif Nat.beq pc 86 then some (.dload 6, 88, 0, 0) else none)) else (bif Nat.ble 83 pc then (bif Nat.beq pc 83 then some (.fload 7, 86, 20, 8) else none) else (bif Nat.beq pc 82 then some (.aload_n 0, 83, 0, 0) else none))) else (bif Nat.ble 80 pc then (bif Nat.ble 81 pc then (bif Nat.beq pc 81 then some (.caload, 82, 0, 0) else none) else (bif Nat.beq pc 80 then some (.iadd, 81, 0, 0) else none)) else (bif Nat.ble 79 pc then (bif Nat.beq pc 79 then some (.iload_n 3, 80, 0, 0) else none) else (bif Nat.beq pc 78 then some (.imul, 79, 0, 0) else none)))) else (bif Nat.ble 68 pc then (bif Nat.ble 72 pc then (bif Nat.ble 75 pc then (bif Nat.ble 77 pc then (bif Nat.beq pc 77 then some (.iload_n 1, 78, 0, 0) else none) else (bif Nat.beq pc 75 then some (.dload 6, 77, 0, 0) else none)) else (bif Nat.beq pc 72 then some (.fload 7, 75, 20, 8) else none)) else (bif Nat.ble 71 pc then (bif Nat.beq pc 71 then some (.aload_n 0, 72, 0, 0) else none) else (bif Nat.beq pc 68 then some (.ifCond .eq 0, 71, 111, 0) else none))) else (bif Nat.ble 64 pc then (bif Nat.ble 67 pc then (bif Nat.beq pc 67 then some (.iload_n 2, 68, 0, 0) else none) else (bif Nat.beq pc 64 then some (.if_icmp .ge 0, 67, 111, 0) else none)) else (bif Nat.ble 63 pc then (bif Nat.beq pc 63 then some (.iaload, 64, 0, 0) else none) else (bif Nat.beq pc 60 then some (.getfield 7, 63, 83, 5) else none)))))) else (bif Nat.ble 32 pc then (bif Nat.ble 47 pc then (bif Nat.ble 53 pc then (bif Nat.ble 55 pc then (bif Nat.ble 56 pc then (bif Nat.ble 59 pc then (bif Nat.beq pc 59 then some (.aload_n 0, 60, 0, 0) else none) else (bif Nat.beq pc 56 then some (.fload 7, 59, 17, 7) else none)) else (bif Nat.beq pc 55 then some (.aload_n 0, 56, 0, 0) else none)) else (bif Nat.ble 54 pc then (bif Nat.beq pc 54 then some (.iload_n 3, 55, 0, 0) else none) else (bif Nat.beq pc 53 then some (.istore_n 3, 54, 0, 0) else none))) else (bif Nat.ble 51 pc then (bif Nat.ble 52 pc then (bif Nat.beq pc 52 then some (.dload 0, 53, 0, 0) else none) else (bif Nat.beq pc 51 then some (.istore_n 2, 52, 0, 0) else none)) else (bif Nat.ble 50 pc then (bif Nat.beq pc 50 then some (.dload 0, 51, 0, 0) else none) else (bif Nat.beq pc 47 then some (.goto 0, 50, 51, 0) else none)))) else (bif Nat.ble 38 pc then (bif Nat.ble 42 pc then (bif Nat.ble 43 pc then (bif Nat.ble 46 pc then (bif Nat.beq pc 46 then some (.dload 1, 47, 0, 0) else none) else (bif Nat.beq pc 43 then some (.if_icmp .ne 0, 46, 50, 0) else none)) else (bif Nat.beq pc 42 then some (.iaload, 43, 0, 0) else none)) else (bif Nat.ble 39 pc then (bif Nat.beq pc 39 then some (.getfield 7, 42, 83, 5) else none) else (bif Nat.beq pc 38 then some (.aload_n 0, 39, 0, 0) else none))) else (bif Nat.ble 34 pc then (bif Nat.ble 35 pc then (bif Nat.beq pc 35 then some (.fload 7, 38, 17, 7) else none) else (bif Nat.beq pc 34 then some (.aload_n 0, 35, 0, 0) else none)) else (bif Nat.ble 33 pc then (bif Nat.beq pc 33 then some (.iaload, 34, 0, 0) else none) else (bif Nat.beq pc 32 then some (.iload_n 1, 33, 0, 0) else none))))) else (bif Nat.ble 15 pc then (bif Nat.ble 21 pc then (bif Nat.ble 25 pc then (bif Nat.ble 28 pc then (bif Nat.ble 29 pc then (bif Nat.beq pc 29 then some (.fload 7, 32, 17, 7) else none) else (bif Nat.beq pc 28 then some (.aload_n 0, 29, 0, 0) else none)) else (bif Nat.beq pc 25 then some (.if_icmp .ne 0, 28, 50, 0) else none)) else (bif Nat.ble 24 pc then (bif Nat.beq pc 24 then some (.iaload, 25, 0, 0) else none) else (bif Nat.beq pc 21 then some (.getfield 7, 24, 83, 5) else none))) else (bif Nat.ble 17 pc then (bif Nat.ble 20 pc then (bif Nat.beq pc 20 then some (.aload_n 0, 21, 0, 0) else none) else (bif Nat.beq pc 17 then some (.fload 7, 20, 13, 6) else none)) else (bif Nat.ble 16 pc then (bif Nat.beq pc 16 then some (.aload_n 0, 17, 0, 0) else none) else (bif Nat.beq pc 15 then some (.iaload, 16, 0, 0) else none)))) else (bif Nat.ble 4 pc then (bif Nat.ble 10 pc then (bif Nat.ble 11 pc then (bif Nat.ble 14 pc then (bif Nat.beq pc 14 then some (.iload_n 1, 15, 0, 0) else none) else (bif Nat.beq pc 11 then some (.fload 7, 14, 13, 6) else none)) else (bif Nat.beq pc 10 then some (.aload_n 0, 11, 0, 0) else none)) else (bif Nat.ble 7 pc then (bif Nat.beq pc 7 then some (.if_icmp .ge 0, 10, 123, 0) else none) else (bif Nat.beq pc 4 then some (.getfield 7, 7, 83, 5) else none))) else (bif Nat.ble 2 pc then (bif Nat.ble 3 pc then (bif Nat.beq pc 3 then some (.aload_n 0, 4, 0, 0) else none) else (bif Nat.beq pc 2 then some (.iload_n 1, 3, 0, 0) else none)) else (bif Nat.ble 1 pc then (bif Nat.beq pc 1 then some (.istore_n 1, 2, 0, 0) else none) else (bif Nat.beq pc 0 then some (.dload 0, 1, 0, 0) else none))))))
def mc_55 (pc : Nat) : Option (Instr × Nat × Nat × Nat) := bif Nat.ble 97 pc then (bif Nat.ble 149 pc then (bif Nat.ble 173 pc then (bif Nat.ble 184 pc then (bif Nat.ble 189 pc then (bif Nat.ble 193 pc then (bif Nat.ble 194 pc then (bif Nat.beq pc 194 then some (.ireturn, 195, 0, 0) else none) else (bif Nat.beq pc 193 then some (.dload 1, 194, 0, 0) else none)) else (bif Nat.ble 190 pc then (bif Nat.beq pc 190 then some (.putfield 7, 193, 83, 5) else none) else (bif Nat.beq pc 189 then some (.iadd, 190, 0, 0) else none))) else (bif Nat.ble 185 pc then (bif Nat.ble 188 pc then (bif Nat.beq pc 188 then some (.dload 1, 189, 0, 0) else none) else (bif Nat.beq pc 185 then some (.getfield 7, 188, 83, 5) else none)) else (bif Nat.beq pc 184 then some (.dup, 185, 0, 0) else none))) else (bif Nat.ble 178 pc then (bif Nat.ble 182 pc then (bif Nat.ble 183 pc then (bif Nat.beq pc 183 then some (.aload_n 0, 184, 0, 0) else none) else (bif Nat.beq pc 182 then some (.ireturn, 183, 0, 0) else none)) else (bif Nat.ble 181 pc then (bif Nat.beq pc 181 then some (.dload 0, 182, 0, 0) else none) else (bif Nat.beq pc 178 then some (.ifCond .eq 0, 181, 183, 0) else none))) else (bif Nat.ble 174 pc then (bif Nat.ble 175 pc then (bif Nat.beq pc 175 then some (.invokevirtual 54, 178, 93, 0) else none) else (bif Nat.beq pc 174 then some (.aload_n 0, 175, 0, 0) else none)) else (bif Nat.beq pc 173 then some (.iastore, 174, 0, 0) else none)))) else (bif Nat.ble 160 pc then (bif Nat.ble 165 pc then (bif Nat.ble 169 pc then (bif Nat.ble 172 pc then (bif Nat.beq pc 172 then some (.iload_n 3, 173, 0, 0) else none) else (bif Nat.beq pc 169 then some (.getfield 7, 172, 83, 5) else none)) else (bif Nat.ble 168 pc then (bif Nat.beq pc 168 then some (.aload_n 0, 169, 0, 0) else none) else (bif Nat.beq pc 165 then some (.fload 7, 168, 17, 7) else none))) else (bif Nat.ble 163 pc then (bif Nat.ble 164 pc then (bif Nat.beq pc 164 then some (.aload_n 0, 165, 0, 0) else none) else (bif Nat.beq pc 163 then some (.iastore, 164, 0, 0) else none)) else (bif Nat.beq pc 160 then some (.invokevirtual 51, 163, 86, 0) else none))) else (bif Nat.ble 154 pc then (bif Nat.ble 158 pc then (bif Nat.ble 159 pc then (bif Nat.beq pc 159 then some (.caload, 160, 0, 0) else none) else (bif Nat.beq pc 158 then some (.iload_n 1, 159, 0, 0) else none)) else (bif Nat.ble 155 pc then (bif Nat.beq pc 155 then some (.fload 7, 158, 7, 4) else none) else (bif Nat.beq pc 154 then some (.aload_n 0, 155, 0, 0) else none))) else (bif Nat.ble 150 pc then (bif Nat.ble 153 pc then (bif Nat.beq pc 153 then some (.aload_n 0, 154, 0, 0) else none) else (bif Nat.beq pc 150 then some (.getfield 7, 153, 83, 5) else none)) else (bif Nat.beq pc 149 then some (.aload_n 0, 150, 0, 0) else none))))) else (bif Nat.ble 125 pc then (bif Nat.ble 136 pc then (bif Nat.ble 143 pc then (bif Nat.ble 145 pc then (bif Nat.ble 146 pc then (bif Nat.beq pc 146 then some (.fload 7, 149, 13, 6) else none) else (bif Nat.beq pc 145 then some (.aload_n 0, 146, 0, 0) else none)) else (bif Nat.ble 144 pc then (bif Nat.beq pc 144 then some (.ireturn, 145, 0, 0) else none) else (bif Nat.beq pc 143 then some (.dload 0, 144, 0, 0) else none))) else (bif Nat.ble 137 pc then (bif Nat.ble 140 pc then (bif Nat.beq pc 140 then some (.ifCond .ne 0, 143, 145, 0) else none) else (bif Nat.beq pc 137 then some (.invokevirtual 53, 140, 89, 0) else none)) else (bif Nat.beq pc 136 then some (.iload_n 2, 137, 0, 0) else none))) else (bif Nat.ble 131 pc then (bif Nat.ble 134 pc then (bif Nat.ble 135 pc then (bif Nat.beq pc 135 then some (.iadd, 136, 0, 0) else none) else (bif Nat.beq pc 134 then some (.dload 1, 135, 0, 0) else none)) else (bif Nat.ble 132 pc then (bif Nat.beq pc 132 then some (.iload 4, 134, 0, 0) else none) else (bif Nat.beq pc 131 then some (.aload_n 0, 132, 0, 0) else none))) else (bif Nat.ble 126 pc then (bif Nat.ble 128 pc then (bif Nat.beq pc 128 then some (.if_icmp .ne 0, 131, 143, 0) else none) else (bif Nat.beq pc 126 then some (.dload 61, 128, 0, 0) else none)) else (bif Nat.beq pc 125 then some (.caload, 126, 0, 0) else none)))) else (bif Nat.ble 110 pc then (bif Nat.ble 116 pc then (bif Nat.ble 120 pc then (bif Nat.ble 123 pc then (bif Nat.beq pc 123 then some (.iload 4, 125, 0, 0) else none) else (bif Nat.beq pc 120 then some (.fload 7, 123, 7, 4) else none)) else (bif Nat.ble 119 pc then (bif Nat.beq pc 119 then some (.aload_n 0, 120, 0, 0) else none) else (bif Nat.beq pc 116 then some (.if_icmp .eq 0, 119, 143, 0) else none))) else (bif Nat.ble 113 pc then (bif Nat.ble 115 pc then (bif Nat.beq pc 115 then some (.iload_n 2, 116, 0, 0) else none) else (bif Nat.beq pc 113 then some (.iload 4, 115, 0, 0) else none)) else (bif Nat.beq pc 110 then some (.if_icmp .lt 0, 113, 143, 0) else none))) else (bif Nat.ble 102 pc then (bif Nat.ble 108 pc then (bif Nat.ble 109 pc then (bif Nat.beq pc 109 then some (.dload 2, 110, 0, 0) else none) else (bif Nat.beq pc 108 then some (.iload_n 3, 109, 0, 0) else none)) else (bif Nat.ble 105 pc then (bif Nat.beq pc 105 then some (.goto 0, 108, 52, 0) else none) else (bif Nat.beq pc 102 then some (.multianewarray 4 1, 105, 0, 0) else none))) else (bif Nat.ble 98 pc then (bif Nat.ble 99 pc then (bif Nat.beq pc 99 then some (.multianewarray 3 1, 102, 0, 0) else none) else (bif Nat.beq pc 98 then some (.castore, 99, 0, 0) else none)) else (bif Nat.beq pc 97 then some (.caload, 98, 0, 0) else none)))))) else (bif Nat.ble 47 pc then (bif Nat.ble 72 pc then (bif Nat.ble 85 pc then (bif Nat.ble 90 pc then (bif Nat.ble 92 pc then (bif Nat.ble 95 pc then (bif Nat.beq pc 95 then some (.iload 4, 97, 0, 0) else none) else (bif Nat.beq pc 92 then some (.fload 7, 95, 7, 4) else none)) else (bif Nat.ble 91 pc then (bif Nat.beq pc 91 then some (.aload_n 0, 92, 0, 0) else none) else (bif Nat.beq pc 90 then some (.iadd, 91, 0, 0) else none))) else (bif Nat.ble 88 pc then (bif Nat.ble 89 pc then (bif Nat.beq pc 89 then some (.iload_n 3, 90, 0, 0) else none) else (bif Nat.beq pc 88 then some (.imul, 89, 0, 0) else none)) else (bif Nat.beq pc 85 then some (.getfield 7, 88, 83, 5) else none))) else (bif Nat.ble 78 pc then (bif Nat.ble 82 pc then (bif Nat.ble 84 pc then (bif Nat.beq pc 84 then some (.aload_n 0, 85, 0, 0) else none) else (bif Nat.beq pc 82 then some (.dload 6, 84, 0, 0) else none)) else (bif Nat.ble 79 pc then (bif Nat.beq pc 79 then some (.fload 7, 82, 20, 8) else none) else (bif Nat.beq pc 78 then some (.aload_n 0, 79, 0, 0) else none))) else (bif Nat.ble 73 pc then (bif Nat.ble 75 pc then (bif Nat.beq pc 75 then some (.if_icmp .ge 0, 78, 108, 0) else none) else (bif Nat.beq pc 73 then some (.dload 6, 75, 0, 0) else none)) else (bif Nat.beq pc 72 then some (.iload_n 3, 73, 0, 0) else none)))) else (bif Nat.ble 58 pc then (bif Nat.ble 63 pc then (bif Nat.ble 66 pc then (bif Nat.ble 69 pc then (bif Nat.beq pc 69 then some (.ifCond .eq 0, 72, 108, 0) else none) else (bif Nat.beq pc 66 then some (.invokevirtual 52, 69, 66, 0) else none)) else (bif Nat.ble 65 pc then (bif Nat.beq pc 65 then some (.caload, 66, 0, 0) else none) else (bif Nat.beq pc 63 then some (.iload 4, 65, 0, 0) else none))) else (bif Nat.ble 59 pc then (bif Nat.ble 60 pc then (bif Nat.beq pc 60 then some (.fload 7, 63, 7, 4) else none) else (bif Nat.beq pc 59 then some (.aload_n 0, 60, 0, 0) else none)) else (bif Nat.beq pc 58 then some (.aload_n 0, 59, 0, 0) else none))) else (bif Nat.ble 50 pc then (bif Nat.ble 54 pc then (bif Nat.ble 55 pc then (bif Nat.beq pc 55 then some (.if_icmp .ge 0, 58, 108, 0) else none) else (bif Nat.beq pc 54 then some (.iload_n 2, 55, 0, 0) else none)) else (bif Nat.ble 52 pc then (bif Nat.beq pc 52 then some (.iload 4, 54, 0, 0) else none) else (bif Nat.beq pc 50 then some (.istore 4, 52, 0, 0) else none))) else (bif Nat.ble 48 pc then (bif Nat.ble 49 pc then (bif Nat.beq pc 49 then some (.iadd, 50, 0, 0) else none) else (bif Nat.beq pc 48 then some (.dload 2, 49, 0, 0) else none)) else (bif Nat.beq pc 47 then some (.iload_n 1, 48, 0, 0) else none))))) else (bif Nat.ble 24 pc then (bif Nat.ble 37 pc then (bif Nat.ble 43 pc then (bif Nat.ble 45 pc then (bif Nat.ble 46 pc then (bif Nat.beq pc 46 then some (.istore_n 3, 47, 0, 0) else none) else (bif Nat.beq pc 45 then some (.dload 0, 46, 0, 0) else none)) else (bif Nat.ble 44 pc then (bif Nat.beq pc 44 then some (.ireturn, 45, 0, 0) else none) else (bif Nat.beq pc 43 then some (.dload 0, 44, 0, 0) else none))) else (bif Nat.ble 38 pc then (bif Nat.ble 40 pc then (bif Nat.beq pc 40 then some (.if_icmp .eq 0, 43, 45, 0) else none) else (bif Nat.beq pc 38 then some (.dload 32, 40, 0, 0) else none)) else (bif Nat.beq pc 37 then some (.caload, 38, 0, 0) else none))) else (bif Nat.ble 31 pc then (bif Nat.ble 35 pc then (bif Nat.ble 36 pc then (bif Nat.beq pc 36 then some (.iadd, 37, 0, 0) else none) else (bif Nat.beq pc 35 then some (.dload 1, 36, 0, 0) else none)) else (bif Nat.ble 34 pc then (bif Nat.beq pc 34 then some (.iload_n 1, 35, 0, 0) else none) else (bif Nat.beq pc 31 then some (.fload 7, 34, 7, 4) else none))) else (bif Nat.ble 27 pc then (bif Nat.ble 30 pc then (bif Nat.beq pc 30 then some (.aload_n 0, 31, 0, 0) else none) else (bif Nat.beq pc 27 then some (.ifCond .lt 0, 30, 43, 0) else none)) else (bif Nat.beq pc 24 then some (.invokevirtual 51, 27, 86, 0) else none)))) else (bif Nat.ble 12 pc then (bif Nat.ble 18 pc then (bif Nat.ble 22 pc then (bif Nat.ble 23 pc then (bif Nat.beq pc 23 then some (.caload, 24, 0, 0) else none) else (bif Nat.beq pc 22 then some (.iload_n 1, 23, 0, 0) else none)) else (bif Nat.ble 19 pc then (bif Nat.beq pc 19 then some (.fload 7, 22, 7, 4) else none) else (bif Nat.beq pc 18 then some (.aload_n 0, 19, 0, 0) else none))) else (bif Nat.ble 14 pc then (bif Nat.ble 17 pc then (bif Nat.beq pc 17 then some (.aload_n 0, 18, 0, 0) else none) else (bif Nat.beq pc 14 then some (.if_icmp .lt 0, 17, 43, 0) else none)) else (bif Nat.beq pc 12 then some (.dload 6, 14, 0, 0) else none))) else (bif Nat.ble 6 pc then (bif Nat.ble 10 pc then (bif Nat.ble 11 pc then (bif Nat.beq pc 11 then some (.isub, 12, 0, 0) else none) else (bif Nat.beq pc 10 then some (.iload_n 1, 11, 0, 0) else none)) else (bif Nat.ble 9 pc then (bif Nat.beq pc 9 then some (.iload_n 2, 10, 0, 0) else none) else (bif Nat.beq pc 6 then some (.if_icmp .eq 0, 9, 43, 0) else none))) else (bif Nat.ble 1 pc then (bif Nat.ble 4 pc then (bif Nat.beq pc 4 then some (.dload 24, 6, 0, 0) else none) else (bif Nat.beq pc 1 then some (.getfield 7, 4, 83, 5) else none)) else (bif Nat.beq pc 0 then some (.aload_n 0, 1, 0, 0) else none))))))
def mc_56 (pc : Nat) : Option (Instr × Nat × Nat × Nat) := bif Nat.ble 67 pc then (bif Nat.ble 105 pc then (bif Nat.ble 124 pc then (bif Nat.ble 131 pc then (bif Nat.ble 135 pc then (bif Nat.ble 136 pc then (bif Nat.ble 139 pc then (bif Nat.beq pc 139 then some (.ireturn, 140, 0, 0) else none) else (bif Nat.beq pc 136 then some (.getfield 7, 139, 83, 5) else none)) else (bif Nat.beq pc 135 then some (.aload_n 0, 136, 0, 0) else none)) else (bif Nat.ble 132 pc then (bif Nat.beq pc 132 then some (.putfield 7, 135, 80, 3) else none) else (bif Nat.beq pc 131 then some (.dload 0, 132, 0, 0) else none))) else (bif Nat.ble 128 pc then (bif Nat.ble 129 pc then (bif Nat.ble 130 pc then (bif Nat.beq pc 130 then some (.aload_n 0, 131, 0, 0) else none) else (bif Nat.beq pc 129 then some (.ireturn, 130, 0, 0) else none)) else (bif Nat.beq pc 128 then some (.dload 0, 129, 0, 0) else none)) else (bif Nat.ble 125 pc then (bif Nat.beq pc 125 then some (.putfield 7, 128, 83, 5) else none) else (bif Nat.beq pc 124 then some (.iload_n 2, 125, 0, 0) else none)))) else (bif Nat.ble 113 pc then (bif Nat.ble 117 pc then (bif Nat.ble 120 pc then (bif Nat.ble 123 pc then (bif Nat.beq pc 123 then some (.aload_n 0, 124, 0, 0) else none) else (bif Nat.beq pc 120 then some (.ifCond .eq 0, 123, 130, 0) else none)) else (bif Nat.beq pc 117 then some (.getfield 7, 120, 63, 0) else none)) else (bif Nat.ble 116 pc then (bif Nat.beq pc 116 then some (.aload_n 0, 117, 0, 0) else none) else (bif Nat.beq pc 113 then some (.putfield 7, 116, 63, 0) else none))) else (bif Nat.ble 109 pc then (bif Nat.ble 112 pc then (bif Nat.beq pc 112 then some (.dload 0, 113, 0, 0) else none) else (bif Nat.beq pc 109 then some (.goto 0, 112, 113, 0) else none)) else (bif Nat.ble 108 pc then (bif Nat.beq pc 108 then some (.dload 1, 109, 0, 0) else none) else (bif Nat.beq pc 105 then some (.ifCond .ne 0, 108, 112, 0) else none))))) else (bif Nat.ble 86 pc then (bif Nat.ble 96 pc then (bif Nat.ble 98 pc then (bif Nat.ble 101 pc then (bif Nat.ble 104 pc then (bif Nat.beq pc 104 then some (.iload_n 1, 105, 0, 0) else none) else (bif Nat.beq pc 101 then some (.ifCond .lt 0, 104, 112, 0) else none)) else (bif Nat.beq pc 98 then some (.getfield 7, 101, 29, 11) else none)) else (bif Nat.ble 97 pc then (bif Nat.beq pc 97 then some (.aload_n 0, 98, 0, 0) else none) else (bif Nat.beq pc 96 then some (.aload_n 0, 97, 0, 0) else none))) else (bif Nat.ble 90 pc then (bif Nat.ble 93 pc then (bif Nat.beq pc 93 then some (.goto 0, 96, 18, 0) else none) else (bif Nat.beq pc 90 then some (.multianewarray 5 1, 93, 0, 0) else none)) else (bif Nat.ble 87 pc then (bif Nat.beq pc 87 then some (.multianewarray 4 1, 90, 0, 0) else none) else (bif Nat.beq pc 86 then some (.istore_n 3, 87, 0, 0) else none)))) else (bif Nat.ble 77 pc then (bif Nat.ble 82 pc then (bif Nat.ble 84 pc then (bif Nat.ble 85 pc then (bif Nat.beq pc 85 then some (.iadd, 86, 0, 0) else none) else (bif Nat.beq pc 84 then some (.dload 1, 85, 0, 0) else none)) else (bif Nat.beq pc 82 then some (.iload 5, 84, 0, 0) else none)) else (bif Nat.ble 79 pc then (bif Nat.beq pc 79 then some (.putfield 7, 82, 29, 11) else none) else (bif Nat.beq pc 77 then some (.iload 4, 79, 0, 0) else none))) else (bif Nat.ble 71 pc then (bif Nat.ble 74 pc then (bif Nat.beq pc 74 then some (.goto 0, 77, 79, 0) else none) else (bif Nat.beq pc 71 then some (.getfield 7, 74, 29, 11) else none)) else (bif Nat.ble 70 pc then (bif Nat.beq pc 70 then some (.aload_n 0, 71, 0, 0) else none) else (bif Nat.beq pc 67 then some (.ifCond .lt 0, 70, 77, 0) else none)))))) else (bif Nat.ble 30 pc then (bif Nat.ble 49 pc then (bif Nat.ble 57 pc then (bif Nat.ble 60 pc then (bif Nat.ble 63 pc then (bif Nat.ble 64 pc then (bif Nat.beq pc 64 then some (.getfield 7, 67, 29, 11) else none) else (bif Nat.beq pc 63 then some (.aload_n 0, 64, 0, 0) else none)) else (bif Nat.beq pc 60 then some (.ifCond .ne 0, 63, 70, 0) else none)) else (bif Nat.ble 58 pc then (bif Nat.beq pc 58 then some (.iload 6, 60, 0, 0) else none) else (bif Nat.beq pc 57 then some (.aload_n 0, 58, 0, 0) else none))) else (bif Nat.ble 52 pc then (bif Nat.ble 55 pc then (bif Nat.beq pc 55 then some (.istore 6, 57, 0, 0) else none) else (bif Nat.beq pc 52 then some (.invokevirtual 55, 55, 97, 0) else none)) else (bif Nat.ble 50 pc then (bif Nat.beq pc 50 then some (.iload 5, 52, 0, 0) else none) else (bif Nat.beq pc 49 then some (.iload_n 3, 50, 0, 0) else none)))) else (bif Nat.ble 40 pc then (bif Nat.ble 43 pc then (bif Nat.ble 45 pc then (bif Nat.ble 48 pc then (bif Nat.beq pc 48 then some (.aload_n 0, 49, 0, 0) else none) else (bif Nat.beq pc 45 then some (.if_icmp .ne 0, 48, 90, 0) else none)) else (bif Nat.beq pc 43 then some (.dload 59, 45, 0, 0) else none)) else (bif Nat.ble 42 pc then (bif Nat.beq pc 42 then some (.caload, 43, 0, 0) else none) else (bif Nat.beq pc 40 then some (.iload 5, 42, 0, 0) else none))) else (bif Nat.ble 36 pc then (bif Nat.ble 37 pc then (bif Nat.beq pc 37 then some (.fload 7, 40, 7, 4) else none) else (bif Nat.beq pc 36 then some (.aload_n 0, 37, 0, 0) else none)) else (bif Nat.ble 33 pc then (bif Nat.beq pc 33 then some (.if_icmp .eq 0, 36, 48, 0) else none) else (bif Nat.beq pc 30 then some (.getfield 7, 33, 80, 3) else none))))) else (bif Nat.ble 13 pc then (bif Nat.ble 20 pc then (bif Nat.ble 24 pc then (bif Nat.ble 27 pc then (bif Nat.ble 29 pc then (bif Nat.beq pc 29 then some (.aload_n 0, 30, 0, 0) else none) else (bif Nat.beq pc 27 then some (.iload 5, 29, 0, 0) else none)) else (bif Nat.beq pc 24 then some (.if_icmp .gt 0, 27, 96, 0) else none)) else (bif Nat.ble 21 pc then (bif Nat.beq pc 21 then some (.getfield 7, 24, 80, 3) else none) else (bif Nat.beq pc 20 then some (.aload_n 0, 21, 0, 0) else none))) else (bif Nat.ble 16 pc then (bif Nat.ble 18 pc then (bif Nat.beq pc 18 then some (.iload 5, 20, 0, 0) else none) else (bif Nat.beq pc 16 then some (.istore 5, 18, 0, 0) else none)) else (bif Nat.ble 15 pc then (bif Nat.beq pc 15 then some (.dload 0, 16, 0, 0) else none) else (bif Nat.beq pc 13 then some (.istore 4, 15, 0, 0) else none)))) else (bif Nat.ble 6 pc then (bif Nat.ble 10 pc then (bif Nat.ble 11 pc then (bif Nat.ble 12 pc then (bif Nat.beq pc 12 then some (.dload 0, 13, 0, 0) else none) else (bif Nat.beq pc 11 then some (.istore_n 3, 12, 0, 0) else none)) else (bif Nat.beq pc 10 then some (.dload 0, 11, 0, 0) else none)) else (bif Nat.ble 7 pc then (bif Nat.beq pc 7 then some (.putfield 7, 10, 29, 11) else none) else (bif Nat.beq pc 6 then some (.dstore 1, 7, 0, 0) else none))) else (bif Nat.ble 4 pc then (bif Nat.ble 5 pc then (bif Nat.beq pc 5 then some (.aload_n 0, 6, 0, 0) else none) else (bif Nat.beq pc 4 then some (.istore_n 2, 5, 0, 0) else none)) else (bif Nat.ble 1 pc then (bif Nat.beq pc 1 then some (.getfield 7, 4, 83, 5) else none) else (bif Nat.beq pc 0 then some (.aload_n 0, 1, 0, 0) else none))))))
def mc_57 (pc : Nat) : Option (Instr × Nat × Nat × Nat) := bif Nat.ble 1 pc then (bif Nat.ble 4 pc then (bif Nat.beq pc 4 then some (.ireturn, 5, 0, 0) else none) else (bif Nat.beq pc 1 then some (.getfield 0, 4, 68, 6) else none)) else (bif Nat.beq pc 0 then some (.aload_n 0, 1, 0, 0) else none)
def mc_58 (pc : Nat) : Option (Instr × Nat × Nat × Nat) := bif Nat.ble 5 pc then (bif Nat.ble 6 pc then (bif Nat.ble 9 pc then (bif Nat.beq pc 9 then some (.ireturn, 10, 0, 0) else none) else (bif Nat.beq pc 6 then some (.getfield 7, 9, 29, 11) else none)) else (bif Nat.beq pc 5 then some (.aload_n 0, 6, 0, 0) else none)) else (bif Nat.ble 1 pc then (bif Nat.ble 2 pc then (bif Nat.beq pc 2 then some (.putfield 7, 5, 63, 0) else none) else (bif Nat.beq pc 1 then some (.dload 0, 2, 0, 0) else none)) else (bif Nat.beq pc 0 then some (.aload_n 0, 1, 0, 0) else none))
def mc_59 (pc : Nat) : Option (Instr × Nat × Nat × Nat) := bif Nat.ble 1 pc then (bif Nat.ble 4 pc then (bif Nat.beq pc 4 then some (.areturn, 5, 0, 0) else none) else (bif Nat.beq pc 1 then some (.fload 1, 4, 15, 0) else none)) else (bif Nat.beq pc 0 then some (.aload_n 0, 1, 0, 0) else none)
def mc_60 (pc : Nat) : Option (Instr × Nat × Nat × Nat) := bif Nat.ble 22 pc then (bif Nat.ble 33 pc then (bif Nat.ble 39 pc then (bif Nat.ble 44 pc then (bif Nat.ble 45 pc then (bif Nat.ble 46 pc then (bif Nat.beq pc 46 then some (.ireturn, 47, 0, 0) else none) else (bif Nat.beq pc 45 then some (.iadd, 46, 0, 0) else none)) else (bif Nat.beq pc 44 then some (.iload_n 1, 45, 0, 0) else none)) else (bif Nat.ble 42 pc then (bif Nat.beq pc 42 then some (.dload 10, 44, 0, 0) else none) else (bif Nat.beq pc 39 then some (.goto 0, 42, 16, 0) else none))) else (bif Nat.ble 35 pc then (bif Nat.ble 36 pc then (bif Nat.beq pc 36 then some (.multianewarray 3 1, 39, 0, 0) else none) else (bif Nat.beq pc 35 then some (.istore_n 2, 36, 0, 0) else none)) else (bif Nat.ble 34 pc then (bif Nat.beq pc 34 then some (.imul, 35, 0, 0) else none) else (bif Nat.beq pc 33 then some (.iload_n 2, 34, 0, 0) else none)))) else (bif Nat.ble 28 pc then (bif Nat.ble 30 pc then (bif Nat.ble 31 pc then (bif Nat.beq pc 31 then some (.dload 10, 33, 0, 0) else none) else (bif Nat.beq pc 30 then some (.ireturn, 31, 0, 0) else none)) else (bif Nat.ble 29 pc then (bif Nat.beq pc 29 then some (.iadd, 30, 0, 0) else none) else (bif Nat.beq pc 28 then some (.iload_n 1, 29, 0, 0) else none))) else (bif Nat.ble 24 pc then (bif Nat.ble 27 pc then (bif Nat.beq pc 27 then some (.iload_n 3, 28, 0, 0) else none) else (bif Nat.beq pc 24 then some (.if_icmp .le 0, 27, 31, 0) else none)) else (bif Nat.ble 23 pc then (bif Nat.beq pc 23 then some (.iload_n 2, 24, 0, 0) else none) else (bif Nat.beq pc 22 then some (.iload_n 0, 23, 0, 0) else none))))) else (bif Nat.ble 10 pc then (bif Nat.ble 15 pc then (bif Nat.ble 17 pc then (bif Nat.ble 19 pc then (bif Nat.beq pc 19 then some (.if_icmp .ge 0, 22, 42, 0) else none) else (bif Nat.beq pc 17 then some (.dload 10, 19, 0, 0) else none)) else (bif Nat.ble 16 pc then (bif Nat.beq pc 16 then some (.iload_n 3, 17, 0, 0) else none) else (bif Nat.beq pc 15 then some (.istore_n 3, 16, 0, 0) else none))) else (bif Nat.ble 13 pc then (bif Nat.ble 14 pc then (bif Nat.beq pc 14 then some (.dload 1, 15, 0, 0) else none) else (bif Nat.beq pc 13 then some (.istore_n 2, 14, 0, 0) else none)) else (bif Nat.ble 11 pc then (bif Nat.beq pc 11 then some (.dstore 10, 13, 0, 0) else none) else (bif Nat.beq pc 10 then some (.istore_n 0, 11, 0, 0) else none)))) else (bif Nat.ble 6 pc then (bif Nat.ble 8 pc then (bif Nat.ble 9 pc then (bif Nat.beq pc 9 then some (.ineg, 10, 0, 0) else none) else (bif Nat.beq pc 8 then some (.iload_n 0, 9, 0, 0) else none)) else (bif Nat.ble 7 pc then (bif Nat.beq pc 7 then some (.istore_n 1, 8, 0, 0) else none) else (bif Nat.beq pc 6 then some (.dload 0, 7, 0, 0) else none))) else (bif Nat.ble 2 pc then (bif Nat.ble 3 pc then (bif Nat.beq pc 3 then some (.ifCond .lt 0, 6, 11, 0) else none) else (bif Nat.beq pc 2 then some (.iload_n 0, 3, 0, 0) else none)) else (bif Nat.ble 1 pc then (bif Nat.beq pc 1 then some (.istore_n 1, 2, 0, 0) else none) else (bif Nat.beq pc 0 then some (.dload 1, 1, 0, 0) else none)))))
def mc_61 (pc : Nat) : Option (Instr × Nat × Nat × Nat) := bif Nat.ble 56 pc then (bif Nat.ble 88 pc then (bif Nat.ble 104 pc then (bif Nat.ble 113 pc then (bif Nat.ble 117 pc then (bif Nat.ble 118 pc then (bif Nat.ble 120 pc then (bif Nat.beq pc 120 then some (.ireturn, 121, 0, 0) else none) else (bif Nat.beq pc 118 then some (.iload 5, 120, 0, 0) else none)) else (bif Nat.beq pc 117 then some (.bastore, 118, 0, 0) else none)) else (bif Nat.ble 115 pc then (bif Nat.beq pc 115 then some (.dload 45, 117, 0, 0) else none) else (bif Nat.beq pc 113 then some (.iload 5, 115, 0, 0) else none))) else (bif Nat.ble 109 pc then (bif Nat.ble 110 pc then (bif Nat.beq pc 110 then some (.iinc 5 (-1), 113, 0, 0) else none) else (bif Nat.beq pc 109 then some (.aload_n 2, 110, 0, 0) else none)) else (bif Nat.ble 106 pc then (bif Nat.beq pc 106 then some (.ifCond .eq 0, 109, 118, 0) else none) else (bif Nat.beq pc 104 then some (.iload 6, 106, 0, 0) else none)))) else (bif Nat.ble 97 pc then (bif Nat.ble 101 pc then (bif Nat.ble 102 pc then (bif Nat.ble 103 pc then (bif Nat.beq pc 103 then some (.bastore, 104, 0, 0) else none) else (bif Nat.beq pc 102 then some (.baload, 103, 0, 0) else none)) else (bif Nat.beq pc 101 then some (.ineg, 102, 0, 0) else none)) else (bif Nat.ble 100 pc then (bif Nat.beq pc 100 then some (.iload_n 0, 101, 0, 0) else none) else (bif Nat.beq pc 97 then some (.getstatic 9, 100, 87, 0) else none))) else (bif Nat.ble 92 pc then (bif Nat.ble 95 pc then (bif Nat.beq pc 95 then some (.iload 5, 97, 0, 0) else none) else (bif Nat.beq pc 92 then some (.iinc 5 (-1), 95, 0, 0) else none)) else (bif Nat.ble 91 pc then (bif Nat.beq pc 91 then some (.aload_n 2, 92, 0, 0) else none) else (bif Nat.beq pc 88 then some (.if_icmp .ge 0, 91, 104, 0) else none))))) else (bif Nat.ble 73 pc then (bif Nat.ble 82 pc then (bif Nat.ble 84 pc then (bif Nat.ble 85 pc then (bif Nat.ble 86 pc then (bif Nat.beq pc 86 then some (.dstore 9, 88, 0, 0) else none) else (bif Nat.beq pc 85 then some (.iload_n 0, 86, 0, 0) else none)) else (bif Nat.beq pc 84 then some (.bastore, 85, 0, 0) else none)) else (bif Nat.ble 83 pc then (bif Nat.beq pc 83 then some (.baload, 84, 0, 0) else none) else (bif Nat.beq pc 82 then some (.ineg, 83, 0, 0) else none))) else (bif Nat.ble 78 pc then (bif Nat.ble 81 pc then (bif Nat.beq pc 81 then some (.iload_n 0, 82, 0, 0) else none) else (bif Nat.beq pc 78 then some (.getstatic 10, 81, 83, 0) else none)) else (bif Nat.ble 76 pc then (bif Nat.beq pc 76 then some (.iload 5, 78, 0, 0) else none) else (bif Nat.beq pc 73 then some (.iinc 5 (-1), 76, 0, 0) else none)))) else (bif Nat.ble 65 pc then (bif Nat.ble 68 pc then (bif Nat.ble 69 pc then (bif Nat.ble 72 pc then (bif Nat.beq pc 72 then some (.aload_n 2, 73, 0, 0) else none) else (bif Nat.beq pc 69 then some (.goto 0, 72, 22, 0) else none)) else (bif Nat.beq pc 68 then some (.bastore, 69, 0, 0) else none)) else (bif Nat.ble 67 pc then (bif Nat.beq pc 67 then some (.baload, 68, 0, 0) else none) else (bif Nat.beq pc 65 then some (.iload 4, 67, 0, 0) else none))) else (bif Nat.ble 60 pc then (bif Nat.ble 62 pc then (bif Nat.beq pc 62 then some (.getstatic 9, 65, 87, 0) else none) else (bif Nat.beq pc 60 then some (.iload 5, 62, 0, 0) else none)) else (bif Nat.ble 57 pc then (bif Nat.beq pc 57 then some (.iinc 5 (-1), 60, 0, 0) else none) else (bif Nat.beq pc 56 then some (.aload_n 2, 57, 0, 0) else none)))))) else (bif Nat.ble 29 pc then (bif Nat.ble 41 pc then (bif Nat.ble 47 pc then (bif Nat.ble 52 pc then (bif Nat.ble 54 pc then (bif Nat.ble 55 pc then (bif Nat.beq pc 55 then some (.bastore, 56, 0, 0) else none) else (bif Nat.beq pc 54 then some (.baload, 55, 0, 0) else none)) else (bif Nat.beq pc 52 then some (.iload 4, 54, 0, 0) else none)) else (bif Nat.ble 49 pc then (bif Nat.beq pc 49 then some (.getstatic 10, 52, 83, 0) else none) else (bif Nat.beq pc 47 then some (.iload 5, 49, 0, 0) else none))) else (bif Nat.ble 43 pc then (bif Nat.ble 44 pc then (bif Nat.beq pc 44 then some (.iinc 5 (-1), 47, 0, 0) else none) else (bif Nat.beq pc 43 then some (.aload_n 2, 44, 0, 0) else none)) else (bif Nat.ble 42 pc then (bif Nat.beq pc 42 then some (.istore_n 0, 43, 0, 0) else none) else (bif Nat.beq pc 41 then some (.iload_n 3, 42, 0, 0) else none)))) else (bif Nat.ble 34 pc then (bif Nat.ble 37 pc then (bif Nat.ble 38 pc then (bif Nat.ble 39 pc then (bif Nat.beq pc 39 then some (.istore 4, 41, 0, 0) else none) else (bif Nat.beq pc 38 then some (.isub, 39, 0, 0) else none)) else (bif Nat.beq pc 37 then some (.iload_n 0, 38, 0, 0) else none)) else (bif Nat.ble 36 pc then (bif Nat.beq pc 36 then some (.imul, 37, 0, 0) else none) else (bif Nat.beq pc 34 then some (.dload 100, 36, 0, 0) else none))) else (bif Nat.ble 32 pc then (bif Nat.ble 33 pc then (bif Nat.beq pc 33 then some (.iload_n 3, 34, 0, 0) else none) else (bif Nat.beq pc 32 then some (.istore_n 3, 33, 0, 0) else none)) else (bif Nat.ble 31 pc then (bif Nat.beq pc 31 then some (.idiv, 32, 0, 0) else none) else (bif Nat.beq pc 29 then some (.dload 100, 31, 0, 0) else none))))) else (bif Nat.ble 14 pc then (bif Nat.ble 21 pc then (bif Nat.ble 23 pc then (bif Nat.ble 25 pc then (bif Nat.ble 28 pc then (bif Nat.beq pc 28 then some (.iload_n 0, 29, 0, 0) else none) else (bif Nat.beq pc 25 then some (.if_icmp .gt 0, 28, 72, 0) else none)) else (bif Nat.beq pc 23 then some (.dstore 100, 25, 0, 0) else none)) else (bif Nat.ble 22 pc then (bif Nat.beq pc 22 then some (.iload_n 0, 23, 0, 0) else none) else (bif Nat.beq pc 21 then some (.istore_n 0, 22, 0, 0) else none))) else (bif Nat.ble 19 pc then (bif Nat.ble 20 pc then (bif Nat.beq pc 20 then some (.ineg, 21, 0, 0) else none) else (bif Nat.beq pc 19 then some (.iload_n 0, 20, 0, 0) else none)) else (bif Nat.ble 16 pc then (bif Nat.beq pc 16 then some (.ifCond .ne 0, 19, 22, 0) else none) else (bif Nat.beq pc 14 then some (.iload 6, 16, 0, 0) else none)))) else (bif Nat.ble 7 pc then (bif Nat.ble 11 pc then (bif Nat.ble 12 pc then (bif Nat.beq pc 12 then some (.istore 6, 14, 0, 0) else none) else (bif Nat.beq pc 11 then some (.dload 0, 12, 0, 0) else none)) else (bif Nat.ble 8 pc then (bif Nat.beq pc 8 then some (.goto 0, 11, 12, 0) else none) else (bif Nat.beq pc 7 then some (.dload 1, 8, 0, 0) else none))) else (bif Nat.ble 3 pc then (bif Nat.ble 4 pc then (bif Nat.beq pc 4 then some (.ifCond .ge 0, 7, 11, 0) else none) else (bif Nat.beq pc 3 then some (.iload_n 0, 4, 0, 0) else none)) else (bif Nat.ble 1 pc then (bif Nat.beq pc 1 then some (.istore 5, 3, 0, 0) else none) else (bif Nat.beq pc 0 then some (.iload_n 1, 1, 0, 0) else none))))))
def mc_62 (pc : Nat) : Option (Instr × Nat × Nat × Nat) := bif Nat.ble 26 pc then (bif Nat.ble 40 pc then (bif Nat.ble 49 pc then (bif Nat.ble 53 pc then (bif Nat.ble 54 pc then (bif Nat.beq pc 54 then some (.areturn, 55, 0, 0) else none) else (bif Nat.beq pc 53 then some (.aload_n 0, 54, 0, 0) else none)) else (bif Nat.ble 50 pc then (bif Nat.beq pc 50 then some (.putfield 1, 53, 79, 3) else none) else (bif Nat.beq pc 49 then some (.iload_n 3, 50, 0, 0) else none))) else (bif Nat.ble 47 pc then (bif Nat.ble 48 pc then (bif Nat.beq pc 48 then some (.aload_n 0, 49, 0, 0) else none) else (bif Nat.beq pc 47 then some (.pop, 48, 0, 0) else none)) else (bif Nat.ble 41 pc then (bif Nat.beq pc 41 then some (.fload 1, 44, 15, 0) else none) else (bif Nat.beq pc 40 then some (.aload_n 0, 41, 0, 0) else none)))) else (bif Nat.ble 34 pc then (bif Nat.ble 38 pc then (bif Nat.ble 39 pc then (bif Nat.beq pc 39 then some (.iload_n 3, 40, 0, 0) else none) else (bif Nat.beq pc 38 then some (.iload_n 2, 39, 0, 0) else none)) else (bif Nat.ble 37 pc then (bif Nat.beq pc 37 then some (.iload_n 1, 38, 0, 0) else none) else (bif Nat.beq pc 34 then some (.goto 0, 37, 48, 0) else none))) else (bif Nat.ble 30 pc then (bif Nat.ble 33 pc then (bif Nat.beq pc 33 then some (.pop, 34, 0, 0) else none) else (bif Nat.beq pc 30 then some (.invokestatic 61, 33, 248, 0) else none)) else (bif Nat.ble 27 pc then (bif Nat.beq pc 27 then some (.fload 1, 30, 15, 0) else none) else (bif Nat.beq pc 26 then some (.aload_n 0, 27, 0, 0) else none))))) else (bif Nat.ble 12 pc then (bif Nat.ble 18 pc then (bif Nat.ble 24 pc then (bif Nat.ble 25 pc then (bif Nat.beq pc 25 then some (.iload_n 3, 26, 0, 0) else none) else (bif Nat.beq pc 24 then some (.iload_n 1, 25, 0, 0) else none)) else (bif Nat.ble 21 pc then (bif Nat.beq pc 21 then some (.ifCond .eq 0, 24, 37, 0) else none) else (bif Nat.beq pc 18 then some (.invokevirtual 18, 21, 83, 0) else none))) else (bif Nat.ble 14 pc then (bif Nat.ble 17 pc then (bif Nat.beq pc 17 then some (.aload_n 0, 18, 0, 0) else none) else (bif Nat.beq pc 14 then some (.invokevirtual 17, 17, 100, 0) else none)) else (bif Nat.ble 13 pc then (bif Nat.beq pc 13 then some (.iload_n 3, 14, 0, 0) else none) else (bif Nat.beq pc 12 then some (.aload_n 0, 13, 0, 0) else none)))) else (bif Nat.ble 6 pc then (bif Nat.ble 10 pc then (bif Nat.ble 11 pc then (bif Nat.beq pc 11 then some (.istore_n 3, 12, 0, 0) else none) else (bif Nat.beq pc 10 then some (.iadd, 11, 0, 0) else none)) else (bif Nat.ble 7 pc then (bif Nat.beq pc 7 then some (.invokestatic 60, 10, 245, 0) else none) else (bif Nat.beq pc 6 then some (.iload_n 1, 7, 0, 0) else none))) else (bif Nat.ble 4 pc then (bif Nat.ble 5 pc then (bif Nat.beq pc 5 then some (.iload_n 2, 6, 0, 0) else none) else (bif Nat.beq pc 4 then some (.istore_n 2, 5, 0, 0) else none)) else (bif Nat.ble 1 pc then (bif Nat.beq pc 1 then some (.getfield 1, 4, 79, 3) else none) else (bif Nat.beq pc 0 then some (.aload_n 0, 1, 0, 0) else none)))))
def mc_63 (pc : Nat) : Option (Instr × Nat × Nat × Nat) := bif Nat.ble 5 pc then (bif Nat.ble 6 pc then (bif Nat.ble 7 pc then (bif Nat.beq pc 7 then some (.areturn, 8, 0, 0) else none) else (bif Nat.beq pc 6 then some (.aload_n 0, 7, 0, 0) else none)) else (bif Nat.beq pc 5 then some (.pop, 6, 0, 0) else none)) else (bif Nat.ble 1 pc then (bif Nat.ble 2 pc then (bif Nat.beq pc 2 then some (.invokespecial 62, 5, 53, 0) else none) else (bif Nat.beq pc 1 then some (.iload_n 1, 2, 0, 0) else none)) else (bif Nat.beq pc 0 then some (.aload_n 0, 1, 0, 0) else none))
def mc_64 (pc : Nat) : Option (Instr × Nat × Nat × Nat) := bif Nat.ble 13 pc then (bif Nat.ble 26 pc then (bif Nat.ble 30 pc then (bif Nat.ble 37 pc then (bif Nat.beq pc 37 then some (.return_, 38, 0, 0) else none) else (bif Nat.beq pc 30 then some (.invokevirtual 69, 33, 61, 0) else none)) else (bif Nat.ble 27 pc then (bif Nat.beq pc 27 then some (.invokevirtual 63, 30, 54, 0) else none) else (bif Nat.beq pc 26 then some (.iload_n 1, 27, 0, 0) else none))) else (bif Nat.ble 16 pc then (bif Nat.ble 17 pc then (bif Nat.beq pc 17 then some (.invokevirtual 63, 20, 54, 0) else none) else (bif Nat.beq pc 16 then some (.iload_n 0, 17, 0, 0) else none)) else (bif Nat.beq pc 13 then some (.invokespecial 3, 16, 47, 0) else none))) else (bif Nat.ble 8 pc then (bif Nat.ble 9 pc then (bif Nat.ble 12 pc then (bif Nat.beq pc 12 then some (.dup, 13, 0, 0) else none) else (bif Nat.beq pc 9 then some (.new 1, 12, 45, 0) else none)) else (bif Nat.beq pc 8 then some (.dup, 9, 0, 0) else none)) else (bif Nat.ble 1 pc then (bif Nat.ble 2 pc then (bif Nat.beq pc 2 then some (.if_icmp .ge 0, 5, 37, 0) else none) else (bif Nat.beq pc 1 then some (.iload_n 0, 2, 0, 0) else none)) else (bif Nat.beq pc 0 then some (.iload_n 1, 1, 0, 0) else none)))
def mc_65 (pc : Nat) : Option (Instr × Nat × Nat × Nat) := bif Nat.ble 15 pc then (bif Nat.ble 22 pc then (bif Nat.ble 27 pc then (bif Nat.ble 30 pc then (bif Nat.ble 32 pc then (bif Nat.beq pc 32 then some (.areturn, 33, 0, 0) else none) else (bif Nat.beq pc 30 then some (.aload 4, 32, 0, 0) else none)) else (bif Nat.beq pc 27 then some (.invokestatic 900, 30, 150, 0) else none)) else (bif Nat.ble 23 pc then (bif Nat.ble 24 pc then (bif Nat.beq pc 24 then some (.invokestatic 8, 27, 304, 0) else none) else (bif Nat.beq pc 23 then some (.iload_n 3, 24, 0, 0) else none)) else (bif Nat.beq pc 22 then some (.isub, 23, 0, 0) else none))) else (bif Nat.ble 19 pc then (bif Nat.ble 20 pc then (bif Nat.ble 21 pc then (bif Nat.beq pc 21 then some (.iload_n 1, 22, 0, 0) else none) else (bif Nat.beq pc 20 then some (.arraylength, 21, 0, 0) else none)) else (bif Nat.beq pc 19 then some (.aload_n 0, 20, 0, 0) else none)) else (bif Nat.ble 16 pc then (bif Nat.ble 18 pc then (bif Nat.beq pc 18 then some (.dload 0, 19, 0, 0) else none) else (bif Nat.beq pc 16 then some (.aload 4, 18, 0, 0) else none)) else (bif Nat.beq pc 15 then some (.iload_n 1, 16, 0, 0) else none)))) else (bif Nat.ble 7 pc then (bif Nat.ble 10 pc then (bif Nat.ble 12 pc then (bif Nat.ble 14 pc then (bif Nat.beq pc 14 then some (.aload_n 0, 15, 0, 0) else none) else (bif Nat.beq pc 12 then some (.astore 4, 14, 0, 0) else none)) else (bif Nat.beq pc 10 then some (.newarray .byte, 12, 0, 0) else none)) else (bif Nat.ble 8 pc then (bif Nat.ble 9 pc then (bif Nat.beq pc 9 then some (.iload_n 3, 10, 0, 0) else none) else (bif Nat.beq pc 8 then some (.istore_n 3, 9, 0, 0) else none)) else (bif Nat.beq pc 7 then some (.isub, 8, 0, 0) else none))) else (bif Nat.ble 2 pc then (bif Nat.ble 5 pc then (bif Nat.ble 6 pc then (bif Nat.beq pc 6 then some (.iload_n 1, 7, 0, 0) else none) else (bif Nat.beq pc 5 then some (.iload_n 2, 6, 0, 0) else none)) else (bif Nat.beq pc 2 then some (.invokestatic 64, 5, 343, 0) else none)) else (bif Nat.ble 1 pc then (bif Nat.beq pc 1 then some (.iload_n 2, 2, 0, 0) else none) else (bif Nat.beq pc 0 then some (.iload_n 1, 1, 0, 0) else none))))
def mc_66 (pc : Nat) : Option (Instr × Nat × Nat × Nat) := bif Nat.ble 11 pc then (bif Nat.ble 17 pc then (bif Nat.ble 21 pc then (bif Nat.ble 24 pc then (bif Nat.beq pc 24 then some (.areturn, 25, 0, 0) else none) else (bif Nat.beq pc 21 then some (.checkcast 17, 24, 311, 0) else none)) else (bif Nat.ble 18 pc then (bif Nat.beq pc 18 then some (.invokevirtual 901, 21, 310, 0) else none) else (bif Nat.beq pc 17 then some (.aload_n 0, 18, 0, 0) else none))) else (bif Nat.ble 13 pc then (bif Nat.ble 16 pc then (bif Nat.beq pc 16 then some (.areturn, 17, 0, 0) else none) else (bif Nat.beq pc 13 then some (.invokestatic 65, 16, 339, 0) else none)) else (bif Nat.ble 12 pc then (bif Nat.beq pc 12 then some (.iload_n 2, 13, 0, 0) else none) else (bif Nat.beq pc 11 then some (.iload_n 1, 12, 0, 0) else none)))) else (bif Nat.ble 5 pc then (bif Nat.ble 7 pc then (bif Nat.ble 10 pc then (bif Nat.beq pc 10 then some (.aload_n 0, 11, 0, 0) else none) else (bif Nat.beq pc 7 then some (.if_icmp .eq 0, 10, 17, 0) else none)) else (bif Nat.ble 6 pc then (bif Nat.beq pc 6 then some (.arraylength, 7, 0, 0) else none) else (bif Nat.beq pc 5 then some (.aload_n 0, 6, 0, 0) else none))) else (bif Nat.ble 1 pc then (bif Nat.ble 4 pc then (bif Nat.beq pc 4 then some (.iload_n 2, 5, 0, 0) else none) else (bif Nat.beq pc 1 then some (.ifCond .ne 0, 4, 10, 0) else none)) else (bif Nat.beq pc 0 then some (.iload_n 1, 1, 0, 0) else none)))
def mc_67 (pc : Nat) : Option (Instr × Nat × Nat × Nat) := bif Nat.ble 48 pc then (bif Nat.ble 78 pc then (bif Nat.ble 86 pc then (bif Nat.ble 90 pc then (bif Nat.ble 94 pc then (bif Nat.ble 97 pc then (bif Nat.beq pc 97 then some (.return_, 98, 0, 0) else none) else (bif Nat.beq pc 94 then some (.fstore 2, 97, 9, 0) else none)) else (bif Nat.ble 91 pc then (bif Nat.beq pc 91 then some (.invokestatic 66, 94, 54, 0) else none) else (bif Nat.beq pc 90 then some (.ishl, 91, 0, 0) else none))) else (bif Nat.ble 87 pc then (bif Nat.ble 89 pc then (bif Nat.beq pc 89 then some (.dload 1, 90, 0, 0) else none) else (bif Nat.beq pc 87 then some (.iload 4, 89, 0, 0) else none)) else (bif Nat.beq pc 86 then some (.dload 0, 87, 0, 0) else none))) else (bif Nat.ble 81 pc then (bif Nat.ble 84 pc then (bif Nat.ble 85 pc then (bif Nat.beq pc 85 then some (.aload_n 3, 86, 0, 0) else none) else (bif Nat.beq pc 84 then some (.aload_n 0, 85, 0, 0) else none)) else (bif Nat.beq pc 81 then some (.lstore 2, 84, 15, 1) else none)) else (bif Nat.ble 79 pc then (bif Nat.ble 80 pc then (bif Nat.beq pc 80 then some (.dload 1, 81, 0, 0) else none) else (bif Nat.beq pc 79 then some (.aload_n 0, 80, 0, 0) else none)) else (bif Nat.beq pc 78 then some (.return_, 79, 0, 0) else none)))) else (bif Nat.ble 62 pc then (bif Nat.ble 67 pc then (bif Nat.ble 70 pc then (bif Nat.ble 75 pc then (bif Nat.beq pc 75 then some (.lstore 2, 78, 15, 1) else none) else (bif Nat.beq pc 70 then some (.iload 4, 72, 0, 0) else none)) else (bif Nat.beq pc 67 then some (.fload 2, 70, 9, 0) else none)) else (bif Nat.ble 65 pc then (bif Nat.ble 66 pc then (bif Nat.beq pc 66 then some (.aload_n 0, 67, 0, 0) else none) else (bif Nat.beq pc 65 then some (.aload_n 0, 66, 0, 0) else none)) else (bif Nat.beq pc 62 then some (.fstore 2, 65, 9, 0) else none))) else (bif Nat.ble 55 pc then (bif Nat.ble 56 pc then (bif Nat.ble 57 pc then (bif Nat.beq pc 57 then some (.iload 4, 59, 0, 0) else none) else (bif Nat.beq pc 56 then some (.dload 0, 57, 0, 0) else none)) else (bif Nat.beq pc 55 then some (.aload_n 3, 56, 0, 0) else none)) else (bif Nat.ble 51 pc then (bif Nat.ble 54 pc then (bif Nat.beq pc 54 then some (.aload_n 0, 55, 0, 0) else none) else (bif Nat.beq pc 51 then some (.ifCond .eq 0, 54, 79, 0) else none)) else (bif Nat.beq pc 48 then some (.getfield 1, 51, 1048, 2) else none))))) else (bif Nat.ble 23 pc then (bif Nat.ble 32 pc then (bif Nat.ble 41 pc then (bif Nat.ble 44 pc then (bif Nat.ble 47 pc then (bif Nat.beq pc 47 then some (.aload_n 1, 48, 0, 0) else none) else (bif Nat.beq pc 44 then some (.ifCond .eq 0, 47, 79, 0) else none)) else (bif Nat.beq pc 41 then some (.getstatic 0, 44, 38, 0) else none)) else (bif Nat.ble 35 pc then (bif Nat.ble 38 pc then (bif Nat.beq pc 38 then some (.goto 0, 41, 97, 0) else none) else (bif Nat.beq pc 35 then some (.fstore 2, 38, 9, 0) else none)) else (bif Nat.beq pc 32 then some (.invokestatic 66, 35, 54, 0) else none))) else (bif Nat.ble 28 pc then (bif Nat.ble 29 pc then (bif Nat.ble 30 pc then (bif Nat.beq pc 30 then some (.iload 4, 32, 0, 0) else none) else (bif Nat.beq pc 29 then some (.dload 0, 30, 0, 0) else none)) else (bif Nat.beq pc 28 then some (.aload_n 3, 29, 0, 0) else none)) else (bif Nat.ble 24 pc then (bif Nat.ble 27 pc then (bif Nat.beq pc 27 then some (.aload_n 0, 28, 0, 0) else none) else (bif Nat.beq pc 24 then some (.lstore 2, 27, 15, 1) else none)) else (bif Nat.beq pc 23 then some (.dload 0, 24, 0, 0) else none)))) else (bif Nat.ble 10 pc then (bif Nat.ble 16 pc then (bif Nat.ble 19 pc then (bif Nat.ble 22 pc then (bif Nat.beq pc 22 then some (.aload_n 0, 23, 0, 0) else none) else (bif Nat.beq pc 19 then some (.ifCond .eq 0, 22, 41, 0) else none)) else (bif Nat.beq pc 16 then some (.invokevirtual 18, 19, 1047, 0) else none)) else (bif Nat.ble 13 pc then (bif Nat.ble 15 pc then (bif Nat.beq pc 15 then some (.aload_n 1, 16, 0, 0) else none) else (bif Nat.beq pc 13 then some (.istore 4, 15, 0, 0) else none)) else (bif Nat.beq pc 10 then some (.invokevirtual 13, 13, 549, 0) else none))) else (bif Nat.ble 5 pc then (bif Nat.ble 8 pc then (bif Nat.ble 9 pc then (bif Nat.beq pc 9 then some (.aload_n 1, 10, 0, 0) else none) else (bif Nat.beq pc 8 then some (.astore_n 3, 9, 0, 0) else none)) else (bif Nat.beq pc 5 then some (.invokevirtual 59, 8, 552, 0) else none)) else (bif Nat.ble 1 pc then (bif Nat.ble 4 pc then (bif Nat.beq pc 4 then some (.aload_n 1, 5, 0, 0) else none) else (bif Nat.beq pc 1 then some (.invokespecial 903, 4, 1, 0) else none)) else (bif Nat.beq pc 0 then some (.aload_n 0, 1, 0, 0) else none)))))
def mc_68 (pc : Nat) : Option (Instr × Nat × Nat × Nat) := bif Nat.ble 2 pc then (bif Nat.ble 3 pc then (bif Nat.ble 6 pc then (bif Nat.beq pc 6 then some (.return_, 7, 0, 0) else none) else (bif Nat.beq pc 3 then some (.invokespecial 67, 6, 489, 0) else none)) else (bif Nat.beq pc 2 then some (.aconst_null, 3, 0, 0) else none)) else (bif Nat.ble 1 pc then (bif Nat.beq pc 1 then some (.aload_n 1, 2, 0, 0) else none) else (bif Nat.beq pc 0 then some (.aload_n 0, 1, 0, 0) else none))
def mc_69 (pc : Nat) : Option (Instr × Nat × Nat × Nat) := bif Nat.ble 4 pc then (bif Nat.ble 5 pc then (bif Nat.ble 8 pc then (bif Nat.beq pc 8 then some (.areturn, 9, 0, 0) else none) else (bif Nat.beq pc 5 then some (.invokespecial 68, 8, 137, 0) else none)) else (bif Nat.beq pc 4 then some (.aload_n 0, 5, 0, 0) else none)) else (bif Nat.ble 3 pc then (bif Nat.beq pc 3 then some (.dup, 4, 0, 0) else none) else (bif Nat.beq pc 0 then some (.new 2, 3, 18, 0) else none))
def mc_70 (pc : Nat) : Option (Instr × Nat × Nat × Nat) := bif Nat.ble 7 pc then (bif Nat.ble 12 pc then (bif Nat.ble 13 pc then (bif Nat.ble 14 pc then (bif Nat.beq pc 14 then some (.ireturn, 15, 0, 0) else none) else (bif Nat.beq pc 13 then some (.i2c, 14, 0, 0) else none)) else (bif Nat.beq pc 12 then some (.iand, 13, 0, 0) else none)) else (bif Nat.ble 8 pc then (bif Nat.ble 9 pc then (bif Nat.beq pc 9 then some (.dload 255, 12, 0, 0) else none) else (bif Nat.beq pc 8 then some (.baload, 9, 0, 0) else none)) else (bif Nat.beq pc 7 then some (.iload_n 1, 8, 0, 0) else none))) else (bif Nat.ble 2 pc then (bif Nat.ble 3 pc then (bif Nat.ble 6 pc then (bif Nat.beq pc 6 then some (.aload_n 0, 7, 0, 0) else none) else (bif Nat.beq pc 3 then some (.invokestatic 31, 6, 9, 0) else none)) else (bif Nat.beq pc 2 then some (.arraylength, 3, 0, 0) else none)) else (bif Nat.ble 1 pc then (bif Nat.beq pc 1 then some (.aload_n 0, 2, 0, 0) else none) else (bif Nat.beq pc 0 then some (.iload_n 1, 1, 0, 0) else none)))
def mc_71 (pc : Nat) : Option (Instr × Nat × Nat × Nat) := bif Nat.ble 12 pc then (bif Nat.ble 17 pc then (bif Nat.ble 20 pc then (bif Nat.ble 24 pc then (bif Nat.beq pc 24 then some (.ireturn, 25, 0, 0) else none) else (bif Nat.beq pc 20 then some (.iload_n 1, 21, 0, 0) else none)) else (bif Nat.beq pc 17 then some (.fload 2, 20, 9, 0) else none)) else (bif Nat.ble 15 pc then (bif Nat.ble 16 pc then (bif Nat.beq pc 16 then some (.aload_n 0, 17, 0, 0) else none) else (bif Nat.beq pc 15 then some (.ireturn, 16, 0, 0) else none)) else (bif Nat.beq pc 12 then some (.invokestatic 70, 15, 495, 0) else none))) else (bif Nat.ble 7 pc then (bif Nat.ble 8 pc then (bif Nat.ble 11 pc then (bif Nat.beq pc 11 then some (.iload_n 1, 12, 0, 0) else none) else (bif Nat.beq pc 8 then some (.fload 2, 11, 9, 0) else none)) else (bif Nat.beq pc 7 then some (.aload_n 0, 8, 0, 0) else none)) else (bif Nat.ble 1 pc then (bif Nat.ble 4 pc then (bif Nat.beq pc 4 then some (.ifCond .eq 0, 7, 16, 0) else none) else (bif Nat.beq pc 1 then some (.invokevirtual 36, 4, 492, 0) else none)) else (bif Nat.beq pc 0 then some (.aload_n 0, 1, 0, 0) else none)))
def mc_72 (pc : Nat) : Option (Instr × Nat × Nat × Nat) := bif Nat.ble 9 pc then (bif Nat.ble 13 pc then (bif Nat.ble 16 pc then (bif Nat.ble 17 pc then (bif Nat.beq pc 17 then some (.ireturn, 18, 0, 0) else none) else (bif Nat.beq pc 16 then some (.dload 0, 17, 0, 0) else none)) else (bif Nat.beq pc 13 then some (.goto 0, 16, 17, 0) else none)) else (bif Nat.ble 12 pc then (bif Nat.beq pc 12 then some (.dload 1, 13, 0, 0) else none) else (bif Nat.beq pc 9 then some (.if_icmp .gt 0, 12, 16, 0) else none))) else (bif Nat.ble 3 pc then (bif Nat.ble 6 pc then (bif Nat.ble 7 pc then (bif Nat.beq pc 7 then some (.dload 90, 9, 0, 0) else none) else (bif Nat.beq pc 6 then some (.iload_n 0, 7, 0, 0) else none)) else (bif Nat.beq pc 3 then some (.if_icmp .lt 0, 6, 16, 0) else none)) else (bif Nat.ble 1 pc then (bif Nat.beq pc 1 then some (.dload 65, 3, 0, 0) else none) else (bif Nat.beq pc 0 then some (.iload_n 0, 1, 0, 0) else none)))
def mc_73 (pc : Nat) : Option (Instr × Nat × Nat × Nat) := bif Nat.ble 11 pc then (bif Nat.ble 15 pc then (bif Nat.ble 18 pc then (bif Nat.ble 19 pc then (bif Nat.beq pc 19 then some (.ireturn, 20, 0, 0) else none) else (bif Nat.beq pc 18 then some (.dload 0, 19, 0, 0) else none)) else (bif Nat.beq pc 15 then some (.goto 0, 18, 19, 0) else none)) else (bif Nat.ble 14 pc then (bif Nat.beq pc 14 then some (.dload 1, 15, 0, 0) else none) else (bif Nat.beq pc 11 then some (.ifCond .eq 0, 14, 18, 0) else none))) else (bif Nat.ble 4 pc then (bif Nat.ble 7 pc then (bif Nat.ble 8 pc then (bif Nat.beq pc 8 then some (.invokestatic 72, 11, 7, 0) else none) else (bif Nat.beq pc 7 then some (.iload_n 0, 8, 0, 0) else none)) else (bif Nat.beq pc 4 then some (.ifCond .ne 0, 7, 14, 0) else none)) else (bif Nat.ble 1 pc then (bif Nat.beq pc 1 then some (.invokestatic 44, 4, 1, 0) else none) else (bif Nat.beq pc 0 then some (.iload_n 0, 1, 0, 0) else none)))
def mc_74 (pc : Nat) : Option (Instr × Nat × Nat × Nat) := bif Nat.ble 9 pc then (bif Nat.ble 13 pc then (bif Nat.ble 16 pc then (bif Nat.ble 17 pc then (bif Nat.beq pc 17 then some (.ireturn, 18, 0, 0) else none) else (bif Nat.beq pc 16 then some (.dload 0, 17, 0, 0) else none)) else (bif Nat.beq pc 13 then some (.goto 0, 16, 17, 0) else none)) else (bif Nat.ble 12 pc then (bif Nat.beq pc 12 then some (.dload 1, 13, 0, 0) else none) else (bif Nat.beq pc 9 then some (.if_icmp .gt 0, 12, 16, 0) else none))) else (bif Nat.ble 3 pc then (bif Nat.ble 6 pc then (bif Nat.ble 7 pc then (bif Nat.beq pc 7 then some (.dload 57, 9, 0, 0) else none) else (bif Nat.beq pc 6 then some (.iload_n 0, 7, 0, 0) else none)) else (bif Nat.beq pc 3 then some (.if_icmp .lt 0, 6, 16, 0) else none)) else (bif Nat.ble 1 pc then (bif Nat.beq pc 1 then some (.dload 48, 3, 0, 0) else none) else (bif Nat.beq pc 0 then some (.iload_n 0, 1, 0, 0) else none)))
def mc_75 (pc : Nat) : Option (Instr × Nat × Nat × Nat) := bif Nat.ble 29 pc then (bif Nat.ble 48 pc then (bif Nat.ble 56 pc then (bif Nat.ble 60 pc then (bif Nat.ble 63 pc then (bif Nat.ble 64 pc then (bif Nat.beq pc 64 then some (.ireturn, 65, 0, 0) else none) else (bif Nat.beq pc 63 then some (.iload_n 1, 64, 0, 0) else none)) else (bif Nat.beq pc 60 then some (.goto 0, 63, 4, 0) else none)) else (bif Nat.ble 57 pc then (bif Nat.beq pc 57 then some (.multianewarray 2 1, 60, 0, 0) else none) else (bif Nat.beq pc 56 then some (.istore_n 1, 57, 0, 0) else none))) else (bif Nat.ble 52 pc then (bif Nat.ble 55 pc then (bif Nat.beq pc 55 then some (.dload 0, 56, 0, 0) else none) else (bif Nat.beq pc 52 then some (.goto 0, 55, 56, 0) else none)) else (bif Nat.ble 51 pc then (bif Nat.beq pc 51 then some (.dload 1, 52, 0, 0) else none) else (bif Nat.beq pc 48 then some (.ifCond .lt 0, 51, 55, 0) else none)))) else (bif Nat.ble 37 pc then (bif Nat.ble 42 pc then (bif Nat.ble 44 pc then (bif Nat.ble 45 pc then (bif Nat.beq pc 45 then some (.invokevirtual 43, 48, 29, 0) else none) else (bif Nat.beq pc 44 then some (.iload_n 3, 45, 0, 0) else none)) else (bif Nat.beq pc 42 then some (.ldc 1, 44, 27, 0) else none)) else (bif Nat.ble 39 pc then (bif Nat.beq pc 39 then some (.if_icmp .eq 0, 42, 51, 0) else none) else (bif Nat.beq pc 37 then some (.dload 32, 39, 0, 0) else none))) else (bif Nat.ble 33 pc then (bif Nat.ble 36 pc then (bif Nat.beq pc 36 then some (.iload_n 3, 37, 0, 0) else none) else (bif Nat.beq pc 33 then some (.ifCond .ne 0, 36, 51, 0) else none)) else (bif Nat.ble 30 pc then (bif Nat.beq pc 30 then some (.invokestatic 74, 33, 21, 0) else none) else (bif Nat.beq pc 29 then some (.iload_n 3, 30, 0, 0) else none))))) else (bif Nat.ble 12 pc then (bif Nat.ble 18 pc then (bif Nat.ble 22 pc then (bif Nat.ble 23 pc then (bif Nat.ble 26 pc then (bif Nat.beq pc 26 then some (.ifCond .ne 0, 29, 51, 0) else none) else (bif Nat.beq pc 23 then some (.invokestatic 73, 26, 10, 0) else none)) else (bif Nat.beq pc 22 then some (.iload_n 3, 23, 0, 0) else none)) else (bif Nat.ble 21 pc then (bif Nat.beq pc 21 then some (.istore_n 3, 22, 0, 0) else none) else (bif Nat.beq pc 18 then some (.invokevirtual 71, 21, 35, 0) else none))) else (bif Nat.ble 16 pc then (bif Nat.ble 17 pc then (bif Nat.beq pc 17 then some (.iload_n 2, 18, 0, 0) else none) else (bif Nat.beq pc 16 then some (.aload_n 0, 17, 0, 0) else none)) else (bif Nat.ble 13 pc then (bif Nat.beq pc 13 then some (.ifCond .eq 0, 16, 63, 0) else none) else (bif Nat.beq pc 12 then some (.iload_n 1, 13, 0, 0) else none)))) else (bif Nat.ble 4 pc then (bif Nat.ble 6 pc then (bif Nat.ble 9 pc then (bif Nat.beq pc 9 then some (.if_icmp .ge 0, 12, 63, 0) else none) else (bif Nat.beq pc 6 then some (.invokevirtual 38, 9, 179, 0) else none)) else (bif Nat.ble 5 pc then (bif Nat.beq pc 5 then some (.aload_n 0, 6, 0, 0) else none) else (bif Nat.beq pc 4 then some (.iload_n 2, 5, 0, 0) else none))) else (bif Nat.ble 2 pc then (bif Nat.ble 3 pc then (bif Nat.beq pc 3 then some (.istore_n 2, 4, 0, 0) else none) else (bif Nat.beq pc 2 then some (.dload 0, 3, 0, 0) else none)) else (bif Nat.ble 1 pc then (bif Nat.beq pc 1 then some (.istore_n 1, 2, 0, 0) else none) else (bif Nat.beq pc 0 then some (.dload 1, 1, 0, 0) else none)))))
def mc_76 (pc : Nat) : Option (Instr × Nat × Nat × Nat) := bif Nat.ble 13 pc then (bif Nat.ble 20 pc then (bif Nat.ble 22 pc then (bif Nat.ble 25 pc then (bif Nat.beq pc 25 then some (.return_, 26, 0, 0) else none) else (bif Nat.beq pc 22 then some (.fstore 6, 25, 16, 0) else none)) else (bif Nat.ble 21 pc then (bif Nat.beq pc 21 then some (.aload_n 1, 22, 0, 0) else none) else (bif Nat.beq pc 20 then some (.aload_n 0, 21, 0, 0) else none))) else (bif Nat.ble 15 pc then (bif Nat.ble 17 pc then (bif Nat.beq pc 17 then some (.fstore 6, 20, 13, 2) else none) else (bif Nat.beq pc 15 then some (.newarray .byte, 17, 0, 0) else none)) else (bif Nat.beq pc 13 then some (.dload 40, 15, 0, 0) else none))) else (bif Nat.ble 5 pc then (bif Nat.ble 9 pc then (bif Nat.ble 12 pc then (bif Nat.beq pc 12 then some (.aload_n 0, 13, 0, 0) else none) else (bif Nat.beq pc 9 then some (.fstore 6, 12, 7, 1) else none)) else (bif Nat.ble 7 pc then (bif Nat.beq pc 7 then some (.newarray .byte, 9, 0, 0) else none) else (bif Nat.beq pc 5 then some (.dload 40, 7, 0, 0) else none))) else (bif Nat.ble 1 pc then (bif Nat.ble 4 pc then (bif Nat.beq pc 4 then some (.aload_n 0, 5, 0, 0) else none) else (bif Nat.beq pc 1 then some (.invokespecial 903, 4, 1, 0) else none)) else (bif Nat.beq pc 0 then some (.aload_n 0, 1, 0, 0) else none)))
def mc_77 (pc : Nat) : Option (Instr × Nat × Nat × Nat) := bif Nat.ble 11 pc then (bif Nat.ble 16 pc then (bif Nat.ble 22 pc then (bif Nat.ble 23 pc then (bif Nat.beq pc 23 then some (.ireturn, 24, 0, 0) else none) else (bif Nat.beq pc 22 then some (.iload_n 0, 23, 0, 0) else none)) else (bif Nat.ble 17 pc then (bif Nat.beq pc 17 then some (.iload_n 2, 18, 0, 0) else none) else (bif Nat.beq pc 16 then some (.iload_n 1, 17, 0, 0) else none))) else (bif Nat.ble 14 pc then (bif Nat.ble 15 pc then (bif Nat.beq pc 15 then some (.iload_n 0, 16, 0, 0) else none) else (bif Nat.beq pc 14 then some (.aload_n 3, 15, 0, 0) else none)) else (bif Nat.beq pc 11 then some (.if_icmp .le 0, 14, 22, 0) else none))) else (bif Nat.ble 5 pc then (bif Nat.ble 9 pc then (bif Nat.ble 10 pc then (bif Nat.beq pc 10 then some (.iload_n 2, 11, 0, 0) else none) else (bif Nat.beq pc 9 then some (.iload_n 1, 10, 0, 0) else none)) else (bif Nat.ble 6 pc then (bif Nat.beq pc 6 then some (.if_icmp .gt 0, 9, 14, 0) else none) else (bif Nat.beq pc 5 then some (.iload_n 1, 6, 0, 0) else none))) else (bif Nat.ble 1 pc then (bif Nat.ble 4 pc then (bif Nat.beq pc 4 then some (.iload_n 0, 5, 0, 0) else none) else (bif Nat.beq pc 1 then some (.ifCond .lt 0, 4, 14, 0) else none)) else (bif Nat.beq pc 0 then some (.iload_n 0, 1, 0, 0) else none)))
def mc_78 (pc : Nat) : Option (Instr × Nat × Nat × Nat) := bif Nat.ble 3 pc then (bif Nat.ble 9 pc then (bif Nat.ble 10 pc then (bif Nat.beq pc 10 then some (.return_, 11, 0, 0) else none) else (bif Nat.beq pc 9 then some (.pop, 10, 0, 0) else none)) else (bif Nat.ble 6 pc then (bif Nat.beq pc 6 then some (.invokestatic 77, 9, 1062, 0) else none) else (bif Nat.beq pc 3 then some (.getstatic 11, 6, 1053, 0) else none))) else (bif Nat.ble 1 pc then (bif Nat.ble 2 pc then (bif Nat.beq pc 2 then some (.iload_n 2, 3, 0, 0) else none) else (bif Nat.beq pc 1 then some (.iload_n 1, 2, 0, 0) else none)) else (bif Nat.beq pc 0 then some (.iload_n 0, 1, 0, 0) else none))
def mc_79 (pc : Nat) : Option (Instr × Nat × Nat × Nat) := bif Nat.ble 6 pc then (bif Nat.ble 10 pc then (bif Nat.ble 11 pc then (bif Nat.ble 14 pc then (bif Nat.beq pc 14 then some (.return_, 15, 0, 0) else none) else (bif Nat.beq pc 11 then some (.lstore 2, 14, 15, 1) else none)) else (bif Nat.beq pc 10 then some (.iload_n 2, 11, 0, 0) else none)) else (bif Nat.ble 9 pc then (bif Nat.beq pc 9 then some (.aload_n 0, 10, 0, 0) else none) else (bif Nat.beq pc 6 then some (.fstore 2, 9, 9, 0) else none))) else (bif Nat.ble 4 pc then (bif Nat.ble 5 pc then (bif Nat.beq pc 5 then some (.aload_n 1, 6, 0, 0) else none) else (bif Nat.beq pc 4 then some (.aload_n 0, 5, 0, 0) else none)) else (bif Nat.ble 1 pc then (bif Nat.beq pc 1 then some (.invokespecial 903, 4, 1, 0) else none) else (bif Nat.beq pc 0 then some (.aload_n 0, 1, 0, 0) else none)))
def mc_80 (pc : Nat) : Option (Instr × Nat × Nat × Nat) := bif Nat.ble 13 pc then (bif Nat.ble 16 pc then (bif Nat.ble 20 pc then (bif Nat.ble 23 pc then (bif Nat.beq pc 23 then some (.areturn, 24, 0, 0) else none) else (bif Nat.beq pc 20 then some (.invokespecial 79, 23, 112, 0) else none)) else (bif Nat.ble 19 pc then (bif Nat.beq pc 19 then some (.dload 0, 20, 0, 0) else none) else (bif Nat.beq pc 16 then some (.invokestatic 66, 19, 232, 0) else none))) else (bif Nat.ble 14 pc then (bif Nat.ble 15 pc then (bif Nat.beq pc 15 then some (.iadd, 16, 0, 0) else none) else (bif Nat.beq pc 14 then some (.iload_n 2, 15, 0, 0) else none)) else (bif Nat.beq pc 13 then some (.iload_n 1, 14, 0, 0) else none))) else (bif Nat.ble 7 pc then (bif Nat.ble 11 pc then (bif Nat.ble 12 pc then (bif Nat.beq pc 12 then some (.iload_n 1, 13, 0, 0) else none) else (bif Nat.beq pc 11 then some (.aload_n 0, 12, 0, 0) else none)) else (bif Nat.ble 10 pc then (bif Nat.beq pc 10 then some (.dup, 11, 0, 0) else none) else (bif Nat.beq pc 7 then some (.new 2, 10, 1, 0) else none))) else (bif Nat.ble 1 pc then (bif Nat.ble 6 pc then (bif Nat.beq pc 6 then some (.areturn, 7, 0, 0) else none) else (bif Nat.beq pc 1 then some (.ifCond .ne 0, 4, 7, 0) else none)) else (bif Nat.beq pc 0 then some (.iload_n 2, 1, 0, 0) else none)))
def mc_81 (pc : Nat) : Option (Instr × Nat × Nat × Nat) := bif Nat.ble 24 pc then (bif Nat.ble 39 pc then (bif Nat.ble 48 pc then (bif Nat.ble 52 pc then (bif Nat.ble 57 pc then (bif Nat.beq pc 57 then some (.areturn, 58, 0, 0) else none) else (bif Nat.beq pc 52 then some (.iload 4, 54, 0, 0) else none)) else (bif Nat.ble 51 pc then (bif Nat.beq pc 51 then some (.iload_n 1, 52, 0, 0) else none) else (bif Nat.beq pc 48 then some (.fload 2, 51, 9, 0) else none))) else (bif Nat.ble 44 pc then (bif Nat.ble 47 pc then (bif Nat.beq pc 47 then some (.aload_n 0, 48, 0, 0) else none) else (bif Nat.beq pc 44 then some (.goto 0, 47, 57, 0) else none)) else (bif Nat.ble 41 pc then (bif Nat.beq pc 41 then some (.invokestatic 80, 44, 685, 0) else none) else (bif Nat.beq pc 39 then some (.iload 4, 41, 0, 0) else none)))) else (bif Nat.ble 31 pc then (bif Nat.ble 35 pc then (bif Nat.ble 38 pc then (bif Nat.beq pc 38 then some (.iload_n 1, 39, 0, 0) else none) else (bif Nat.beq pc 35 then some (.fload 2, 38, 9, 0) else none)) else (bif Nat.ble 34 pc then (bif Nat.beq pc 34 then some (.aload_n 0, 35, 0, 0) else none) else (bif Nat.beq pc 31 then some (.ifCond .eq 0, 34, 47, 0) else none))) else (bif Nat.ble 27 pc then (bif Nat.ble 28 pc then (bif Nat.beq pc 28 then some (.invokevirtual 36, 31, 492, 0) else none) else (bif Nat.beq pc 27 then some (.aload_n 0, 28, 0, 0) else none)) else (bif Nat.ble 25 pc then (bif Nat.beq pc 25 then some (.istore 4, 27, 0, 0) else none) else (bif Nat.beq pc 24 then some (.isub, 25, 0, 0) else none))))) else (bif Nat.ble 12 pc then (bif Nat.ble 20 pc then (bif Nat.ble 22 pc then (bif Nat.ble 23 pc then (bif Nat.beq pc 23 then some (.iload_n 1, 24, 0, 0) else none) else (bif Nat.beq pc 22 then some (.iload_n 2, 23, 0, 0) else none)) else (bif Nat.ble 21 pc then (bif Nat.beq pc 21 then some (.areturn, 22, 0, 0) else none) else (bif Nat.beq pc 20 then some (.aload_n 0, 21, 0, 0) else none))) else (bif Nat.ble 16 pc then (bif Nat.ble 17 pc then (bif Nat.beq pc 17 then some (.if_icmp .ne 0, 20, 22, 0) else none) else (bif Nat.beq pc 16 then some (.iload_n 3, 17, 0, 0) else none)) else (bif Nat.ble 15 pc then (bif Nat.beq pc 15 then some (.iload_n 2, 16, 0, 0) else none) else (bif Nat.beq pc 12 then some (.ifCond .ne 0, 15, 22, 0) else none)))) else (bif Nat.ble 6 pc then (bif Nat.ble 8 pc then (bif Nat.ble 11 pc then (bif Nat.beq pc 11 then some (.iload_n 1, 12, 0, 0) else none) else (bif Nat.beq pc 8 then some (.invokestatic 78, 11, 521, 0) else none)) else (bif Nat.ble 7 pc then (bif Nat.beq pc 7 then some (.iload_n 3, 8, 0, 0) else none) else (bif Nat.beq pc 6 then some (.iload_n 2, 7, 0, 0) else none))) else (bif Nat.ble 4 pc then (bif Nat.ble 5 pc then (bif Nat.beq pc 5 then some (.iload_n 1, 6, 0, 0) else none) else (bif Nat.beq pc 4 then some (.istore_n 3, 5, 0, 0) else none)) else (bif Nat.ble 1 pc then (bif Nat.beq pc 1 then some (.invokevirtual 38, 4, 505, 0) else none) else (bif Nat.beq pc 0 then some (.aload_n 0, 1, 0, 0) else none)))))
def mc_82 (pc : Nat) : Option (Instr × Nat × Nat × Nat) := bif Nat.ble 8 pc then (bif Nat.ble 12 pc then (bif Nat.ble 16 pc then (bif Nat.ble 17 pc then (bif Nat.beq pc 17 then some (.areturn, 18, 0, 0) else none) else (bif Nat.beq pc 16 then some (.aload_n 1, 17, 0, 0) else none)) else (bif Nat.ble 13 pc then (bif Nat.beq pc 13 then some (.invokestatic 900, 16, 28, 0) else none) else (bif Nat.beq pc 12 then some (.arraylength, 13, 0, 0) else none))) else (bif Nat.ble 10 pc then (bif Nat.ble 11 pc then (bif Nat.beq pc 11 then some (.aload_n 0, 12, 0, 0) else none) else (bif Nat.beq pc 10 then some (.dload 0, 11, 0, 0) else none)) else (bif Nat.ble 9 pc then (bif Nat.beq pc 9 then some (.aload_n 1, 10, 0, 0) else none) else (bif Nat.beq pc 8 then some (.dload 0, 9, 0, 0) else none)))) else (bif Nat.ble 3 pc then (bif Nat.ble 6 pc then (bif Nat.ble 7 pc then (bif Nat.beq pc 7 then some (.aload_n 0, 8, 0, 0) else none) else (bif Nat.beq pc 6 then some (.astore_n 1, 7, 0, 0) else none)) else (bif Nat.ble 4 pc then (bif Nat.beq pc 4 then some (.newarray .byte, 6, 0, 0) else none) else (bif Nat.beq pc 3 then some (.imul, 4, 0, 0) else none))) else (bif Nat.ble 1 pc then (bif Nat.ble 2 pc then (bif Nat.beq pc 2 then some (.arraylength, 3, 0, 0) else none) else (bif Nat.beq pc 1 then some (.aload_n 0, 2, 0, 0) else none)) else (bif Nat.beq pc 0 then some (.dload 2, 1, 0, 0) else none)))
def mc_83 (pc : Nat) : Option (Instr × Nat × Nat × Nat) := bif Nat.ble 38 pc then (bif Nat.ble 51 pc then (bif Nat.ble 57 pc then (bif Nat.ble 61 pc then (bif Nat.ble 62 pc then (bif Nat.ble 63 pc then (bif Nat.beq pc 63 then some (.return_, 64, 0, 0) else none) else (bif Nat.beq pc 62 then some (.bastore, 63, 0, 0) else none)) else (bif Nat.beq pc 61 then some (.i2b, 62, 0, 0) else none)) else (bif Nat.ble 60 pc then (bif Nat.beq pc 60 then some (.iload_n 2, 61, 0, 0) else none) else (bif Nat.beq pc 57 then some (.putfield 6, 60, 20, 3) else none))) else (bif Nat.ble 55 pc then (bif Nat.ble 56 pc then (bif Nat.beq pc 56 then some (.iadd, 57, 0, 0) else none) else (bif Nat.beq pc 55 then some (.dload 1, 56, 0, 0) else none)) else (bif Nat.ble 54 pc then (bif Nat.beq pc 54 then some (.dup_x1, 55, 0, 0) else none) else (bif Nat.beq pc 51 then some (.getfield 6, 54, 20, 3) else none)))) else (bif Nat.ble 44 pc then (bif Nat.ble 46 pc then (bif Nat.ble 49 pc then (bif Nat.ble 50 pc then (bif Nat.beq pc 50 then some (.dup, 51, 0, 0) else none) else (bif Nat.beq pc 49 then some (.aload_n 0, 50, 0, 0) else none)) else (bif Nat.beq pc 46 then some (.fload 6, 49, 13, 2) else none)) else (bif Nat.ble 45 pc then (bif Nat.beq pc 45 then some (.aload_n 0, 46, 0, 0) else none) else (bif Nat.beq pc 44 then some (.bastore, 45, 0, 0) else none))) else (bif Nat.ble 42 pc then (bif Nat.ble 43 pc then (bif Nat.beq pc 43 then some (.i2b, 44, 0, 0) else none) else (bif Nat.beq pc 42 then some (.iload_n 1, 43, 0, 0) else none)) else (bif Nat.ble 39 pc then (bif Nat.beq pc 39 then some (.getfield 6, 42, 20, 3) else none) else (bif Nat.beq pc 38 then some (.aload_n 0, 39, 0, 0) else none))))) else (bif Nat.ble 17 pc then (bif Nat.ble 25 pc then (bif Nat.ble 31 pc then (bif Nat.ble 34 pc then (bif Nat.ble 35 pc then (bif Nat.beq pc 35 then some (.fload 6, 38, 7, 1) else none) else (bif Nat.beq pc 34 then some (.aload_n 0, 35, 0, 0) else none)) else (bif Nat.beq pc 31 then some (.fstore 6, 34, 13, 2) else none)) else (bif Nat.ble 28 pc then (bif Nat.beq pc 28 then some (.invokestatic 82, 31, 24, 0) else none) else (bif Nat.beq pc 25 then some (.fload 6, 28, 13, 2) else none))) else (bif Nat.ble 23 pc then (bif Nat.ble 24 pc then (bif Nat.beq pc 24 then some (.aload_n 0, 25, 0, 0) else none) else (bif Nat.beq pc 23 then some (.aload_n 0, 24, 0, 0) else none)) else (bif Nat.ble 20 pc then (bif Nat.beq pc 20 then some (.fstore 6, 23, 7, 1) else none) else (bif Nat.beq pc 17 then some (.invokestatic 82, 20, 24, 0) else none)))) else (bif Nat.ble 8 pc then (bif Nat.ble 12 pc then (bif Nat.ble 13 pc then (bif Nat.ble 14 pc then (bif Nat.beq pc 14 then some (.fload 6, 17, 7, 1) else none) else (bif Nat.beq pc 13 then some (.aload_n 0, 14, 0, 0) else none)) else (bif Nat.beq pc 12 then some (.aload_n 0, 13, 0, 0) else none)) else (bif Nat.ble 9 pc then (bif Nat.beq pc 9 then some (.if_icmp .ne 0, 12, 34, 0) else none) else (bif Nat.beq pc 8 then some (.arraylength, 9, 0, 0) else none))) else (bif Nat.ble 4 pc then (bif Nat.ble 5 pc then (bif Nat.beq pc 5 then some (.fload 6, 8, 7, 1) else none) else (bif Nat.beq pc 4 then some (.aload_n 0, 5, 0, 0) else none)) else (bif Nat.ble 1 pc then (bif Nat.beq pc 1 then some (.getfield 6, 4, 20, 3) else none) else (bif Nat.beq pc 0 then some (.aload_n 0, 1, 0, 0) else none)))))
def mc_84 (pc : Nat) : Option (Instr × Nat × Nat × Nat) := bif Nat.ble 10 pc then (bif Nat.ble 15 pc then (bif Nat.ble 17 pc then (bif Nat.ble 18 pc then (bif Nat.beq pc 18 then some (.return_, 19, 0, 0) else none) else (bif Nat.beq pc 17 then some (.bastore, 18, 0, 0) else none)) else (bif Nat.ble 16 pc then (bif Nat.beq pc 16 then some (.i2b, 17, 0, 0) else none) else (bif Nat.beq pc 15 then some (.iload_n 1, 16, 0, 0) else none))) else (bif Nat.ble 11 pc then (bif Nat.ble 12 pc then (bif Nat.beq pc 12 then some (.putfield 4, 15, 13, 1) else none) else (bif Nat.beq pc 11 then some (.iadd, 12, 0, 0) else none)) else (bif Nat.beq pc 10 then some (.dload 1, 11, 0, 0) else none))) else (bif Nat.ble 5 pc then (bif Nat.ble 6 pc then (bif Nat.ble 9 pc then (bif Nat.beq pc 9 then some (.dup_x1, 10, 0, 0) else none) else (bif Nat.beq pc 6 then some (.getfield 4, 9, 13, 1) else none)) else (bif Nat.beq pc 5 then some (.dup, 6, 0, 0) else none)) else (bif Nat.ble 1 pc then (bif Nat.ble 4 pc then (bif Nat.beq pc 4 then some (.aload_n 0, 5, 0, 0) else none) else (bif Nat.beq pc 1 then some (.fload 4, 4, 7, 0) else none)) else (bif Nat.beq pc 0 then some (.aload_n 0, 1, 0, 0) else none)))
def mc_85 (pc : Nat) : Option (Instr × Nat × Nat × Nat) := bif Nat.ble 76 pc then (bif Nat.ble 103 pc then (bif Nat.ble 115 pc then (bif Nat.ble 122 pc then (bif Nat.ble 124 pc then (bif Nat.ble 125 pc then (bif Nat.beq pc 125 then some (.ireturn, 126, 0, 0) else none) else (bif Nat.beq pc 124 then some (.dload 1, 125, 0, 0) else none)) else (bif Nat.ble 123 pc then (bif Nat.beq pc 123 then some (.ireturn, 124, 0, 0) else none) else (bif Nat.beq pc 122 then some (.dload 0, 123, 0, 0) else none))) else (bif Nat.ble 118 pc then (bif Nat.ble 119 pc then (bif Nat.beq pc 119 then some (.goto 0, 122, 123, 0) else none) else (bif Nat.beq pc 118 then some (.dload 1, 119, 0, 0) else none)) else (bif Nat.beq pc 115 then some (.ifCond .eq 0, 118, 122, 0) else none))) else (bif Nat.ble 108 pc then (bif Nat.ble 110 pc then (bif Nat.ble 113 pc then (bif Nat.beq pc 113 then some (.iload 5, 115, 0, 0) else none) else (bif Nat.beq pc 110 then some (.ifCond .ne 0, 113, 122, 0) else none)) else (bif Nat.beq pc 108 then some (.iload 4, 110, 0, 0) else none)) else (bif Nat.ble 106 pc then (bif Nat.ble 107 pc then (bif Nat.beq pc 107 then some (.ireturn, 108, 0, 0) else none) else (bif Nat.beq pc 106 then some (.dload 0, 107, 0, 0) else none)) else (bif Nat.beq pc 103 then some (.goto 0, 106, 107, 0) else none)))) else (bif Nat.ble 90 pc then (bif Nat.ble 94 pc then (bif Nat.ble 99 pc then (bif Nat.ble 102 pc then (bif Nat.beq pc 102 then some (.dload 1, 103, 0, 0) else none) else (bif Nat.beq pc 99 then some (.ifCond .ne 0, 102, 106, 0) else none)) else (bif Nat.ble 97 pc then (bif Nat.beq pc 97 then some (.iload 5, 99, 0, 0) else none) else (bif Nat.beq pc 94 then some (.ifCond .ne 0, 97, 106, 0) else none))) else (bif Nat.ble 91 pc then (bif Nat.ble 92 pc then (bif Nat.beq pc 92 then some (.iload 4, 94, 0, 0) else none) else (bif Nat.beq pc 91 then some (.ireturn, 92, 0, 0) else none)) else (bif Nat.beq pc 90 then some (.dload 0, 91, 0, 0) else none))) else (bif Nat.ble 83 pc then (bif Nat.ble 86 pc then (bif Nat.ble 87 pc then (bif Nat.beq pc 87 then some (.goto 0, 90, 91, 0) else none) else (bif Nat.beq pc 86 then some (.dload 1, 87, 0, 0) else none)) else (bif Nat.beq pc 83 then some (.ifCond .ne 0, 86, 90, 0) else none)) else (bif Nat.ble 78 pc then (bif Nat.ble 81 pc then (bif Nat.beq pc 81 then some (.iload 5, 83, 0, 0) else none) else (bif Nat.beq pc 78 then some (.ifCond .eq 0, 81, 90, 0) else none)) else (bif Nat.beq pc 76 then some (.iload 4, 78, 0, 0) else none))))) else (bif Nat.ble 22 pc then (bif Nat.ble 62 pc then (bif Nat.ble 70 pc then (bif Nat.ble 74 pc then (bif Nat.ble 75 pc then (bif Nat.beq pc 75 then some (.ireturn, 76, 0, 0) else none) else (bif Nat.beq pc 74 then some (.dload 0, 75, 0, 0) else none)) else (bif Nat.ble 71 pc then (bif Nat.beq pc 71 then some (.goto 0, 74, 75, 0) else none) else (bif Nat.beq pc 70 then some (.dload 1, 71, 0, 0) else none))) else (bif Nat.ble 65 pc then (bif Nat.ble 67 pc then (bif Nat.beq pc 67 then some (.ifCond .eq 0, 70, 74, 0) else none) else (bif Nat.beq pc 65 then some (.iload 5, 67, 0, 0) else none)) else (bif Nat.beq pc 62 then some (.ifCond .eq 0, 65, 74, 0) else none))) else (bif Nat.ble 26 pc then (bif Nat.ble 29 pc then (bif Nat.ble 60 pc then (bif Nat.beq pc 60 then some (.iload 4, 62, 0, 0) else none) else (bif Nat.beq pc 29 then some (.tableswitch 124 0 3 #[60, 76, 92, 108], 60, 0, 0) else none)) else (bif Nat.beq pc 26 then some (.getfield 5, 29, 19, 0) else none)) else (bif Nat.ble 23 pc then (bif Nat.ble 25 pc then (bif Nat.beq pc 25 then some (.aload_n 0, 26, 0, 0) else none) else (bif Nat.beq pc 23 then some (.istore 5, 25, 0, 0) else none)) else (bif Nat.beq pc 22 then some (.dload 0, 23, 0, 0) else none)))) else (bif Nat.ble 11 pc then (bif Nat.ble 14 pc then (bif Nat.ble 18 pc then (bif Nat.ble 19 pc then (bif Nat.beq pc 19 then some (.goto 0, 22, 23, 0) else none) else (bif Nat.beq pc 18 then some (.dload 1, 19, 0, 0) else none)) else (bif Nat.ble 15 pc then (bif Nat.beq pc 15 then some (.if_icmp .ne 0, 18, 22, 0) else none) else (bif Nat.beq pc 14 then some (.iload_n 3, 15, 0, 0) else none))) else (bif Nat.ble 12 pc then (bif Nat.ble 13 pc then (bif Nat.beq pc 13 then some (.iadd, 14, 0, 0) else none) else (bif Nat.beq pc 12 then some (.iload_n 2, 13, 0, 0) else none)) else (bif Nat.beq pc 11 then some (.iload_n 1, 12, 0, 0) else none))) else (bif Nat.ble 5 pc then (bif Nat.ble 8 pc then (bif Nat.ble 9 pc then (bif Nat.beq pc 9 then some (.istore 4, 11, 0, 0) else none) else (bif Nat.beq pc 8 then some (.dload 0, 9, 0, 0) else none)) else (bif Nat.beq pc 5 then some (.goto 0, 8, 9, 0) else none)) else (bif Nat.ble 1 pc then (bif Nat.ble 4 pc then (bif Nat.beq pc 4 then some (.dload 1, 5, 0, 0) else none) else (bif Nat.beq pc 1 then some (.ifCond .ne 0, 4, 8, 0) else none)) else (bif Nat.beq pc 0 then some (.iload_n 1, 1, 0, 0) else none)))))
def mc_86 (pc : Nat) : Option (Instr × Nat × Nat × Nat) := bif Nat.ble 10 pc then (bif Nat.ble 12 pc then (bif Nat.ble 15 pc then (bif Nat.ble 16 pc then (bif Nat.beq pc 16 then some (.ireturn, 17, 0, 0) else none) else (bif Nat.beq pc 15 then some (.iload_n 0, 16, 0, 0) else none)) else (bif Nat.beq pc 12 then some (.goto 0, 15, 16, 0) else none)) else (bif Nat.ble 11 pc then (bif Nat.beq pc 11 then some (.i2c, 12, 0, 0) else none) else (bif Nat.beq pc 10 then some (.iadd, 11, 0, 0) else none))) else (bif Nat.ble 4 pc then (bif Nat.ble 7 pc then (bif Nat.ble 8 pc then (bif Nat.beq pc 8 then some (.dload 32, 10, 0, 0) else none) else (bif Nat.beq pc 7 then some (.iload_n 0, 8, 0, 0) else none)) else (bif Nat.beq pc 4 then some (.ifCond .eq 0, 7, 15, 0) else none)) else (bif Nat.ble 1 pc then (bif Nat.beq pc 1 then some (.invokestatic 72, 4, 7, 0) else none) else (bif Nat.beq pc 0 then some (.iload_n 0, 1, 0, 0) else none)))
def mc_87 (pc : Nat) : Option (Instr × Nat × Nat × Nat) := bif Nat.ble 98 pc then (bif Nat.ble 157 pc then (bif Nat.ble 186 pc then (bif Nat.ble 200 pc then (bif Nat.ble 207 pc then (bif Nat.ble 213 pc then (bif Nat.ble 215 pc then (bif Nat.beq pc 215 then some (.areturn, 216, 0, 0) else none) else (bif Nat.beq pc 213 then some (.aload 4, 215, 0, 0) else none)) else (bif Nat.ble 210 pc then (bif Nat.beq pc 210 then some (.goto 0, 213, 6, 0) else none) else (bif Nat.beq pc 207 then some (.multianewarray 5 1, 210, 0, 0) else none))) else (bif Nat.ble 203 pc then (bif Nat.ble 205 pc then (bif Nat.beq pc 205 then some (.astore 4, 207, 0, 0) else none) else (bif Nat.beq pc 203 then some (.aload 4, 205, 0, 0) else none)) else (bif Nat.beq pc 200 then some (.goto 0, 203, 205, 0) else none))) else (bif Nat.ble 193 pc then (bif Nat.ble 195 pc then (bif Nat.ble 198 pc then (bif Nat.beq pc 198 then some (.aload 6, 200, 0, 0) else none) else (bif Nat.beq pc 195 then some (.ifCond .eq 0, 198, 203, 0) else none)) else (bif Nat.beq pc 193 then some (.iload 8, 195, 0, 0) else none)) else (bif Nat.ble 188 pc then (bif Nat.ble 190 pc then (bif Nat.beq pc 190 then some (.ifCond .eq 0, 193, 203, 0) else none) else (bif Nat.beq pc 188 then some (.iload 7, 190, 0, 0) else none)) else (bif Nat.beq pc 186 then some (.istore 8, 188, 0, 0) else none)))) else (bif Nat.ble 173 pc then (bif Nat.ble 181 pc then (bif Nat.ble 182 pc then (bif Nat.ble 185 pc then (bif Nat.beq pc 185 then some (.dload 0, 186, 0, 0) else none) else (bif Nat.beq pc 182 then some (.goto 0, 185, 186, 0) else none)) else (bif Nat.beq pc 181 then some (.dload 1, 182, 0, 0) else none)) else (bif Nat.ble 175 pc then (bif Nat.ble 178 pc then (bif Nat.beq pc 178 then some (.if_icmp .ge 0, 181, 185, 0) else none) else (bif Nat.beq pc 175 then some (.getfield 5, 178, 139, 0) else none)) else (bif Nat.beq pc 173 then some (.aload 4, 175, 0, 0) else none))) else (bif Nat.ble 165 pc then (bif Nat.ble 168 pc then (bif Nat.ble 170 pc then (bif Nat.beq pc 170 then some (.getfield 5, 173, 139, 0) else none) else (bif Nat.beq pc 168 then some (.aload 6, 170, 0, 0) else none)) else (bif Nat.beq pc 165 then some (.if_icmp .ne 0, 168, 185, 0) else none)) else (bif Nat.ble 160 pc then (bif Nat.ble 162 pc then (bif Nat.beq pc 162 then some (.getfield 5, 165, 142, 2) else none) else (bif Nat.beq pc 160 then some (.aload 4, 162, 0, 0) else none)) else (bif Nat.beq pc 157 then some (.getfield 5, 160, 142, 2) else none))))) else (bif Nat.ble 125 pc then (bif Nat.ble 139 pc then (bif Nat.ble 147 pc then (bif Nat.ble 152 pc then (bif Nat.ble 155 pc then (bif Nat.beq pc 155 then some (.aload 6, 157, 0, 0) else none) else (bif Nat.beq pc 152 then some (.if_icmp .gt 0, 155, 181, 0) else none)) else (bif Nat.ble 149 pc then (bif Nat.beq pc 149 then some (.getfield 5, 152, 142, 2) else none) else (bif Nat.beq pc 147 then some (.aload 4, 149, 0, 0) else none))) else (bif Nat.ble 142 pc then (bif Nat.ble 144 pc then (bif Nat.beq pc 144 then some (.getfield 5, 147, 142, 2) else none) else (bif Nat.beq pc 142 then some (.aload 6, 144, 0, 0) else none)) else (bif Nat.beq pc 139 then some (.ifnull 0, 142, 181, 0) else none))) else (bif Nat.ble 131 pc then (bif Nat.ble 134 pc then (bif Nat.ble 137 pc then (bif Nat.beq pc 137 then some (.aload 4, 139, 0, 0) else none) else (bif Nat.beq pc 134 then some (.goto 0, 137, 66, 0) else none)) else (bif Nat.beq pc 131 then some (.multianewarray 8 1, 134, 0, 0) else none)) else (bif Nat.ble 128 pc then (bif Nat.ble 129 pc then (bif Nat.beq pc 129 then some (.istore 7, 131, 0, 0) else none) else (bif Nat.beq pc 128 then some (.dload 0, 129, 0, 0) else none)) else (bif Nat.beq pc 125 then some (.goto 0, 128, 129, 0) else none)))) else (bif Nat.ble 112 pc then (bif Nat.ble 118 pc then (bif Nat.ble 121 pc then (bif Nat.ble 124 pc then (bif Nat.beq pc 124 then some (.dload 1, 125, 0, 0) else none) else (bif Nat.beq pc 121 then some (.ifCond .eq 0, 124, 128, 0) else none)) else (bif Nat.beq pc 118 then some (.invokestatic 44, 121, 1, 0) else none)) else (bif Nat.ble 113 pc then (bif Nat.ble 116 pc then (bif Nat.beq pc 116 then some (.iload 9, 118, 0, 0) else none) else (bif Nat.beq pc 113 then some (.ifCond .ne 0, 116, 124, 0) else none)) else (bif Nat.beq pc 112 then some (.iload_n 3, 113, 0, 0) else none))) else (bif Nat.ble 104 pc then (bif Nat.ble 107 pc then (bif Nat.ble 109 pc then (bif Nat.beq pc 109 then some (.ifCond .eq 0, 112, 124, 0) else none) else (bif Nat.beq pc 107 then some (.iload 8, 109, 0, 0) else none)) else (bif Nat.beq pc 104 then some (.if_icmp .ne 0, 107, 128, 0) else none)) else (bif Nat.ble 101 pc then (bif Nat.ble 103 pc then (bif Nat.beq pc 103 then some (.caload, 104, 0, 0) else none) else (bif Nat.beq pc 101 then some (.iload 8, 103, 0, 0) else none)) else (bif Nat.beq pc 98 then some (.fload 5, 101, 147, 1) else none)))))) else (bif Nat.ble 46 pc then (bif Nat.ble 70 pc then (bif Nat.ble 83 pc then (bif Nat.ble 89 pc then (bif Nat.ble 93 pc then (bif Nat.ble 96 pc then (bif Nat.beq pc 96 then some (.aload 6, 98, 0, 0) else none) else (bif Nat.beq pc 93 then some (.invokestatic 86, 96, 17, 0) else none)) else (bif Nat.ble 91 pc then (bif Nat.beq pc 91 then some (.iload 9, 93, 0, 0) else none) else (bif Nat.beq pc 89 then some (.istore 9, 91, 0, 0) else none))) else (bif Nat.ble 85 pc then (bif Nat.ble 86 pc then (bif Nat.beq pc 86 then some (.invokevirtual 71, 89, 35, 0) else none) else (bif Nat.beq pc 85 then some (.iadd, 86, 0, 0) else none)) else (bif Nat.beq pc 83 then some (.iload 8, 85, 0, 0) else none))) else (bif Nat.ble 78 pc then (bif Nat.ble 81 pc then (bif Nat.ble 82 pc then (bif Nat.beq pc 82 then some (.iload_n 2, 83, 0, 0) else none) else (bif Nat.beq pc 81 then some (.aload_n 1, 82, 0, 0) else none)) else (bif Nat.beq pc 78 then some (.ifCond .eq 0, 81, 137, 0) else none)) else (bif Nat.ble 73 pc then (bif Nat.ble 76 pc then (bif Nat.beq pc 76 then some (.iload 7, 78, 0, 0) else none) else (bif Nat.beq pc 73 then some (.if_icmp .ge 0, 76, 137, 0) else none)) else (bif Nat.beq pc 70 then some (.getfield 5, 73, 142, 2) else none)))) else (bif Nat.ble 60 pc then (bif Nat.ble 64 pc then (bif Nat.ble 66 pc then (bif Nat.ble 68 pc then (bif Nat.beq pc 68 then some (.aload 6, 70, 0, 0) else none) else (bif Nat.beq pc 66 then some (.iload 8, 68, 0, 0) else none)) else (bif Nat.beq pc 64 then some (.istore 8, 66, 0, 0) else none)) else (bif Nat.ble 61 pc then (bif Nat.ble 63 pc then (bif Nat.beq pc 63 then some (.dload 0, 64, 0, 0) else none) else (bif Nat.beq pc 61 then some (.istore 7, 63, 0, 0) else none)) else (bif Nat.beq pc 60 then some (.dload 0, 61, 0, 0) else none))) else (bif Nat.ble 53 pc then (bif Nat.ble 56 pc then (bif Nat.ble 57 pc then (bif Nat.beq pc 57 then some (.goto 0, 60, 61, 0) else none) else (bif Nat.beq pc 56 then some (.dload 1, 57, 0, 0) else none)) else (bif Nat.beq pc 53 then some (.ifCond .eq 0, 56, 60, 0) else none)) else (bif Nat.ble 47 pc then (bif Nat.ble 50 pc then (bif Nat.beq pc 50 then some (.invokevirtual 85, 53, 184, 0) else none) else (bif Nat.beq pc 47 then some (.invokevirtual 38, 50, 179, 0) else none)) else (bif Nat.beq pc 46 then some (.aload_n 1, 47, 0, 0) else none))))) else (bif Nat.ble 22 pc then (bif Nat.ble 32 pc then (bif Nat.ble 40 pc then (bif Nat.ble 41 pc then (bif Nat.ble 43 pc then (bif Nat.beq pc 43 then some (.getfield 5, 46, 142, 2) else none) else (bif Nat.beq pc 41 then some (.aload 6, 43, 0, 0) else none)) else (bif Nat.beq pc 40 then some (.iload_n 2, 41, 0, 0) else none)) else (bif Nat.ble 35 pc then (bif Nat.ble 38 pc then (bif Nat.beq pc 38 then some (.aload 6, 40, 0, 0) else none) else (bif Nat.beq pc 35 then some (.if_icmp .gt 0, 38, 60, 0) else none)) else (bif Nat.beq pc 32 then some (.invokevirtual 38, 35, 179, 0) else none))) else (bif Nat.ble 27 pc then (bif Nat.ble 30 pc then (bif Nat.ble 31 pc then (bif Nat.beq pc 31 then some (.aload_n 1, 32, 0, 0) else none) else (bif Nat.beq pc 30 then some (.iadd, 31, 0, 0) else none)) else (bif Nat.beq pc 27 then some (.getfield 5, 30, 142, 2) else none)) else (bif Nat.ble 24 pc then (bif Nat.ble 25 pc then (bif Nat.beq pc 25 then some (.aload 6, 27, 0, 0) else none) else (bif Nat.beq pc 24 then some (.iload_n 2, 25, 0, 0) else none)) else (bif Nat.beq pc 22 then some (.astore 6, 24, 0, 0) else none)))) else (bif Nat.ble 9 pc then (bif Nat.ble 16 pc then (bif Nat.ble 19 pc then (bif Nat.ble 21 pc then (bif Nat.beq pc 21 then some (.aaload, 22, 0, 0) else none) else (bif Nat.beq pc 19 then some (.iload 5, 21, 0, 0) else none)) else (bif Nat.beq pc 16 then some (.fload 0, 19, 64, 4) else none)) else (bif Nat.ble 12 pc then (bif Nat.ble 15 pc then (bif Nat.beq pc 15 then some (.aload_n 0, 16, 0, 0) else none) else (bif Nat.beq pc 12 then some (.if_icmp .ge 0, 15, 213, 0) else none)) else (bif Nat.beq pc 9 then some (.getfield 0, 12, 128, 5) else none))) else (bif Nat.ble 4 pc then (bif Nat.ble 6 pc then (bif Nat.ble 8 pc then (bif Nat.beq pc 8 then some (.aload_n 0, 9, 0, 0) else none) else (bif Nat.beq pc 6 then some (.iload 5, 8, 0, 0) else none)) else (bif Nat.beq pc 4 then some (.istore 5, 6, 0, 0) else none)) else (bif Nat.ble 1 pc then (bif Nat.ble 3 pc then (bif Nat.beq pc 3 then some (.dload 0, 4, 0, 0) else none) else (bif Nat.beq pc 1 then some (.astore 4, 3, 0, 0) else none)) else (bif Nat.beq pc 0 then some (.aconst_null, 1, 0, 0) else none))))))
def mc_88 (pc : Nat) : Option (Instr × Nat × Nat × Nat) := bif Nat.ble 29 pc then (bif Nat.ble 39 pc then (bif Nat.ble 48 pc then (bif Nat.ble 52 pc then (bif Nat.ble 53 pc then (bif Nat.beq pc 53 then some (.ireturn, 54, 0, 0) else none) else (bif Nat.beq pc 52 then some (.iaload, 53, 0, 0) else none)) else (bif Nat.ble 49 pc then (bif Nat.beq pc 49 then some (.invokevirtual 43, 52, 29, 0) else none) else (bif Nat.beq pc 48 then some (.iload_n 0, 49, 0, 0) else none))) else (bif Nat.ble 43 pc then (bif Nat.ble 46 pc then (bif Nat.beq pc 46 then some (.ldc 1, 48, 27, 0) else none) else (bif Nat.beq pc 43 then some (.getstatic 2, 46, 24, 0) else none)) else (bif Nat.ble 40 pc then (bif Nat.beq pc 40 then some (.goto 0, 43, 53, 0) else none) else (bif Nat.beq pc 39 then some (.iaload, 40, 0, 0) else none)))) else (bif Nat.ble 33 pc then (bif Nat.ble 36 pc then (bif Nat.ble 38 pc then (bif Nat.beq pc 38 then some (.irem, 39, 0, 0) else none) else (bif Nat.beq pc 36 then some (.dload 10, 38, 0, 0) else none)) else (bif Nat.ble 35 pc then (bif Nat.beq pc 35 then some (.iadd, 36, 0, 0) else none) else (bif Nat.beq pc 33 then some (.dload 9, 35, 0, 0) else none))) else (bif Nat.ble 30 pc then (bif Nat.ble 32 pc then (bif Nat.beq pc 32 then some (.isub, 33, 0, 0) else none) else (bif Nat.beq pc 30 then some (.dload 48, 32, 0, 0) else none)) else (bif Nat.beq pc 29 then some (.iload_n 0, 30, 0, 0) else none)))) else (bif Nat.ble 16 pc then (bif Nat.ble 19 pc then (bif Nat.ble 23 pc then (bif Nat.ble 26 pc then (bif Nat.beq pc 26 then some (.getstatic 1, 29, 13, 0) else none) else (bif Nat.beq pc 23 then some (.ifCond .eq 0, 26, 43, 0) else none)) else (bif Nat.ble 20 pc then (bif Nat.beq pc 20 then some (.invokestatic 74, 23, 21, 0) else none) else (bif Nat.beq pc 19 then some (.iload_n 0, 20, 0, 0) else none))) else (bif Nat.ble 17 pc then (bif Nat.ble 18 pc then (bif Nat.beq pc 18 then some (.ireturn, 19, 0, 0) else none) else (bif Nat.beq pc 17 then some (.iaload, 18, 0, 0) else none)) else (bif Nat.beq pc 16 then some (.isub, 17, 0, 0) else none))) else (bif Nat.ble 7 pc then (bif Nat.ble 11 pc then (bif Nat.ble 14 pc then (bif Nat.beq pc 14 then some (.dload 97, 16, 0, 0) else none) else (bif Nat.beq pc 11 then some (.invokestatic 86, 14, 17, 0) else none)) else (bif Nat.ble 10 pc then (bif Nat.beq pc 10 then some (.iload_n 0, 11, 0, 0) else none) else (bif Nat.beq pc 7 then some (.getstatic 1, 10, 13, 0) else none))) else (bif Nat.ble 1 pc then (bif Nat.ble 4 pc then (bif Nat.beq pc 4 then some (.ifCond .eq 0, 7, 19, 0) else none) else (bif Nat.beq pc 1 then some (.invokestatic 73, 4, 10, 0) else none)) else (bif Nat.beq pc 0 then some (.iload_n 0, 1, 0, 0) else none))))
def mc_89 (pc : Nat) : Option (Instr × Nat × Nat × Nat) := bif Nat.ble 103 pc then (bif Nat.ble 156 pc then (bif Nat.ble 182 pc then (bif Nat.ble 196 pc then (bif Nat.ble 204 pc then (bif Nat.ble 207 pc then (bif Nat.ble 210 pc then (bif Nat.beq pc 210 then some (.return_, 211, 0, 0) else none) else (bif Nat.beq pc 207 then some (.goto 0, 210, 73, 0) else none)) else (bif Nat.ble 205 pc then (bif Nat.beq pc 205 then some (.istore 5, 207, 0, 0) else none) else (bif Nat.beq pc 204 then some (.iadd, 205, 0, 0) else none))) else (bif Nat.ble 199 pc then (bif Nat.ble 201 pc then (bif Nat.beq pc 201 then some (.getfield 5, 204, 142, 2) else none) else (bif Nat.beq pc 199 then some (.aload 6, 201, 0, 0) else none)) else (bif Nat.beq pc 196 then some (.goto 0, 199, 204, 0) else none))) else (bif Nat.ble 190 pc then (bif Nat.ble 192 pc then (bif Nat.ble 195 pc then (bif Nat.beq pc 195 then some (.dload 1, 196, 0, 0) else none) else (bif Nat.beq pc 192 then some (.ifnonnull 0, 195, 199, 0) else none)) else (bif Nat.beq pc 190 then some (.aload 6, 192, 0, 0) else none)) else (bif Nat.ble 185 pc then (bif Nat.ble 188 pc then (bif Nat.beq pc 188 then some (.iload 5, 190, 0, 0) else none) else (bif Nat.beq pc 185 then some (.goto 0, 188, 149, 0) else none)) else (bif Nat.beq pc 182 then some (.multianewarray 7 1, 185, 0, 0) else none)))) else (bif Nat.ble 170 pc then (bif Nat.ble 174 pc then (bif Nat.ble 176 pc then (bif Nat.ble 177 pc then (bif Nat.beq pc 177 then some (.invokeinterface 0 3, 182, 174, 0) else none) else (bif Nat.beq pc 176 then some (.iadd, 177, 0, 0) else none)) else (bif Nat.beq pc 174 then some (.iload 5, 176, 0, 0) else none)) else (bif Nat.ble 172 pc then (bif Nat.ble 173 pc then (bif Nat.beq pc 173 then some (.iload_n 2, 174, 0, 0) else none) else (bif Nat.beq pc 172 then some (.baload, 173, 0, 0) else none)) else (bif Nat.beq pc 170 then some (.iload 7, 172, 0, 0) else none))) else (bif Nat.ble 164 pc then (bif Nat.ble 165 pc then (bif Nat.ble 167 pc then (bif Nat.beq pc 167 then some (.fload 5, 170, 159, 3) else none) else (bif Nat.beq pc 165 then some (.aload 6, 167, 0, 0) else none)) else (bif Nat.beq pc 164 then some (.aload_n 3, 165, 0, 0) else none)) else (bif Nat.ble 158 pc then (bif Nat.ble 161 pc then (bif Nat.beq pc 161 then some (.if_icmp .ge 0, 164, 188, 0) else none) else (bif Nat.beq pc 158 then some (.getfield 5, 161, 144, 4) else none)) else (bif Nat.beq pc 156 then some (.aload 6, 158, 0, 0) else none))))) else (bif Nat.ble 128 pc then (bif Nat.ble 140 pc then (bif Nat.ble 147 pc then (bif Nat.ble 151 pc then (bif Nat.ble 154 pc then (bif Nat.beq pc 154 then some (.iload 7, 156, 0, 0) else none) else (bif Nat.beq pc 151 then some (.ifnull 0, 154, 188, 0) else none)) else (bif Nat.ble 149 pc then (bif Nat.beq pc 149 then some (.aload 6, 151, 0, 0) else none) else (bif Nat.beq pc 147 then some (.istore 7, 149, 0, 0) else none))) else (bif Nat.ble 141 pc then (bif Nat.ble 146 pc then (bif Nat.beq pc 146 then some (.dload 0, 147, 0, 0) else none) else (bif Nat.beq pc 141 then some (.invokeinterface 0 3, 146, 174, 0) else none)) else (bif Nat.beq pc 140 then some (.iadd, 141, 0, 0) else none))) else (bif Nat.ble 134 pc then (bif Nat.ble 137 pc then (bif Nat.ble 138 pc then (bif Nat.beq pc 138 then some (.iload 5, 140, 0, 0) else none) else (bif Nat.beq pc 137 then some (.iload_n 2, 138, 0, 0) else none)) else (bif Nat.beq pc 134 then some (.invokestatic 88, 137, 180, 0) else none)) else (bif Nat.ble 129 pc then (bif Nat.ble 131 pc then (bif Nat.beq pc 131 then some (.invokevirtual 71, 134, 35, 0) else none) else (bif Nat.beq pc 129 then some (.iload 5, 131, 0, 0) else none)) else (bif Nat.beq pc 128 then some (.aload_n 1, 129, 0, 0) else none)))) else (bif Nat.ble 115 pc then (bif Nat.ble 122 pc then (bif Nat.ble 124 pc then (bif Nat.ble 127 pc then (bif Nat.beq pc 127 then some (.aload_n 3, 128, 0, 0) else none) else (bif Nat.beq pc 124 then some (.ifnonnull 0, 127, 146, 0) else none)) else (bif Nat.beq pc 122 then some (.aload 6, 124, 0, 0) else none)) else (bif Nat.ble 117 pc then (bif Nat.ble 120 pc then (bif Nat.beq pc 120 then some (.astore 6, 122, 0, 0) else none) else (bif Nat.beq pc 117 then some (.invokevirtual 87, 120, 188, 0) else none)) else (bif Nat.beq pc 115 then some (.iload 4, 117, 0, 0) else none))) else (bif Nat.ble 111 pc then (bif Nat.ble 112 pc then (bif Nat.ble 113 pc then (bif Nat.beq pc 113 then some (.iload 5, 115, 0, 0) else none) else (bif Nat.beq pc 112 then some (.aload_n 1, 113, 0, 0) else none)) else (bif Nat.beq pc 111 then some (.aload_n 0, 112, 0, 0) else none)) else (bif Nat.ble 105 pc then (bif Nat.ble 106 pc then (bif Nat.beq pc 106 then some (.invokeinterface 0 3, 111, 174, 0) else none) else (bif Nat.beq pc 105 then some (.iadd, 106, 0, 0) else none)) else (bif Nat.beq pc 103 then some (.iload 5, 105, 0, 0) else none)))))) else (bif Nat.ble 49 pc then (bif Nat.ble 75 pc then (bif Nat.ble 88 pc then (bif Nat.ble 96 pc then (bif Nat.ble 100 pc then (bif Nat.ble 102 pc then (bif Nat.beq pc 102 then some (.iload_n 2, 103, 0, 0) else none) else (bif Nat.beq pc 100 then some (.dload 32, 102, 0, 0) else none)) else (bif Nat.ble 99 pc then (bif Nat.beq pc 99 then some (.aload_n 3, 100, 0, 0) else none) else (bif Nat.beq pc 96 then some (.ifCond .eq 0, 99, 111, 0) else none))) else (bif Nat.ble 90 pc then (bif Nat.ble 93 pc then (bif Nat.beq pc 93 then some (.invokestatic 72, 96, 7, 0) else none) else (bif Nat.beq pc 90 then some (.invokevirtual 71, 93, 35, 0) else none)) else (bif Nat.beq pc 88 then some (.iload 5, 90, 0, 0) else none))) else (bif Nat.ble 82 pc then (bif Nat.ble 84 pc then (bif Nat.ble 87 pc then (bif Nat.beq pc 87 then some (.aload_n 1, 88, 0, 0) else none) else (bif Nat.beq pc 84 then some (.ifCond .ne 0, 87, 111, 0) else none)) else (bif Nat.beq pc 82 then some (.iload 4, 84, 0, 0) else none)) else (bif Nat.ble 76 pc then (bif Nat.ble 79 pc then (bif Nat.beq pc 79 then some (.if_icmp .ge 0, 82, 210, 0) else none) else (bif Nat.beq pc 76 then some (.invokevirtual 38, 79, 179, 0) else none)) else (bif Nat.beq pc 75 then some (.aload_n 1, 76, 0, 0) else none)))) else (bif Nat.ble 62 pc then (bif Nat.ble 70 pc then (bif Nat.ble 71 pc then (bif Nat.ble 73 pc then (bif Nat.beq pc 73 then some (.iload 5, 75, 0, 0) else none) else (bif Nat.beq pc 71 then some (.istore 5, 73, 0, 0) else none)) else (bif Nat.beq pc 70 then some (.dload 0, 71, 0, 0) else none)) else (bif Nat.ble 64 pc then (bif Nat.ble 65 pc then (bif Nat.beq pc 65 then some (.invokeinterface 0 3, 70, 174, 0) else none) else (bif Nat.beq pc 64 then some (.iload_n 2, 65, 0, 0) else none)) else (bif Nat.beq pc 62 then some (.dload 32, 64, 0, 0) else none))) else (bif Nat.ble 55 pc then (bif Nat.ble 56 pc then (bif Nat.ble 61 pc then (bif Nat.beq pc 61 then some (.aload_n 3, 62, 0, 0) else none) else (bif Nat.beq pc 56 then some (.invokeinterface 0 3, 61, 174, 0) else none)) else (bif Nat.beq pc 55 then some (.iload_n 2, 56, 0, 0) else none)) else (bif Nat.ble 52 pc then (bif Nat.ble 53 pc then (bif Nat.beq pc 53 then some (.dload 32, 55, 0, 0) else none) else (bif Nat.beq pc 52 then some (.aload_n 3, 53, 0, 0) else none)) else (bif Nat.beq pc 49 then some (.ifCond .eq 0, 52, 70, 0) else none))))) else (bif Nat.ble 21 pc then (bif Nat.ble 35 pc then (bif Nat.ble 41 pc then (bif Nat.ble 44 pc then (bif Nat.ble 47 pc then (bif Nat.beq pc 47 then some (.iload 4, 49, 0, 0) else none) else (bif Nat.beq pc 44 then some (.goto 0, 47, 18, 0) else none)) else (bif Nat.beq pc 41 then some (.multianewarray 5 1, 44, 0, 0) else none)) else (bif Nat.ble 38 pc then (bif Nat.ble 39 pc then (bif Nat.beq pc 39 then some (.istore 4, 41, 0, 0) else none) else (bif Nat.beq pc 38 then some (.iand, 39, 0, 0) else none)) else (bif Nat.beq pc 35 then some (.invokestatic 72, 38, 7, 0) else none))) else (bif Nat.ble 29 pc then (bif Nat.ble 30 pc then (bif Nat.ble 32 pc then (bif Nat.beq pc 32 then some (.invokevirtual 71, 35, 35, 0) else none) else (bif Nat.beq pc 30 then some (.iload 5, 32, 0, 0) else none)) else (bif Nat.beq pc 29 then some (.aload_n 1, 30, 0, 0) else none)) else (bif Nat.ble 24 pc then (bif Nat.ble 27 pc then (bif Nat.beq pc 27 then some (.iload 4, 29, 0, 0) else none) else (bif Nat.beq pc 24 then some (.if_icmp .ge 0, 27, 47, 0) else none)) else (bif Nat.beq pc 21 then some (.invokevirtual 38, 24, 179, 0) else none)))) else (bif Nat.ble 12 pc then (bif Nat.ble 16 pc then (bif Nat.ble 18 pc then (bif Nat.ble 20 pc then (bif Nat.beq pc 20 then some (.aload_n 1, 21, 0, 0) else none) else (bif Nat.beq pc 18 then some (.iload 5, 20, 0, 0) else none)) else (bif Nat.beq pc 16 then some (.istore 5, 18, 0, 0) else none)) else (bif Nat.ble 13 pc then (bif Nat.ble 15 pc then (bif Nat.beq pc 15 then some (.dload 0, 16, 0, 0) else none) else (bif Nat.beq pc 13 then some (.istore 4, 15, 0, 0) else none)) else (bif Nat.beq pc 12 then some (.dload 0, 13, 0, 0) else none))) else (bif Nat.ble 5 pc then (bif Nat.ble 8 pc then (bif Nat.ble 9 pc then (bif Nat.beq pc 9 then some (.goto 0, 12, 13, 0) else none) else (bif Nat.beq pc 8 then some (.dload 1, 9, 0, 0) else none)) else (bif Nat.beq pc 5 then some (.if_icmp .le 0, 8, 12, 0) else none)) else (bif Nat.ble 1 pc then (bif Nat.ble 4 pc then (bif Nat.beq pc 4 then some (.dload 1, 5, 0, 0) else none) else (bif Nat.beq pc 1 then some (.invokevirtual 38, 4, 179, 0) else none)) else (bif Nat.beq pc 0 then some (.aload_n 1, 1, 0, 0) else none))))))
def mc_90 (pc : Nat) : Option (Instr × Nat × Nat × Nat) := bif Nat.ble 22 pc then (bif Nat.ble 32 pc then (bif Nat.ble 40 pc then (bif Nat.ble 43 pc then (bif Nat.ble 46 pc then (bif Nat.beq pc 46 then some (.return_, 47, 0, 0) else none) else (bif Nat.beq pc 43 then some (.goto 0, 46, 12, 0) else none)) else (bif Nat.beq pc 40 then some (.multianewarray 4 1, 43, 0, 0) else none)) else (bif Nat.ble 34 pc then (bif Nat.ble 35 pc then (bif Nat.beq pc 35 then some (.invokeinterface 0 3, 40, 174, 0) else none) else (bif Nat.beq pc 34 then some (.iadd, 35, 0, 0) else none)) else (bif Nat.beq pc 32 then some (.iload 4, 34, 0, 0) else none))) else (bif Nat.ble 25 pc then (bif Nat.ble 28 pc then (bif Nat.ble 31 pc then (bif Nat.beq pc 31 then some (.iload_n 2, 32, 0, 0) else none) else (bif Nat.beq pc 28 then some (.invokestatic 88, 31, 180, 0) else none)) else (bif Nat.beq pc 25 then some (.invokevirtual 71, 28, 35, 0) else none)) else (bif Nat.ble 23 pc then (bif Nat.beq pc 23 then some (.iload 4, 25, 0, 0) else none) else (bif Nat.beq pc 22 then some (.aload_n 1, 23, 0, 0) else none)))) else (bif Nat.ble 10 pc then (bif Nat.ble 15 pc then (bif Nat.ble 18 pc then (bif Nat.ble 21 pc then (bif Nat.beq pc 21 then some (.aload_n 3, 22, 0, 0) else none) else (bif Nat.beq pc 18 then some (.if_icmp .ge 0, 21, 46, 0) else none)) else (bif Nat.beq pc 15 then some (.invokevirtual 38, 18, 179, 0) else none)) else (bif Nat.ble 12 pc then (bif Nat.ble 14 pc then (bif Nat.beq pc 14 then some (.aload_n 1, 15, 0, 0) else none) else (bif Nat.beq pc 12 then some (.iload 4, 14, 0, 0) else none)) else (bif Nat.beq pc 10 then some (.istore 4, 12, 0, 0) else none))) else (bif Nat.ble 3 pc then (bif Nat.ble 4 pc then (bif Nat.ble 9 pc then (bif Nat.beq pc 9 then some (.dload 0, 10, 0, 0) else none) else (bif Nat.beq pc 4 then some (.invokeinterface 0 3, 9, 174, 0) else none)) else (bif Nat.beq pc 3 then some (.iload_n 2, 4, 0, 0) else none)) else (bif Nat.ble 1 pc then (bif Nat.beq pc 1 then some (.dload 60, 3, 0, 0) else none) else (bif Nat.beq pc 0 then some (.aload_n 3, 1, 0, 0) else none))))
def mc_91 (pc : Nat) : Option (Instr × Nat × Nat × Nat) := bif Nat.ble 94 pc then (bif Nat.ble 142 pc then (bif Nat.ble 169 pc then (bif Nat.ble 183 pc then (bif Nat.ble 191 pc then (bif Nat.ble 192 pc then (bif Nat.ble 195 pc then (bif Nat.beq pc 195 then some (.return_, 196, 0, 0) else none) else (bif Nat.beq pc 192 then some (.goto 0, 195, 2, 0) else none)) else (bif Nat.beq pc 191 then some (.istore_n 3, 192, 0, 0) else none)) else (bif Nat.ble 184 pc then (bif Nat.ble 189 pc then (bif Nat.beq pc 189 then some (.iload 5, 191, 0, 0) else none) else (bif Nat.beq pc 184 then some (.invokeinterface 0 3, 189, 174, 0) else none)) else (bif Nat.beq pc 183 then some (.iload_n 3, 184, 0, 0) else none))) else (bif Nat.ble 175 pc then (bif Nat.ble 178 pc then (bif Nat.ble 180 pc then (bif Nat.beq pc 180 then some (.invokestatic 88, 183, 180, 0) else none) else (bif Nat.beq pc 178 then some (.iload 4, 180, 0, 0) else none)) else (bif Nat.beq pc 175 then some (.goto 0, 178, 183, 0) else none)) else (bif Nat.ble 171 pc then (bif Nat.ble 174 pc then (bif Nat.beq pc 174 then some (.dload 0, 175, 0, 0) else none) else (bif Nat.beq pc 171 then some (.if_icmp .ne 0, 174, 178, 0) else none)) else (bif Nat.beq pc 169 then some (.dload 32, 171, 0, 0) else none)))) else (bif Nat.ble 153 pc then (bif Nat.ble 163 pc then (bif Nat.ble 166 pc then (bif Nat.ble 167 pc then (bif Nat.beq pc 167 then some (.iload 4, 169, 0, 0) else none) else (bif Nat.beq pc 166 then some (.aload_n 2, 167, 0, 0) else none)) else (bif Nat.beq pc 163 then some (.multianewarray 5 1, 166, 0, 0) else none)) else (bif Nat.ble 155 pc then (bif Nat.ble 160 pc then (bif Nat.beq pc 160 then some (.goto 0, 163, 189, 0) else none) else (bif Nat.beq pc 155 then some (.invokeinterface 0 3, 160, 174, 0) else none)) else (bif Nat.beq pc 153 then some (.iload 5, 155, 0, 0) else none))) else (bif Nat.ble 147 pc then (bif Nat.ble 150 pc then (bif Nat.ble 151 pc then (bif Nat.beq pc 151 then some (.dload 48, 153, 0, 0) else none) else (bif Nat.beq pc 150 then some (.aload_n 2, 151, 0, 0) else none)) else (bif Nat.beq pc 147 then some (.if_icmp .gt 0, 150, 189, 0) else none)) else (bif Nat.ble 145 pc then (bif Nat.beq pc 145 then some (.dload 106, 147, 0, 0) else none) else (bif Nat.beq pc 142 then some (.invokevirtual 71, 145, 35, 0) else none))))) else (bif Nat.ble 116 pc then (bif Nat.ble 129 pc then (bif Nat.ble 136 pc then (bif Nat.ble 139 pc then (bif Nat.ble 140 pc then (bif Nat.beq pc 140 then some (.iload 5, 142, 0, 0) else none) else (bif Nat.beq pc 139 then some (.aload_n 1, 140, 0, 0) else none)) else (bif Nat.beq pc 136 then some (.if_icmp .lt 0, 139, 189, 0) else none)) else (bif Nat.ble 131 pc then (bif Nat.ble 134 pc then (bif Nat.beq pc 134 then some (.dload 97, 136, 0, 0) else none) else (bif Nat.beq pc 131 then some (.invokevirtual 71, 134, 35, 0) else none)) else (bif Nat.beq pc 129 then some (.iload 5, 131, 0, 0) else none))) else (bif Nat.ble 122 pc then (bif Nat.ble 125 pc then (bif Nat.ble 128 pc then (bif Nat.beq pc 128 then some (.aload_n 1, 129, 0, 0) else none) else (bif Nat.beq pc 125 then some (.if_icmp .ge 0, 128, 189, 0) else none)) else (bif Nat.beq pc 122 then some (.invokevirtual 38, 125, 179, 0) else none)) else (bif Nat.ble 119 pc then (bif Nat.ble 121 pc then (bif Nat.beq pc 121 then some (.aload_n 1, 122, 0, 0) else none) else (bif Nat.beq pc 119 then some (.iload 5, 121, 0, 0) else none)) else (bif Nat.beq pc 116 then some (.invokevirtual 90, 119, 200, 0) else none)))) else (bif Nat.ble 107 pc then (bif Nat.ble 111 pc then (bif Nat.ble 114 pc then (bif Nat.ble 115 pc then (bif Nat.beq pc 115 then some (.aload_n 2, 116, 0, 0) else none) else (bif Nat.beq pc 114 then some (.iload_n 3, 115, 0, 0) else none)) else (bif Nat.beq pc 111 then some (.invokevirtual 81, 114, 192, 0) else none)) else (bif Nat.ble 108 pc then (bif Nat.ble 109 pc then (bif Nat.beq pc 109 then some (.iload 5, 111, 0, 0) else none) else (bif Nat.beq pc 108 then some (.iload_n 3, 109, 0, 0) else none)) else (bif Nat.beq pc 107 then some (.aload_n 1, 108, 0, 0) else none))) else (bif Nat.ble 100 pc then (bif Nat.ble 103 pc then (bif Nat.ble 106 pc then (bif Nat.beq pc 106 then some (.aload_n 0, 107, 0, 0) else none) else (bif Nat.beq pc 103 then some (.goto 0, 106, 79, 0) else none)) else (bif Nat.beq pc 100 then some (.multianewarray 5 1, 103, 0, 0) else none)) else (bif Nat.ble 97 pc then (bif Nat.beq pc 97 then some (.ifCond .eq 0, 100, 106, 0) else none) else (bif Nat.beq pc 94 then some (.invokestatic 74, 97, 21, 0) else none)))))) else (bif Nat.ble 43 pc then (bif Nat.ble 65 pc then (bif Nat.ble 81 pc then (bif Nat.ble 88 pc then (bif Nat.ble 89 pc then (bif Nat.ble 91 pc then (bif Nat.beq pc 91 then some (.invokevirtual 71, 94, 35, 0) else none) else (bif Nat.beq pc 89 then some (.iload 5, 91, 0, 0) else none)) else (bif Nat.beq pc 88 then some (.aload_n 1, 89, 0, 0) else none)) else (bif Nat.ble 82 pc then (bif Nat.ble 85 pc then (bif Nat.beq pc 85 then some (.if_icmp .ge 0, 88, 106, 0) else none) else (bif Nat.beq pc 82 then some (.invokevirtual 38, 85, 179, 0) else none)) else (bif Nat.beq pc 81 then some (.aload_n 1, 82, 0, 0) else none))) else (bif Nat.ble 73 pc then (bif Nat.ble 76 pc then (bif Nat.ble 79 pc then (bif Nat.beq pc 79 then some (.iload 5, 81, 0, 0) else none) else (bif Nat.beq pc 76 then some (.ifCond .eq 0, 79, 163, 0) else none)) else (bif Nat.beq pc 73 then some (.invokestatic 74, 76, 21, 0) else none)) else (bif Nat.ble 68 pc then (bif Nat.ble 71 pc then (bif Nat.beq pc 71 then some (.iload 4, 73, 0, 0) else none) else (bif Nat.beq pc 68 then some (.goto 0, 71, 189, 0) else none)) else (bif Nat.beq pc 65 then some (.invokevirtual 89, 68, 196, 0) else none)))) else (bif Nat.ble 56 pc then (bif Nat.ble 60 pc then (bif Nat.ble 63 pc then (bif Nat.ble 64 pc then (bif Nat.beq pc 64 then some (.aload_n 2, 65, 0, 0) else none) else (bif Nat.beq pc 63 then some (.iload_n 3, 64, 0, 0) else none)) else (bif Nat.beq pc 60 then some (.invokevirtual 81, 63, 192, 0) else none)) else (bif Nat.ble 57 pc then (bif Nat.ble 58 pc then (bif Nat.beq pc 58 then some (.iload 5, 60, 0, 0) else none) else (bif Nat.beq pc 57 then some (.iload_n 3, 58, 0, 0) else none)) else (bif Nat.beq pc 56 then some (.aload_n 1, 57, 0, 0) else none))) else (bif Nat.ble 49 pc then (bif Nat.ble 52 pc then (bif Nat.ble 55 pc then (bif Nat.beq pc 55 then some (.aload_n 0, 56, 0, 0) else none) else (bif Nat.beq pc 52 then some (.goto 0, 55, 28, 0) else none)) else (bif Nat.beq pc 49 then some (.multianewarray 5 1, 52, 0, 0) else none)) else (bif Nat.ble 46 pc then (bif Nat.beq pc 46 then some (.ifCond .eq 0, 49, 55, 0) else none) else (bif Nat.beq pc 43 then some (.invokestatic 73, 46, 10, 0) else none))))) else (bif Nat.ble 18 pc then (bif Nat.ble 30 pc then (bif Nat.ble 37 pc then (bif Nat.ble 38 pc then (bif Nat.ble 40 pc then (bif Nat.beq pc 40 then some (.invokevirtual 71, 43, 35, 0) else none) else (bif Nat.beq pc 38 then some (.iload 5, 40, 0, 0) else none)) else (bif Nat.beq pc 37 then some (.aload_n 1, 38, 0, 0) else none)) else (bif Nat.ble 31 pc then (bif Nat.ble 34 pc then (bif Nat.beq pc 34 then some (.if_icmp .ge 0, 37, 55, 0) else none) else (bif Nat.beq pc 31 then some (.invokevirtual 38, 34, 179, 0) else none)) else (bif Nat.beq pc 30 then some (.aload_n 1, 31, 0, 0) else none))) else (bif Nat.ble 22 pc then (bif Nat.ble 25 pc then (bif Nat.ble 28 pc then (bif Nat.beq pc 28 then some (.iload 5, 30, 0, 0) else none) else (bif Nat.beq pc 25 then some (.ifCond .eq 0, 28, 71, 0) else none)) else (bif Nat.beq pc 22 then some (.invokestatic 73, 25, 10, 0) else none)) else (bif Nat.ble 20 pc then (bif Nat.beq pc 20 then some (.iload 4, 22, 0, 0) else none) else (bif Nat.beq pc 18 then some (.istore 5, 20, 0, 0) else none)))) else (bif Nat.ble 7 pc then (bif Nat.ble 12 pc then (bif Nat.ble 15 pc then (bif Nat.ble 17 pc then (bif Nat.beq pc 17 then some (.iload_n 3, 18, 0, 0) else none) else (bif Nat.beq pc 15 then some (.istore 4, 17, 0, 0) else none)) else (bif Nat.beq pc 12 then some (.invokevirtual 71, 15, 35, 0) else none)) else (bif Nat.ble 10 pc then (bif Nat.ble 11 pc then (bif Nat.beq pc 11 then some (.iload_n 3, 12, 0, 0) else none) else (bif Nat.beq pc 10 then some (.aload_n 1, 11, 0, 0) else none)) else (bif Nat.beq pc 7 then some (.if_icmp .ge 0, 10, 195, 0) else none))) else (bif Nat.ble 2 pc then (bif Nat.ble 3 pc then (bif Nat.ble 4 pc then (bif Nat.beq pc 4 then some (.invokevirtual 38, 7, 179, 0) else none) else (bif Nat.beq pc 3 then some (.aload_n 1, 4, 0, 0) else none)) else (bif Nat.beq pc 2 then some (.iload_n 3, 3, 0, 0) else none)) else (bif Nat.ble 1 pc then (bif Nat.beq pc 1 then some (.istore_n 3, 2, 0, 0) else none) else (bif Nat.beq pc 0 then some (.dload 0, 1, 0, 0) else none))))))
def mc_92 (pc : Nat) : Option (Instr × Nat × Nat × Nat) := bif Nat.ble 62 pc then (bif Nat.ble 89 pc then (bif Nat.ble 100 pc then (bif Nat.ble 106 pc then (bif Nat.ble 110 pc then (bif Nat.ble 113 pc then (bif Nat.beq pc 113 then some (.ireturn, 114, 0, 0) else none) else (bif Nat.beq pc 110 then some (.getfield 0, 113, 211, 8) else none)) else (bif Nat.ble 109 pc then (bif Nat.beq pc 109 then some (.aload_n 0, 110, 0, 0) else none) else (bif Nat.beq pc 106 then some (.invokevirtual 28, 109, 171, 0) else none))) else (bif Nat.ble 102 pc then (bif Nat.ble 105 pc then (bif Nat.beq pc 105 then some (.aload_n 0, 106, 0, 0) else none) else (bif Nat.beq pc 102 then some (.lstore 0, 105, 227, 10) else none)) else (bif Nat.ble 101 pc then (bif Nat.beq pc 101 then some (.dload 0, 102, 0, 0) else none) else (bif Nat.beq pc 100 then some (.aload_n 0, 101, 0, 0) else none)))) else (bif Nat.ble 94 pc then (bif Nat.ble 98 pc then (bif Nat.ble 99 pc then (bif Nat.beq pc 99 then some (.aastore, 100, 0, 0) else none) else (bif Nat.beq pc 98 then some (.aload_n 3, 99, 0, 0) else none)) else (bif Nat.ble 95 pc then (bif Nat.beq pc 95 then some (.putfield 0, 98, 211, 8) else none) else (bif Nat.beq pc 94 then some (.iadd, 95, 0, 0) else none))) else (bif Nat.ble 92 pc then (bif Nat.ble 93 pc then (bif Nat.beq pc 93 then some (.dload 1, 94, 0, 0) else none) else (bif Nat.beq pc 92 then some (.dup_x1, 93, 0, 0) else none)) else (bif Nat.beq pc 89 then some (.getfield 0, 92, 211, 8) else none)))) else (bif Nat.ble 77 pc then (bif Nat.ble 83 pc then (bif Nat.ble 87 pc then (bif Nat.ble 88 pc then (bif Nat.beq pc 88 then some (.dup, 89, 0, 0) else none) else (bif Nat.beq pc 87 then some (.aload_n 0, 88, 0, 0) else none)) else (bif Nat.ble 84 pc then (bif Nat.beq pc 84 then some (.fload 0, 87, 74, 7) else none) else (bif Nat.beq pc 83 then some (.aload_n 0, 84, 0, 0) else none))) else (bif Nat.ble 79 pc then (bif Nat.ble 80 pc then (bif Nat.beq pc 80 then some (.invokevirtual 91, 83, 223, 0) else none) else (bif Nat.beq pc 79 then some (.aload_n 3, 80, 0, 0) else none)) else (bif Nat.ble 78 pc then (bif Nat.beq pc 78 then some (.aload_n 2, 79, 0, 0) else none) else (bif Nat.beq pc 77 then some (.aload_n 0, 78, 0, 0) else none)))) else (bif Nat.ble 67 pc then (bif Nat.ble 71 pc then (bif Nat.ble 74 pc then (bif Nat.beq pc 74 then some (.if_acmp .eq 0, 77, 83, 0) else none) else (bif Nat.beq pc 71 then some (.getstatic 7, 74, 220, 0) else none)) else (bif Nat.ble 68 pc then (bif Nat.beq pc 68 then some (.fload 6, 71, 217, 0) else none) else (bif Nat.beq pc 67 then some (.aload_n 3, 68, 0, 0) else none))) else (bif Nat.ble 63 pc then (bif Nat.ble 66 pc then (bif Nat.beq pc 66 then some (.astore_n 3, 67, 0, 0) else none) else (bif Nat.beq pc 63 then some (.invokespecial 76, 66, 214, 0) else none)) else (bif Nat.beq pc 62 then some (.aaload, 63, 0, 0) else none))))) else (bif Nat.ble 28 pc then (bif Nat.ble 42 pc then (bif Nat.ble 56 pc then (bif Nat.ble 58 pc then (bif Nat.ble 61 pc then (bif Nat.beq pc 61 then some (.iload_n 1, 62, 0, 0) else none) else (bif Nat.beq pc 58 then some (.fload 0, 61, 51, 2) else none)) else (bif Nat.ble 57 pc then (bif Nat.beq pc 57 then some (.aload_n 0, 58, 0, 0) else none) else (bif Nat.beq pc 56 then some (.dup, 57, 0, 0) else none))) else (bif Nat.ble 48 pc then (bif Nat.ble 53 pc then (bif Nat.beq pc 53 then some (.new 6, 56, 72, 0) else none) else (bif Nat.beq pc 48 then some (.dup, 49, 0, 0) else none)) else (bif Nat.ble 45 pc then (bif Nat.beq pc 45 then some (.jsr 589943, 48, 117, 0) else none) else (bif Nat.beq pc 42 then some (.if_icmp .ne 0, 45, 53, 0) else none)))) else (bif Nat.ble 33 pc then (bif Nat.ble 37 pc then (bif Nat.ble 40 pc then (bif Nat.beq pc 40 then some (.dload 12, 42, 0, 0) else none) else (bif Nat.beq pc 37 then some (.getfield 0, 40, 211, 8) else none)) else (bif Nat.ble 36 pc then (bif Nat.beq pc 36 then some (.aload_n 0, 37, 0, 0) else none) else (bif Nat.beq pc 33 then some (.invokestatic 34, 36, 132, 0) else none))) else (bif Nat.ble 29 pc then (bif Nat.ble 32 pc then (bif Nat.beq pc 32 then some (.dload 0, 33, 0, 0) else none) else (bif Nat.beq pc 29 then some (.goto 0, 32, 33, 0) else none)) else (bif Nat.beq pc 28 then some (.dload 1, 29, 0, 0) else none)))) else (bif Nat.ble 13 pc then (bif Nat.ble 18 pc then (bif Nat.ble 22 pc then (bif Nat.ble 25 pc then (bif Nat.beq pc 25 then some (.ifCond .eq 0, 28, 32, 0) else none) else (bif Nat.beq pc 22 then some (.invokestatic 75, 25, 207, 0) else none)) else (bif Nat.ble 21 pc then (bif Nat.beq pc 21 then some (.aload_n 2, 22, 0, 0) else none) else (bif Nat.beq pc 18 then some (.if_icmp .ge 0, 21, 32, 0) else none))) else (bif Nat.ble 14 pc then (bif Nat.ble 17 pc then (bif Nat.beq pc 17 then some (.arraylength, 18, 0, 0) else none) else (bif Nat.beq pc 14 then some (.fload 0, 17, 51, 2) else none)) else (bif Nat.beq pc 13 then some (.aload_n 0, 14, 0, 0) else none))) else (bif Nat.ble 7 pc then (bif Nat.ble 9 pc then (bif Nat.ble 12 pc then (bif Nat.beq pc 12 then some (.iload_n 1, 13, 0, 0) else none) else (bif Nat.beq pc 9 then some (.ifCond .lt 0, 12, 32, 0) else none)) else (bif Nat.ble 8 pc then (bif Nat.beq pc 8 then some (.iload_n 1, 9, 0, 0) else none) else (bif Nat.beq pc 7 then some (.astore_n 2, 8, 0, 0) else none))) else (bif Nat.ble 1 pc then (bif Nat.ble 4 pc then (bif Nat.beq pc 4 then some (.invokevirtual 69, 7, 203, 0) else none) else (bif Nat.beq pc 1 then some (.fload 0, 4, 58, 3) else none)) else (bif Nat.beq pc 0 then some (.aload_n 0, 1, 0, 0) else none)))))
def mc_93 (pc : Nat) : Option (Instr × Nat × Nat × Nat) := bif Nat.ble 12 pc then (bif Nat.ble 16 pc then (bif Nat.ble 18 pc then (bif Nat.ble 19 pc then (bif Nat.beq pc 19 then some (.ireturn, 20, 0, 0) else none) else (bif Nat.beq pc 18 then some (.dload 0, 19, 0, 0) else none)) else (bif Nat.ble 17 pc then (bif Nat.beq pc 17 then some (.ireturn, 18, 0, 0) else none) else (bif Nat.beq pc 16 then some (.dload 2, 17, 0, 0) else none))) else (bif Nat.ble 14 pc then (bif Nat.ble 15 pc then (bif Nat.beq pc 15 then some (.astore_n 3, 16, 0, 0) else none) else (bif Nat.beq pc 14 then some (.ireturn, 15, 0, 0) else none)) else (bif Nat.ble 13 pc then (bif Nat.beq pc 13 then some (.dload 1, 14, 0, 0) else none) else (bif Nat.beq pc 12 then some (.astore_n 3, 13, 0, 0) else none)))) else (bif Nat.ble 4 pc then (bif Nat.ble 8 pc then (bif Nat.ble 9 pc then (bif Nat.beq pc 9 then some (.goto 0, 12, 18, 0) else none) else (bif Nat.beq pc 8 then some (.lastore, 9, 0, 0) else none)) else (bif Nat.ble 7 pc then (bif Nat.beq pc 7 then some (.i2l, 8, 0, 0) else none) else (bif Nat.beq pc 4 then some (.invokevirtual 92, 7, 21, 0) else none))) else (bif Nat.ble 2 pc then (bif Nat.ble 3 pc then (bif Nat.beq pc 3 then some (.iload_n 1, 4, 0, 0) else none) else (bif Nat.beq pc 2 then some (.aload_n 0, 3, 0, 0) else none)) else (bif Nat.ble 1 pc then (bif Nat.beq pc 1 then some (.dload 0, 2, 0, 0) else none) else (bif Nat.beq pc 0 then some (.aload_n 2, 1, 0, 0) else none))))
def mc_94 (pc : Nat) : Option (Instr × Nat × Nat × Nat) := bif Nat.ble 9 pc then (bif Nat.ble 13 pc then (bif Nat.ble 16 pc then (bif Nat.ble 17 pc then (bif Nat.beq pc 17 then some (.ireturn, 18, 0, 0) else none) else (bif Nat.beq pc 16 then some (.dload 0, 17, 0, 0) else none)) else (bif Nat.beq pc 13 then some (.goto 0, 16, 17, 0) else none)) else (bif Nat.ble 12 pc then (bif Nat.beq pc 12 then some (.dload 1, 13, 0, 0) else none) else (bif Nat.beq pc 9 then some (.if_icmp .gt 0, 12, 16, 0) else none))) else (bif Nat.ble 3 pc then (bif Nat.ble 6 pc then (bif Nat.ble 7 pc then (bif Nat.beq pc 7 then some (.dload 90, 9, 0, 0) else none) else (bif Nat.beq pc 6 then some (.iload_n 1, 7, 0, 0) else none)) else (bif Nat.beq pc 3 then some (.if_icmp .lt 0, 6, 16, 0) else none)) else (bif Nat.ble 1 pc then (bif Nat.beq pc 1 then some (.dload 65, 3, 0, 0) else none) else (bif Nat.beq pc 0 then some (.iload_n 1, 1, 0, 0) else none)))
def mc_95 (pc : Nat) : Option (Instr × Nat × Nat × Nat) := bif Nat.ble 10 pc then (bif Nat.ble 17 pc then (bif Nat.ble 20 pc then (bif Nat.ble 21 pc then (bif Nat.beq pc 21 then some (.ireturn, 22, 0, 0) else none) else (bif Nat.beq pc 20 then some (.dload 0, 21, 0, 0) else none)) else (bif Nat.beq pc 17 then some (.goto 0, 20, 21, 0) else none)) else (bif Nat.ble 13 pc then (bif Nat.ble 16 pc then (bif Nat.beq pc 16 then some (.dload 1, 17, 0, 0) else none) else (bif Nat.beq pc 13 then some (.ifCond .eq 0, 16, 20, 0) else none)) else (bif Nat.beq pc 10 then some (.invokevirtual 94, 13, 70, 0) else none))) else (bif Nat.ble 5 pc then (bif Nat.ble 8 pc then (bif Nat.ble 9 pc then (bif Nat.beq pc 9 then some (.iload_n 1, 10, 0, 0) else none) else (bif Nat.beq pc 8 then some (.aload_n 0, 9, 0, 0) else none)) else (bif Nat.beq pc 5 then some (.ifCond .ne 0, 8, 16, 0) else none)) else (bif Nat.ble 1 pc then (bif Nat.ble 2 pc then (bif Nat.beq pc 2 then some (.invokevirtual 52, 5, 66, 0) else none) else (bif Nat.beq pc 1 then some (.iload_n 1, 2, 0, 0) else none)) else (bif Nat.beq pc 0 then some (.aload_n 0, 1, 0, 0) else none)))
def mc_96 (pc : Nat) : Option (Instr × Nat × Nat × Nat) := bif Nat.ble 9 pc then (bif Nat.ble 13 pc then (bif Nat.ble 16 pc then (bif Nat.ble 17 pc then (bif Nat.beq pc 17 then some (.ireturn, 18, 0, 0) else none) else (bif Nat.beq pc 16 then some (.dload 0, 17, 0, 0) else none)) else (bif Nat.beq pc 13 then some (.goto 0, 16, 17, 0) else none)) else (bif Nat.ble 12 pc then (bif Nat.beq pc 12 then some (.dload 1, 13, 0, 0) else none) else (bif Nat.beq pc 9 then some (.if_icmp .gt 0, 12, 16, 0) else none))) else (bif Nat.ble 3 pc then (bif Nat.ble 6 pc then (bif Nat.ble 7 pc then (bif Nat.beq pc 7 then some (.dload 57, 9, 0, 0) else none) else (bif Nat.beq pc 6 then some (.iload_n 1, 7, 0, 0) else none)) else (bif Nat.beq pc 3 then some (.if_icmp .lt 0, 6, 16, 0) else none)) else (bif Nat.ble 1 pc then (bif Nat.beq pc 1 then some (.dload 48, 3, 0, 0) else none) else (bif Nat.beq pc 0 then some (.iload_n 1, 1, 0, 0) else none)))
def mc_97 (pc : Nat) : Option (Instr × Nat × Nat × Nat) := bif Nat.ble 87 pc then (bif Nat.ble 95 pc then (bif Nat.ble 97 pc then (bif Nat.ble 98 pc then (bif Nat.ble 99 pc then (bif Nat.beq pc 99 then some (.ireturn, 100, 0, 0) else none) else (bif Nat.beq pc 98 then some (.dload 0, 99, 0, 0) else none)) else (bif Nat.beq pc 97 then some (.ireturn, 98, 0, 0) else none)) else (bif Nat.ble 96 pc then (bif Nat.beq pc 96 then some (.dload 4, 97, 0, 0) else none) else (bif Nat.beq pc 95 then some (.ireturn, 96, 0, 0) else none))) else (bif Nat.ble 90 pc then (bif Nat.ble 92 pc then (bif Nat.ble 93 pc then (bif Nat.beq pc 93 then some (.dload 36, 95, 0, 0) else none) else (bif Nat.beq pc 92 then some (.ireturn, 93, 0, 0) else none)) else (bif Nat.beq pc 90 then some (.dload 22, 92, 0, 0) else none)) else (bif Nat.ble 89 pc then (bif Nat.beq pc 89 then some (.ireturn, 90, 0, 0) else none) else (bif Nat.beq pc 87 then some (.dload 38, 89, 0, 0) else none)))) else (bif Nat.ble 80 pc then (bif Nat.ble 83 pc then (bif Nat.ble 84 pc then (bif Nat.ble 86 pc then (bif Nat.beq pc 86 then some (.ireturn, 87, 0, 0) else none) else (bif Nat.beq pc 84 then some (.dload 18, 86, 0, 0) else none)) else (bif Nat.beq pc 83 then some (.ireturn, 84, 0, 0) else none)) else (bif Nat.ble 81 pc then (bif Nat.beq pc 81 then some (.dload 6, 83, 0, 0) else none) else (bif Nat.beq pc 80 then some (.ireturn, 81, 0, 0) else none))) else (bif Nat.ble 76 pc then (bif Nat.ble 78 pc then (bif Nat.ble 79 pc then (bif Nat.beq pc 79 then some (.dload 2, 80, 0, 0) else none) else (bif Nat.beq pc 78 then some (.ireturn, 79, 0, 0) else none)) else (bif Nat.beq pc 76 then some (.dload 50, 78, 0, 0) else none)) else (bif Nat.ble 1 pc then (bif Nat.beq pc 1 then some (.lookupswitch 98 #[(33, 90), (39, 96), (44, 79), (45, 93), (46, 76), (58, 84), (59, 81), (63, 87)], 76, 0, 0) else none) else (bif Nat.beq pc 0 then some (.iload_n 1, 1, 0, 0) else none))))
def mc_98 (pc : Nat) : Option (Instr × Nat × Nat × Nat) := bif Nat.ble 35 pc then (bif Nat.ble 48 pc then (bif Nat.ble 57 pc then (bif Nat.ble 59 pc then (bif Nat.ble 60 pc then (bif Nat.ble 61 pc then (bif Nat.beq pc 61 then some (.return_, 62, 0, 0) else none) else (bif Nat.beq pc 60 then some (.iastore, 61, 0, 0) else none)) else (bif Nat.beq pc 59 then some (.iadd, 60, 0, 0) else none)) else (bif Nat.ble 58 pc then (bif Nat.beq pc 58 then some (.dload 1, 59, 0, 0) else none) else (bif Nat.beq pc 57 then some (.iaload, 58, 0, 0) else none))) else (bif Nat.ble 52 pc then (bif Nat.ble 53 pc then (bif Nat.ble 56 pc then (bif Nat.beq pc 56 then some (.dup2, 57, 0, 0) else none) else (bif Nat.beq pc 53 then some (.getfield 7, 56, 100, 12) else none)) else (bif Nat.beq pc 52 then some (.aload_n 0, 53, 0, 0) else none)) else (bif Nat.ble 49 pc then (bif Nat.beq pc 49 then some (.fload 7, 52, 36, 14) else none) else (bif Nat.beq pc 48 then some (.aload_n 0, 49, 0, 0) else none)))) else (bif Nat.ble 41 pc then (bif Nat.ble 45 pc then (bif Nat.ble 46 pc then (bif Nat.ble 47 pc then (bif Nat.beq pc 47 then some (.iastore, 48, 0, 0) else none) else (bif Nat.beq pc 46 then some (.iload_n 2, 47, 0, 0) else none)) else (bif Nat.beq pc 45 then some (.iadd, 46, 0, 0) else none)) else (bif Nat.ble 44 pc then (bif Nat.beq pc 44 then some (.iaload, 45, 0, 0) else none) else (bif Nat.beq pc 41 then some (.getfield 7, 44, 100, 12) else none))) else (bif Nat.ble 37 pc then (bif Nat.ble 40 pc then (bif Nat.beq pc 40 then some (.aload_n 0, 41, 0, 0) else none) else (bif Nat.beq pc 37 then some (.fload 7, 40, 36, 14) else none)) else (bif Nat.ble 36 pc then (bif Nat.beq pc 36 then some (.aload_n 0, 37, 0, 0) else none) else (bif Nat.beq pc 35 then some (.imul, 36, 0, 0) else none))))) else (bif Nat.ble 17 pc then (bif Nat.ble 24 pc then (bif Nat.ble 28 pc then (bif Nat.ble 31 pc then (bif Nat.ble 32 pc then (bif Nat.beq pc 32 then some (.getfield 7, 35, 100, 12) else none) else (bif Nat.beq pc 31 then some (.aload_n 0, 32, 0, 0) else none)) else (bif Nat.beq pc 28 then some (.dload 240, 31, 0, 0) else none)) else (bif Nat.ble 25 pc then (bif Nat.beq pc 25 then some (.fload 7, 28, 42, 16) else none) else (bif Nat.beq pc 24 then some (.aload_n 0, 25, 0, 0) else none))) else (bif Nat.ble 21 pc then (bif Nat.ble 22 pc then (bif Nat.ble 23 pc then (bif Nat.beq pc 23 then some (.iastore, 24, 0, 0) else none) else (bif Nat.beq pc 22 then some (.iload_n 1, 23, 0, 0) else none)) else (bif Nat.beq pc 21 then some (.iadd, 22, 0, 0) else none)) else (bif Nat.ble 20 pc then (bif Nat.beq pc 20 then some (.iaload, 21, 0, 0) else none) else (bif Nat.beq pc 17 then some (.getfield 7, 20, 100, 12) else none)))) else (bif Nat.ble 8 pc then (bif Nat.ble 12 pc then (bif Nat.ble 13 pc then (bif Nat.ble 16 pc then (bif Nat.beq pc 16 then some (.aload_n 0, 17, 0, 0) else none) else (bif Nat.beq pc 13 then some (.fload 7, 16, 36, 14) else none)) else (bif Nat.beq pc 12 then some (.aload_n 0, 13, 0, 0) else none)) else (bif Nat.ble 11 pc then (bif Nat.beq pc 11 then some (.imul, 12, 0, 0) else none) else (bif Nat.beq pc 8 then some (.getfield 7, 11, 100, 12) else none))) else (bif Nat.ble 4 pc then (bif Nat.ble 7 pc then (bif Nat.beq pc 7 then some (.aload_n 0, 8, 0, 0) else none) else (bif Nat.beq pc 4 then some (.dload 240, 7, 0, 0) else none)) else (bif Nat.ble 1 pc then (bif Nat.beq pc 1 then some (.fload 7, 4, 39, 15) else none) else (bif Nat.beq pc 0 then some (.aload_n 0, 1, 0, 0) else none)))))
def mc_99 (pc : Nat) : Option (Instr × Nat × Nat × Nat) := bif Nat.ble 47 pc then (bif Nat.ble 72 pc then (bif Nat.ble 84 pc then (bif Nat.ble 92 pc then (bif Nat.ble 96 pc then (bif Nat.ble 97 pc then (bif Nat.beq pc 97 then some (.ireturn, 98, 0, 0) else none) else (bif Nat.beq pc 96 then some (.dload 0, 97, 0, 0) else none)) else (bif Nat.ble 93 pc then (bif Nat.beq pc 93 then some (.goto 0, 96, 97, 0) else none) else (bif Nat.beq pc 92 then some (.dload 1, 93, 0, 0) else none))) else (bif Nat.ble 87 pc then (bif Nat.ble 89 pc then (bif Nat.beq pc 89 then some (.ifCond .ne 0, 92, 96, 0) else none) else (bif Nat.beq pc 87 then some (.iload 7, 89, 0, 0) else none)) else (bif Nat.beq pc 84 then some (.ifCond .ne 0, 87, 96, 0) else none))) else (bif Nat.ble 78 pc then (bif Nat.ble 79 pc then (bif Nat.ble 82 pc then (bif Nat.beq pc 82 then some (.iload 6, 84, 0, 0) else none) else (bif Nat.beq pc 79 then some (.if_icmp .ne 0, 82, 96, 0) else none)) else (bif Nat.beq pc 78 then some (.dload 3, 79, 0, 0) else none)) else (bif Nat.ble 74 pc then (bif Nat.ble 77 pc then (bif Nat.beq pc 77 then some (.iload_n 1, 78, 0, 0) else none) else (bif Nat.beq pc 74 then some (.ifCond .ne 0, 77, 92, 0) else none)) else (bif Nat.beq pc 72 then some (.iload 7, 74, 0, 0) else none)))) else (bif Nat.ble 59 pc then (bif Nat.ble 64 pc then (bif Nat.ble 67 pc then (bif Nat.ble 69 pc then (bif Nat.beq pc 69 then some (.ifCond .ne 0, 72, 77, 0) else none) else (bif Nat.beq pc 67 then some (.iload 6, 69, 0, 0) else none)) else (bif Nat.beq pc 64 then some (.if_icmp .ne 0, 67, 77, 0) else none)) else (bif Nat.ble 62 pc then (bif Nat.ble 63 pc then (bif Nat.beq pc 63 then some (.dload 2, 64, 0, 0) else none) else (bif Nat.beq pc 62 then some (.iload_n 1, 63, 0, 0) else none)) else (bif Nat.beq pc 59 then some (.ifCond .ne 0, 62, 92, 0) else none))) else (bif Nat.ble 52 pc then (bif Nat.ble 54 pc then (bif Nat.ble 57 pc then (bif Nat.beq pc 57 then some (.iload 7, 59, 0, 0) else none) else (bif Nat.beq pc 54 then some (.ifCond .eq 0, 57, 62, 0) else none)) else (bif Nat.beq pc 52 then some (.iload 6, 54, 0, 0) else none)) else (bif Nat.ble 48 pc then (bif Nat.ble 49 pc then (bif Nat.beq pc 49 then some (.if_icmp .ne 0, 52, 62, 0) else none) else (bif Nat.beq pc 48 then some (.dload 1, 49, 0, 0) else none)) else (bif Nat.beq pc 47 then some (.iload_n 1, 48, 0, 0) else none))))) else (bif Nat.ble 21 pc then (bif Nat.ble 30 pc then (bif Nat.ble 37 pc then (bif Nat.ble 42 pc then (bif Nat.ble 44 pc then (bif Nat.beq pc 44 then some (.ifCond .eq 0, 47, 92, 0) else none) else (bif Nat.beq pc 42 then some (.iload 7, 44, 0, 0) else none)) else (bif Nat.ble 39 pc then (bif Nat.beq pc 39 then some (.ifCond .eq 0, 42, 47, 0) else none) else (bif Nat.beq pc 37 then some (.iload 6, 39, 0, 0) else none))) else (bif Nat.ble 33 pc then (bif Nat.ble 34 pc then (bif Nat.beq pc 34 then some (.ifCond .ne 0, 37, 47, 0) else none) else (bif Nat.beq pc 33 then some (.iload_n 1, 34, 0, 0) else none)) else (bif Nat.beq pc 30 then some (.if_icmp .eq 0, 33, 92, 0) else none))) else (bif Nat.ble 26 pc then (bif Nat.ble 28 pc then (bif Nat.ble 29 pc then (bif Nat.beq pc 29 then some (.dload 4, 30, 0, 0) else none) else (bif Nat.beq pc 28 then some (.iload_n 1, 29, 0, 0) else none)) else (bif Nat.beq pc 26 then some (.istore 7, 28, 0, 0) else none)) else (bif Nat.ble 22 pc then (bif Nat.ble 25 pc then (bif Nat.beq pc 25 then some (.dload 0, 26, 0, 0) else none) else (bif Nat.beq pc 22 then some (.goto 0, 25, 26, 0) else none)) else (bif Nat.beq pc 21 then some (.dload 1, 22, 0, 0) else none)))) else (bif Nat.ble 11 pc then (bif Nat.ble 15 pc then (bif Nat.ble 16 pc then (bif Nat.ble 18 pc then (bif Nat.beq pc 18 then some (.if_icmp .ge 0, 21, 25, 0) else none) else (bif Nat.beq pc 16 then some (.iload 5, 18, 0, 0) else none)) else (bif Nat.beq pc 15 then some (.iadd, 16, 0, 0) else none)) else (bif Nat.ble 13 pc then (bif Nat.ble 14 pc then (bif Nat.beq pc 14 then some (.iload_n 3, 15, 0, 0) else none) else (bif Nat.beq pc 13 then some (.iload_n 2, 14, 0, 0) else none)) else (bif Nat.beq pc 11 then some (.istore 6, 13, 0, 0) else none))) else (bif Nat.ble 6 pc then (bif Nat.ble 7 pc then (bif Nat.ble 10 pc then (bif Nat.beq pc 10 then some (.dload 0, 11, 0, 0) else none) else (bif Nat.beq pc 7 then some (.goto 0, 10, 11, 0) else none)) else (bif Nat.beq pc 6 then some (.dload 1, 7, 0, 0) else none)) else (bif Nat.ble 1 pc then (bif Nat.ble 3 pc then (bif Nat.beq pc 3 then some (.if_icmp .ne 0, 6, 10, 0) else none) else (bif Nat.beq pc 1 then some (.iload 4, 3, 0, 0) else none)) else (bif Nat.beq pc 0 then some (.iload_n 2, 1, 0, 0) else none)))))
def mc_100 (pc : Nat) : Option (Instr × Nat × Nat × Nat) := bif Nat.ble 9 pc then (bif Nat.ble 13 pc then (bif Nat.ble 16 pc then (bif Nat.ble 17 pc then (bif Nat.beq pc 17 then some (.ireturn, 18, 0, 0) else none) else (bif Nat.beq pc 16 then some (.iload_n 1, 17, 0, 0) else none)) else (bif Nat.beq pc 13 then some (.goto 0, 16, 17, 0) else none)) else (bif Nat.ble 11 pc then (bif Nat.ble 12 pc then (bif Nat.beq pc 12 then some (.i2c, 13, 0, 0) else none) else (bif Nat.beq pc 11 then some (.iadd, 12, 0, 0) else none)) else (bif Nat.beq pc 9 then some (.dload 32, 11, 0, 0) else none))) else (bif Nat.ble 2 pc then (bif Nat.ble 5 pc then (bif Nat.ble 8 pc then (bif Nat.beq pc 8 then some (.iload_n 1, 9, 0, 0) else none) else (bif Nat.beq pc 5 then some (.ifCond .eq 0, 8, 16, 0) else none)) else (bif Nat.beq pc 2 then some (.invokevirtual 94, 5, 70, 0) else none)) else (bif Nat.ble 1 pc then (bif Nat.beq pc 1 then some (.iload_n 1, 2, 0, 0) else none) else (bif Nat.beq pc 0 then some (.aload_n 0, 1, 0, 0) else none)))
def mc_101 (pc : Nat) : Option (Instr × Nat × Nat × Nat) := bif Nat.ble 59 pc then (bif Nat.ble 87 pc then (bif Nat.ble 106 pc then (bif Nat.ble 114 pc then (bif Nat.ble 119 pc then (bif Nat.ble 122 pc then (bif Nat.ble 124 pc then (bif Nat.beq pc 124 then some (.ireturn, 125, 0, 0) else none) else (bif Nat.beq pc 122 then some (.iload 7, 124, 0, 0) else none)) else (bif Nat.beq pc 119 then some (.goto 0, 122, 46, 0) else none)) else (bif Nat.ble 116 pc then (bif Nat.beq pc 116 then some (.multianewarray 8 1, 119, 0, 0) else none) else (bif Nat.beq pc 114 then some (.istore 7, 116, 0, 0) else none))) else (bif Nat.ble 110 pc then (bif Nat.ble 113 pc then (bif Nat.beq pc 113 then some (.dload 0, 114, 0, 0) else none) else (bif Nat.beq pc 110 then some (.goto 0, 113, 114, 0) else none)) else (bif Nat.ble 109 pc then (bif Nat.beq pc 109 then some (.dload 1, 110, 0, 0) else none) else (bif Nat.beq pc 106 then some (.ifCond .eq 0, 109, 113, 0) else none)))) else (bif Nat.ble 97 pc then (bif Nat.ble 101 pc then (bif Nat.ble 103 pc then (bif Nat.beq pc 103 then some (.invokevirtual 52, 106, 66, 0) else none) else (bif Nat.beq pc 101 then some (.iload 9, 103, 0, 0) else none)) else (bif Nat.ble 100 pc then (bif Nat.beq pc 100 then some (.aload_n 0, 101, 0, 0) else none) else (bif Nat.beq pc 97 then some (.ifCond .eq 0, 100, 109, 0) else none))) else (bif Nat.ble 92 pc then (bif Nat.ble 95 pc then (bif Nat.beq pc 95 then some (.iload 8, 97, 0, 0) else none) else (bif Nat.beq pc 92 then some (.ifCond .ne 0, 95, 109, 0) else none)) else (bif Nat.ble 90 pc then (bif Nat.beq pc 90 then some (.iload 5, 92, 0, 0) else none) else (bif Nat.beq pc 87 then some (.if_icmp .ne 0, 90, 113, 0) else none))))) else (bif Nat.ble 72 pc then (bif Nat.ble 81 pc then (bif Nat.ble 83 pc then (bif Nat.ble 85 pc then (bif Nat.ble 86 pc then (bif Nat.beq pc 86 then some (.caload, 87, 0, 0) else none) else (bif Nat.beq pc 85 then some (.iadd, 86, 0, 0) else none)) else (bif Nat.beq pc 83 then some (.iload 8, 85, 0, 0) else none)) else (bif Nat.ble 82 pc then (bif Nat.beq pc 82 then some (.imul, 83, 0, 0) else none) else (bif Nat.beq pc 81 then some (.iload_n 1, 82, 0, 0) else none))) else (bif Nat.ble 76 pc then (bif Nat.ble 79 pc then (bif Nat.beq pc 79 then some (.dload 6, 81, 0, 0) else none) else (bif Nat.beq pc 76 then some (.fload 7, 79, 20, 8) else none)) else (bif Nat.ble 75 pc then (bif Nat.beq pc 75 then some (.aload_n 0, 76, 0, 0) else none) else (bif Nat.beq pc 72 then some (.invokevirtual 100, 75, 107, 0) else none)))) else (bif Nat.ble 66 pc then (bif Nat.ble 69 pc then (bif Nat.ble 70 pc then (bif Nat.beq pc 70 then some (.iload 9, 72, 0, 0) else none) else (bif Nat.beq pc 69 then some (.aload_n 0, 70, 0, 0) else none)) else (bif Nat.ble 67 pc then (bif Nat.beq pc 67 then some (.istore 9, 69, 0, 0) else none) else (bif Nat.beq pc 66 then some (.caload, 67, 0, 0) else none))) else (bif Nat.ble 63 pc then (bif Nat.ble 65 pc then (bif Nat.beq pc 65 then some (.iadd, 66, 0, 0) else none) else (bif Nat.beq pc 63 then some (.iload 8, 65, 0, 0) else none)) else (bif Nat.ble 62 pc then (bif Nat.beq pc 62 then some (.iload_n 2, 63, 0, 0) else none) else (bif Nat.beq pc 59 then some (.fload 7, 62, 7, 4) else none)))))) else (bif Nat.ble 25 pc then (bif Nat.ble 41 pc then (bif Nat.ble 48 pc then (bif Nat.ble 53 pc then (bif Nat.ble 55 pc then (bif Nat.ble 58 pc then (bif Nat.beq pc 58 then some (.aload_n 0, 59, 0, 0) else none) else (bif Nat.beq pc 55 then some (.ifCond .eq 0, 58, 122, 0) else none)) else (bif Nat.beq pc 53 then some (.iload 7, 55, 0, 0) else none)) else (bif Nat.ble 50 pc then (bif Nat.beq pc 50 then some (.if_icmp .ge 0, 53, 122, 0) else none) else (bif Nat.beq pc 48 then some (.iload 6, 50, 0, 0) else none))) else (bif Nat.ble 44 pc then (bif Nat.ble 46 pc then (bif Nat.beq pc 46 then some (.iload 8, 48, 0, 0) else none) else (bif Nat.beq pc 44 then some (.istore 8, 46, 0, 0) else none)) else (bif Nat.ble 43 pc then (bif Nat.beq pc 43 then some (.dload 0, 44, 0, 0) else none) else (bif Nat.beq pc 41 then some (.istore 7, 43, 0, 0) else none)))) else (bif Nat.ble 33 pc then (bif Nat.ble 37 pc then (bif Nat.ble 40 pc then (bif Nat.beq pc 40 then some (.dload 0, 41, 0, 0) else none) else (bif Nat.beq pc 37 then some (.goto 0, 40, 41, 0) else none)) else (bif Nat.ble 36 pc then (bif Nat.beq pc 36 then some (.dload 1, 37, 0, 0) else none) else (bif Nat.beq pc 33 then some (.ifCond .eq 0, 36, 40, 0) else none))) else (bif Nat.ble 28 pc then (bif Nat.ble 30 pc then (bif Nat.beq pc 30 then some (.invokevirtual 99, 33, 103, 0) else none) else (bif Nat.beq pc 28 then some (.iload 4, 30, 0, 0) else none)) else (bif Nat.ble 27 pc then (bif Nat.beq pc 27 then some (.iload_n 3, 28, 0, 0) else none) else (bif Nat.beq pc 25 then some (.iload 6, 27, 0, 0) else none))))) else (bif Nat.ble 12 pc then (bif Nat.ble 19 pc then (bif Nat.ble 23 pc then (bif Nat.ble 24 pc then (bif Nat.beq pc 24 then some (.iload_n 2, 25, 0, 0) else none) else (bif Nat.beq pc 23 then some (.iaload, 24, 0, 0) else none)) else (bif Nat.ble 22 pc then (bif Nat.beq pc 22 then some (.iload_n 1, 23, 0, 0) else none) else (bif Nat.beq pc 19 then some (.fload 7, 22, 13, 6) else none))) else (bif Nat.ble 17 pc then (bif Nat.ble 18 pc then (bif Nat.beq pc 18 then some (.aload_n 0, 19, 0, 0) else none) else (bif Nat.beq pc 17 then some (.aload_n 0, 18, 0, 0) else none)) else (bif Nat.ble 14 pc then (bif Nat.beq pc 14 then some (.if_icmp .gt 0, 17, 40, 0) else none) else (bif Nat.beq pc 12 then some (.iload 4, 14, 0, 0) else none)))) else (bif Nat.ble 6 pc then (bif Nat.ble 9 pc then (bif Nat.ble 11 pc then (bif Nat.beq pc 11 then some (.iadd, 12, 0, 0) else none) else (bif Nat.beq pc 9 then some (.iload 6, 11, 0, 0) else none)) else (bif Nat.ble 8 pc then (bif Nat.beq pc 8 then some (.iload_n 2, 9, 0, 0) else none) else (bif Nat.beq pc 6 then some (.istore 6, 8, 0, 0) else none))) else (bif Nat.ble 4 pc then (bif Nat.ble 5 pc then (bif Nat.beq pc 5 then some (.iaload, 6, 0, 0) else none) else (bif Nat.beq pc 4 then some (.iload_n 1, 5, 0, 0) else none)) else (bif Nat.ble 1 pc then (bif Nat.beq pc 1 then some (.fload 7, 4, 17, 7) else none) else (bif Nat.beq pc 0 then some (.aload_n 0, 1, 0, 0) else none))))))
def mc_102 (pc : Nat) : Option (Instr × Nat × Nat × Nat) := bif Nat.ble 158 pc then (bif Nat.ble 179 pc then (bif Nat.ble 189 pc then (bif Nat.ble 195 pc then (bif Nat.ble 197 pc then (bif Nat.ble 200 pc then (bif Nat.beq pc 200 then some (.ireturn, 201, 0, 0) else none) else (bif Nat.beq pc 197 then some (.invokevirtual 97, 200, 73, 0) else none)) else (bif Nat.ble 196 pc then (bif Nat.beq pc 196 then some (.iload_n 1, 197, 0, 0) else none) else (bif Nat.beq pc 195 then some (.aload_n 0, 196, 0, 0) else none))) else (bif Nat.ble 192 pc then (bif Nat.ble 194 pc then (bif Nat.beq pc 194 then some (.ireturn, 195, 0, 0) else none) else (bif Nat.beq pc 192 then some (.dload 53, 194, 0, 0) else none)) else (bif Nat.ble 191 pc then (bif Nat.beq pc 191 then some (.ireturn, 192, 0, 0) else none) else (bif Nat.beq pc 189 then some (.dload 61, 191, 0, 0) else none)))) else (bif Nat.ble 183 pc then (bif Nat.ble 186 pc then (bif Nat.ble 188 pc then (bif Nat.beq pc 188 then some (.ireturn, 189, 0, 0) else none) else (bif Nat.beq pc 186 then some (.dload 45, 188, 0, 0) else none)) else (bif Nat.ble 185 pc then (bif Nat.beq pc 185 then some (.ireturn, 186, 0, 0) else none) else (bif Nat.beq pc 183 then some (.dload 58, 185, 0, 0) else none))) else (bif Nat.ble 180 pc then (bif Nat.ble 182 pc then (bif Nat.beq pc 182 then some (.ireturn, 183, 0, 0) else none) else (bif Nat.beq pc 180 then some (.dload 39, 182, 0, 0) else none)) else (bif Nat.beq pc 179 then some (.ireturn, 180, 0, 0) else none)))) else (bif Nat.ble 168 pc then (bif Nat.ble 173 pc then (bif Nat.ble 176 pc then (bif Nat.ble 177 pc then (bif Nat.beq pc 177 then some (.dload 37, 179, 0, 0) else none) else (bif Nat.beq pc 176 then some (.ireturn, 177, 0, 0) else none)) else (bif Nat.ble 174 pc then (bif Nat.beq pc 174 then some (.dload 30, 176, 0, 0) else none) else (bif Nat.beq pc 173 then some (.ireturn, 174, 0, 0) else none))) else (bif Nat.ble 170 pc then (bif Nat.ble 171 pc then (bif Nat.beq pc 171 then some (.dload 14, 173, 0, 0) else none) else (bif Nat.beq pc 170 then some (.ireturn, 171, 0, 0) else none)) else (bif Nat.beq pc 168 then some (.dload 23, 170, 0, 0) else none))) else (bif Nat.ble 162 pc then (bif Nat.ble 165 pc then (bif Nat.ble 167 pc then (bif Nat.beq pc 167 then some (.ireturn, 168, 0, 0) else none) else (bif Nat.beq pc 165 then some (.dload 31, 167, 0, 0) else none)) else (bif Nat.ble 164 pc then (bif Nat.beq pc 164 then some (.ireturn, 165, 0, 0) else none) else (bif Nat.beq pc 162 then some (.dload 15, 164, 0, 0) else none))) else (bif Nat.ble 159 pc then (bif Nat.ble 161 pc then (bif Nat.beq pc 161 then some (.ireturn, 162, 0, 0) else none) else (bif Nat.beq pc 159 then some (.dload 21, 161, 0, 0) else none)) else (bif Nat.beq pc 158 then some (.ireturn, 159, 0, 0) else none))))) else (bif Nat.ble 136 pc then (bif Nat.ble 147 pc then (bif Nat.ble 152 pc then (bif Nat.ble 155 pc then (bif Nat.ble 156 pc then (bif Nat.beq pc 156 then some (.dload 29, 158, 0, 0) else none) else (bif Nat.beq pc 155 then some (.ireturn, 156, 0, 0) else none)) else (bif Nat.ble 153 pc then (bif Nat.beq pc 153 then some (.dload 13, 155, 0, 0) else none) else (bif Nat.beq pc 152 then some (.ireturn, 153, 0, 0) else none))) else (bif Nat.ble 149 pc then (bif Nat.ble 150 pc then (bif Nat.beq pc 150 then some (.dload 7, 152, 0, 0) else none) else (bif Nat.beq pc 149 then some (.ireturn, 150, 0, 0) else none)) else (bif Nat.ble 148 pc then (bif Nat.beq pc 148 then some (.dload 5, 149, 0, 0) else none) else (bif Nat.beq pc 147 then some (.ireturn, 148, 0, 0) else none)))) else (bif Nat.ble 141 pc then (bif Nat.ble 144 pc then (bif Nat.ble 145 pc then (bif Nat.beq pc 145 then some (.dload 26, 147, 0, 0) else none) else (bif Nat.beq pc 144 then some (.ireturn, 145, 0, 0) else none)) else (bif Nat.ble 142 pc then (bif Nat.beq pc 142 then some (.dload 10, 144, 0, 0) else none) else (bif Nat.beq pc 141 then some (.ireturn, 142, 0, 0) else none))) else (bif Nat.ble 138 pc then (bif Nat.ble 139 pc then (bif Nat.beq pc 139 then some (.dload 19, 141, 0, 0) else none) else (bif Nat.beq pc 138 then some (.ireturn, 139, 0, 0) else none)) else (bif Nat.beq pc 136 then some (.dload 27, 138, 0, 0) else none)))) else (bif Nat.ble 126 pc then (bif Nat.ble 130 pc then (bif Nat.ble 133 pc then (bif Nat.ble 135 pc then (bif Nat.beq pc 135 then some (.ireturn, 136, 0, 0) else none) else (bif Nat.beq pc 133 then some (.dload 11, 135, 0, 0) else none)) else (bif Nat.ble 132 pc then (bif Nat.beq pc 132 then some (.ireturn, 133, 0, 0) else none) else (bif Nat.beq pc 130 then some (.dload 17, 132, 0, 0) else none))) else (bif Nat.ble 127 pc then (bif Nat.ble 129 pc then (bif Nat.beq pc 129 then some (.ireturn, 130, 0, 0) else none) else (bif Nat.beq pc 127 then some (.dload 25, 129, 0, 0) else none)) else (bif Nat.beq pc 126 then some (.ireturn, 127, 0, 0) else none))) else (bif Nat.ble 121 pc then (bif Nat.ble 123 pc then (bif Nat.ble 124 pc then (bif Nat.beq pc 124 then some (.dload 9, 126, 0, 0) else none) else (bif Nat.beq pc 123 then some (.ireturn, 124, 0, 0) else none)) else (bif Nat.ble 122 pc then (bif Nat.beq pc 122 then some (.dload 3, 123, 0, 0) else none) else (bif Nat.beq pc 121 then some (.ireturn, 122, 0, 0) else none))) else (bif Nat.ble 1 pc then (bif Nat.ble 120 pc then (bif Nat.beq pc 120 then some (.dload 1, 121, 0, 0) else none) else (bif Nat.beq pc 1 then some (.tableswitch 195 97 122 #[120, 122, 124, 127, 130, 133, 136, 139, 142, 145, 148, 150, 153, 156, 159, 162, 165, 168, 171, 174, 177, 180, 183, 186, 189, 192], 120, 0, 0) else none)) else (bif Nat.beq pc 0 then some (.iload_n 1, 1, 0, 0) else none)))))
def mc_103 (pc : Nat) : Option (Instr × Nat × Nat × Nat) := bif Nat.ble 148 pc then (bif Nat.ble 225 pc then (bif Nat.ble 266 pc then (bif Nat.ble 285 pc then (bif Nat.ble 296 pc then (bif Nat.ble 298 pc then (bif Nat.ble 300 pc then (bif Nat.ble 303 pc then (bif Nat.beq pc 303 then some (.return_, 304, 0, 0) else none) else (bif Nat.beq pc 300 then some (.goto 0, 303, 73, 0) else none)) else (bif Nat.beq pc 298 then some (.istore 4, 300, 0, 0) else none)) else (bif Nat.ble 297 pc then (bif Nat.beq pc 297 then some (.iadd, 298, 0, 0) else none) else (bif Nat.beq pc 296 then some (.iaload, 297, 0, 0) else none))) else (bif Nat.ble 290 pc then (bif Nat.ble 291 pc then (bif Nat.ble 294 pc then (bif Nat.beq pc 294 then some (.iload 5, 296, 0, 0) else none) else (bif Nat.beq pc 291 then some (.fload 7, 294, 17, 7) else none)) else (bif Nat.beq pc 290 then some (.aload_n 0, 291, 0, 0) else none)) else (bif Nat.ble 288 pc then (bif Nat.beq pc 288 then some (.iload 4, 290, 0, 0) else none) else (bif Nat.beq pc 285 then some (.goto 0, 288, 252, 0) else none)))) else (bif Nat.ble 275 pc then (bif Nat.ble 277 pc then (bif Nat.ble 279 pc then (bif Nat.ble 282 pc then (bif Nat.beq pc 282 then some (.multianewarray 6 1, 285, 0, 0) else none) else (bif Nat.beq pc 279 then some (.invokevirtual 98, 282, 111, 0) else none)) else (bif Nat.beq pc 277 then some (.iload 4, 279, 0, 0) else none)) else (bif Nat.ble 276 pc then (bif Nat.beq pc 276 then some (.iaload, 277, 0, 0) else none) else (bif Nat.beq pc 275 then some (.iadd, 276, 0, 0) else none))) else (bif Nat.ble 270 pc then (bif Nat.ble 272 pc then (bif Nat.ble 273 pc then (bif Nat.beq pc 273 then some (.iload 6, 275, 0, 0) else none) else (bif Nat.beq pc 272 then some (.imul, 273, 0, 0) else none)) else (bif Nat.beq pc 270 then some (.iload 5, 272, 0, 0) else none)) else (bif Nat.ble 269 pc then (bif Nat.beq pc 269 then some (.dload 3, 270, 0, 0) else none) else (bif Nat.beq pc 266 then some (.fload 7, 269, 26, 10) else none))))) else (bif Nat.ble 249 pc then (bif Nat.ble 258 pc then (bif Nat.ble 261 pc then (bif Nat.ble 264 pc then (bif Nat.ble 265 pc then (bif Nat.beq pc 265 then some (.aload_n 0, 266, 0, 0) else none) else (bif Nat.beq pc 264 then some (.aload_n 0, 265, 0, 0) else none)) else (bif Nat.beq pc 261 then some (.if_icmp .ge 0, 264, 288, 0) else none)) else (bif Nat.ble 260 pc then (bif Nat.beq pc 260 then some (.iaload, 261, 0, 0) else none) else (bif Nat.beq pc 258 then some (.iload 5, 260, 0, 0) else none))) else (bif Nat.ble 252 pc then (bif Nat.ble 254 pc then (bif Nat.ble 255 pc then (bif Nat.beq pc 255 then some (.fload 7, 258, 23, 9) else none) else (bif Nat.beq pc 254 then some (.aload_n 0, 255, 0, 0) else none)) else (bif Nat.beq pc 252 then some (.iload 6, 254, 0, 0) else none)) else (bif Nat.ble 250 pc then (bif Nat.beq pc 250 then some (.istore 6, 252, 0, 0) else none) else (bif Nat.beq pc 249 then some (.dload 0, 250, 0, 0) else none)))) else (bif Nat.ble 235 pc then (bif Nat.ble 240 pc then (bif Nat.ble 243 pc then (bif Nat.ble 246 pc then (bif Nat.beq pc 246 then some (.goto 0, 249, 300, 0) else none) else (bif Nat.beq pc 243 then some (.multianewarray 4 1, 246, 0, 0) else none)) else (bif Nat.beq pc 240 then some (.invokevirtual 98, 243, 111, 0) else none)) else (bif Nat.ble 238 pc then (bif Nat.beq pc 238 then some (.iload 4, 240, 0, 0) else none) else (bif Nat.beq pc 235 then some (.invokevirtual 102, 238, 77, 0) else none))) else (bif Nat.ble 229 pc then (bif Nat.ble 231 pc then (bif Nat.ble 232 pc then (bif Nat.beq pc 232 then some (.invokevirtual 100, 235, 107, 0) else none) else (bif Nat.beq pc 231 then some (.caload, 232, 0, 0) else none)) else (bif Nat.beq pc 229 then some (.iload 4, 231, 0, 0) else none)) else (bif Nat.ble 226 pc then (bif Nat.beq pc 226 then some (.fload 7, 229, 7, 4) else none) else (bif Nat.beq pc 225 then some (.aload_n 0, 226, 0, 0) else none)))))) else (bif Nat.ble 185 pc then (bif Nat.ble 204 pc then (bif Nat.ble 217 pc then (bif Nat.ble 222 pc then (bif Nat.ble 223 pc then (bif Nat.ble 224 pc then (bif Nat.beq pc 224 then some (.aload_n 0, 225, 0, 0) else none) else (bif Nat.beq pc 223 then some (.aload_n 0, 224, 0, 0) else none)) else (bif Nat.beq pc 222 then some (.aload_n 0, 223, 0, 0) else none)) else (bif Nat.ble 219 pc then (bif Nat.beq pc 219 then some (.ifCond .ge 0, 222, 249, 0) else none) else (bif Nat.beq pc 217 then some (.iload 5, 219, 0, 0) else none))) else (bif Nat.ble 209 pc then (bif Nat.ble 211 pc then (bif Nat.ble 214 pc then (bif Nat.beq pc 214 then some (.goto 0, 217, 111, 0) else none) else (bif Nat.beq pc 211 then some (.multianewarray 6 1, 214, 0, 0) else none)) else (bif Nat.beq pc 209 then some (.istore 5, 211, 0, 0) else none)) else (bif Nat.ble 207 pc then (bif Nat.beq pc 207 then some (.iload 5, 209, 0, 0) else none) else (bif Nat.beq pc 204 then some (.goto 0, 207, 209, 0) else none)))) else (bif Nat.ble 194 pc then (bif Nat.ble 196 pc then (bif Nat.ble 199 pc then (bif Nat.ble 202 pc then (bif Nat.beq pc 202 then some (.iload 6, 204, 0, 0) else none) else (bif Nat.beq pc 199 then some (.ifCond .eq 0, 202, 207, 0) else none)) else (bif Nat.beq pc 196 then some (.invokevirtual 101, 199, 115, 0) else none)) else (bif Nat.ble 195 pc then (bif Nat.beq pc 195 then some (.iload_n 3, 196, 0, 0) else none) else (bif Nat.beq pc 194 then some (.iload_n 2, 195, 0, 0) else none))) else (bif Nat.ble 189 pc then (bif Nat.ble 191 pc then (bif Nat.ble 193 pc then (bif Nat.beq pc 193 then some (.iload_n 1, 194, 0, 0) else none) else (bif Nat.beq pc 191 then some (.iload 4, 193, 0, 0) else none)) else (bif Nat.beq pc 189 then some (.iload 6, 191, 0, 0) else none)) else (bif Nat.ble 188 pc then (bif Nat.beq pc 188 then some (.aload_n 0, 189, 0, 0) else none) else (bif Nat.beq pc 185 then some (.ifCond .eq 0, 188, 207, 0) else none))))) else (bif Nat.ble 166 pc then (bif Nat.ble 176 pc then (bif Nat.ble 180 pc then (bif Nat.ble 181 pc then (bif Nat.ble 183 pc then (bif Nat.beq pc 183 then some (.iload 7, 185, 0, 0) else none) else (bif Nat.beq pc 181 then some (.istore 7, 183, 0, 0) else none)) else (bif Nat.beq pc 180 then some (.dload 0, 181, 0, 0) else none)) else (bif Nat.ble 177 pc then (bif Nat.beq pc 177 then some (.goto 0, 180, 181, 0) else none) else (bif Nat.beq pc 176 then some (.dload 1, 177, 0, 0) else none))) else (bif Nat.ble 170 pc then (bif Nat.ble 172 pc then (bif Nat.ble 173 pc then (bif Nat.beq pc 173 then some (.if_icmp .ge 0, 176, 180, 0) else none) else (bif Nat.beq pc 172 then some (.iaload, 173, 0, 0) else none)) else (bif Nat.beq pc 170 then some (.iload 5, 172, 0, 0) else none)) else (bif Nat.ble 167 pc then (bif Nat.beq pc 167 then some (.fload 7, 170, 13, 6) else none) else (bif Nat.beq pc 166 then some (.aload_n 0, 167, 0, 0) else none)))) else (bif Nat.ble 156 pc then (bif Nat.ble 160 pc then (bif Nat.ble 163 pc then (bif Nat.ble 165 pc then (bif Nat.beq pc 165 then some (.iaload, 166, 0, 0) else none) else (bif Nat.beq pc 163 then some (.iload 6, 165, 0, 0) else none)) else (bif Nat.beq pc 160 then some (.fload 7, 163, 13, 6) else none)) else (bif Nat.ble 159 pc then (bif Nat.beq pc 159 then some (.aload_n 0, 160, 0, 0) else none) else (bif Nat.beq pc 156 then some (.if_icmp .ne 0, 159, 180, 0) else none))) else (bif Nat.ble 150 pc then (bif Nat.ble 153 pc then (bif Nat.ble 155 pc then (bif Nat.beq pc 155 then some (.iaload, 156, 0, 0) else none) else (bif Nat.beq pc 153 then some (.iload 5, 155, 0, 0) else none)) else (bif Nat.beq pc 150 then some (.fload 7, 153, 17, 7) else none)) else (bif Nat.ble 149 pc then (bif Nat.beq pc 149 then some (.aload_n 0, 150, 0, 0) else none) else (bif Nat.beq pc 148 then some (.iaload, 149, 0, 0) else none))))))) else (bif Nat.ble 70 pc then (bif Nat.ble 108 pc then (bif Nat.ble 129 pc then (bif Nat.ble 138 pc then (bif Nat.ble 142 pc then (bif Nat.ble 143 pc then (bif Nat.ble 146 pc then (bif Nat.beq pc 146 then some (.iload 6, 148, 0, 0) else none) else (bif Nat.beq pc 143 then some (.fload 7, 146, 17, 7) else none)) else (bif Nat.beq pc 142 then some (.aload_n 0, 143, 0, 0) else none)) else (bif Nat.ble 139 pc then (bif Nat.beq pc 139 then some (.if_icmp .gt 0, 142, 176, 0) else none) else (bif Nat.beq pc 138 then some (.iaload, 139, 0, 0) else none))) else (bif Nat.ble 132 pc then (bif Nat.ble 133 pc then (bif Nat.ble 136 pc then (bif Nat.beq pc 136 then some (.iload 5, 138, 0, 0) else none) else (bif Nat.beq pc 133 then some (.fload 7, 136, 17, 7) else none)) else (bif Nat.beq pc 132 then some (.aload_n 0, 133, 0, 0) else none)) else (bif Nat.ble 131 pc then (bif Nat.beq pc 131 then some (.iaload, 132, 0, 0) else none) else (bif Nat.beq pc 129 then some (.iload 6, 131, 0, 0) else none)))) else (bif Nat.ble 117 pc then (bif Nat.ble 122 pc then (bif Nat.ble 125 pc then (bif Nat.ble 126 pc then (bif Nat.beq pc 126 then some (.fload 7, 129, 17, 7) else none) else (bif Nat.beq pc 125 then some (.aload_n 0, 126, 0, 0) else none)) else (bif Nat.beq pc 122 then some (.ifCond .lt 0, 125, 176, 0) else none)) else (bif Nat.ble 120 pc then (bif Nat.beq pc 120 then some (.iload 5, 122, 0, 0) else none) else (bif Nat.beq pc 117 then some (.if_icmp .ge 0, 120, 217, 0) else none))) else (bif Nat.ble 111 pc then (bif Nat.ble 113 pc then (bif Nat.ble 114 pc then (bif Nat.beq pc 114 then some (.getfield 7, 117, 83, 5) else none) else (bif Nat.beq pc 113 then some (.aload_n 0, 114, 0, 0) else none)) else (bif Nat.beq pc 111 then some (.iload 6, 113, 0, 0) else none)) else (bif Nat.ble 109 pc then (bif Nat.beq pc 109 then some (.istore 6, 111, 0, 0) else none) else (bif Nat.beq pc 108 then some (.dload 0, 109, 0, 0) else none))))) else (bif Nat.ble 88 pc then (bif Nat.ble 98 pc then (bif Nat.ble 102 pc then (bif Nat.ble 105 pc then (bif Nat.ble 106 pc then (bif Nat.beq pc 106 then some (.istore 5, 108, 0, 0) else none) else (bif Nat.beq pc 105 then some (.dstore 1, 106, 0, 0) else none)) else (bif Nat.beq pc 102 then some (.invokevirtual 98, 105, 111, 0) else none)) else (bif Nat.ble 100 pc then (bif Nat.beq pc 100 then some (.iload 4, 102, 0, 0) else none) else (bif Nat.beq pc 98 then some (.dload 32, 100, 0, 0) else none))) else (bif Nat.ble 91 pc then (bif Nat.ble 94 pc then (bif Nat.ble 97 pc then (bif Nat.beq pc 97 then some (.aload_n 0, 98, 0, 0) else none) else (bif Nat.beq pc 94 then some (.ifCond .eq 0, 97, 105, 0) else none)) else (bif Nat.beq pc 91 then some (.invokevirtual 94, 94, 70, 0) else none)) else (bif Nat.ble 90 pc then (bif Nat.beq pc 90 then some (.caload, 91, 0, 0) else none) else (bif Nat.beq pc 88 then some (.iload 4, 90, 0, 0) else none)))) else (bif Nat.ble 79 pc then (bif Nat.ble 83 pc then (bif Nat.ble 84 pc then (bif Nat.ble 85 pc then (bif Nat.beq pc 85 then some (.fload 7, 88, 7, 4) else none) else (bif Nat.beq pc 84 then some (.aload_n 0, 85, 0, 0) else none)) else (bif Nat.beq pc 83 then some (.aload_n 0, 84, 0, 0) else none)) else (bif Nat.ble 80 pc then (bif Nat.beq pc 80 then some (.ifCond .ne 0, 83, 105, 0) else none) else (bif Nat.beq pc 79 then some (.iload_n 3, 80, 0, 0) else none))) else (bif Nat.ble 73 pc then (bif Nat.ble 75 pc then (bif Nat.ble 76 pc then (bif Nat.beq pc 76 then some (.if_icmp .ge 0, 79, 303, 0) else none) else (bif Nat.beq pc 75 then some (.iload_n 2, 76, 0, 0) else none)) else (bif Nat.beq pc 73 then some (.iload 4, 75, 0, 0) else none)) else (bif Nat.ble 71 pc then (bif Nat.beq pc 71 then some (.istore 4, 73, 0, 0) else none) else (bif Nat.beq pc 70 then some (.iload_n 1, 71, 0, 0) else none)))))) else (bif Nat.ble 31 pc then (bif Nat.ble 52 pc then (bif Nat.ble 60 pc then (bif Nat.ble 64 pc then (bif Nat.ble 66 pc then (bif Nat.ble 67 pc then (bif Nat.beq pc 67 then some (.invokevirtual 98, 70, 111, 0) else none) else (bif Nat.beq pc 66 then some (.iload_n 1, 67, 0, 0) else none)) else (bif Nat.beq pc 64 then some (.dload 32, 66, 0, 0) else none)) else (bif Nat.ble 63 pc then (bif Nat.beq pc 63 then some (.aload_n 0, 64, 0, 0) else none) else (bif Nat.beq pc 60 then some (.invokevirtual 98, 63, 111, 0) else none))) else (bif Nat.ble 56 pc then (bif Nat.ble 57 pc then (bif Nat.ble 59 pc then (bif Nat.beq pc 59 then some (.iload_n 1, 60, 0, 0) else none) else (bif Nat.beq pc 57 then some (.dload 32, 59, 0, 0) else none)) else (bif Nat.beq pc 56 then some (.aload_n 0, 57, 0, 0) else none)) else (bif Nat.ble 53 pc then (bif Nat.beq pc 53 then some (.ifCond .eq 0, 56, 70, 0) else none) else (bif Nat.beq pc 52 then some (.iload_n 3, 53, 0, 0) else none)))) else (bif Nat.ble 41 pc then (bif Nat.ble 45 pc then (bif Nat.ble 46 pc then (bif Nat.ble 49 pc then (bif Nat.beq pc 49 then some (.goto 0, 52, 16, 0) else none) else (bif Nat.beq pc 46 then some (.multianewarray 4 1, 49, 0, 0) else none)) else (bif Nat.beq pc 45 then some (.istore_n 3, 46, 0, 0) else none)) else (bif Nat.ble 44 pc then (bif Nat.beq pc 44 then some (.dload 0, 45, 0, 0) else none) else (bif Nat.beq pc 41 then some (.goto 0, 44, 45, 0) else none))) else (bif Nat.ble 34 pc then (bif Nat.ble 37 pc then (bif Nat.ble 40 pc then (bif Nat.beq pc 40 then some (.dload 1, 41, 0, 0) else none) else (bif Nat.beq pc 37 then some (.ifCond .eq 0, 40, 44, 0) else none)) else (bif Nat.beq pc 34 then some (.invokevirtual 94, 37, 70, 0) else none)) else (bif Nat.ble 33 pc then (bif Nat.beq pc 33 then some (.caload, 34, 0, 0) else none) else (bif Nat.beq pc 31 then some (.iload 4, 33, 0, 0) else none))))) else (bif Nat.ble 13 pc then (bif Nat.ble 22 pc then (bif Nat.ble 26 pc then (bif Nat.ble 27 pc then (bif Nat.ble 28 pc then (bif Nat.beq pc 28 then some (.fload 7, 31, 7, 4) else none) else (bif Nat.beq pc 27 then some (.aload_n 0, 28, 0, 0) else none)) else (bif Nat.beq pc 26 then some (.aload_n 0, 27, 0, 0) else none)) else (bif Nat.ble 23 pc then (bif Nat.beq pc 23 then some (.ifCond .eq 0, 26, 44, 0) else none) else (bif Nat.beq pc 22 then some (.iload_n 3, 23, 0, 0) else none))) else (bif Nat.ble 16 pc then (bif Nat.ble 18 pc then (bif Nat.ble 19 pc then (bif Nat.beq pc 19 then some (.if_icmp .ge 0, 22, 52, 0) else none) else (bif Nat.beq pc 18 then some (.iload_n 2, 19, 0, 0) else none)) else (bif Nat.beq pc 16 then some (.iload 4, 18, 0, 0) else none)) else (bif Nat.ble 14 pc then (bif Nat.beq pc 14 then some (.istore 4, 16, 0, 0) else none) else (bif Nat.beq pc 13 then some (.iload_n 1, 14, 0, 0) else none)))) else (bif Nat.ble 4 pc then (bif Nat.ble 8 pc then (bif Nat.ble 11 pc then (bif Nat.ble 12 pc then (bif Nat.beq pc 12 then some (.istore_n 3, 13, 0, 0) else none) else (bif Nat.beq pc 11 then some (.dload 0, 12, 0, 0) else none)) else (bif Nat.beq pc 8 then some (.goto 0, 11, 12, 0) else none)) else (bif Nat.ble 7 pc then (bif Nat.beq pc 7 then some (.dload 1, 8, 0, 0) else none) else (bif Nat.beq pc 4 then some (.if_icmp .le 0, 7, 11, 0) else none))) else (bif Nat.ble 2 pc then (bif Nat.ble 3 pc then (bif Nat.beq pc 3 then some (.dload 1, 4, 0, 0) else none) else (bif Nat.beq pc 2 then some (.isub, 3, 0, 0) else none)) else (bif Nat.ble 1 pc then (bif Nat.beq pc 1 then some (.iload_n 1, 2, 0, 0) else none) else (bif Nat.beq pc 0 then some (.iload_n 2, 1, 0, 0) else none)))))))
def mc_104 (pc : Nat) : Option (Instr × Nat × Nat × Nat) := bif Nat.ble 12 pc then (bif Nat.ble 15 pc then (bif Nat.ble 17 pc then (bif Nat.ble 20 pc then (bif Nat.beq pc 20 then some (.ireturn, 21, 0, 0) else none) else (bif Nat.beq pc 17 then some (.invokevirtual 102, 20, 77, 0) else none)) else (bif Nat.ble 16 pc then (bif Nat.beq pc 16 then some (.i2c, 17, 0, 0) else none) else (bif Nat.beq pc 15 then some (.isub, 16, 0, 0) else none))) else (bif Nat.ble 13 pc then (bif Nat.ble 14 pc then (bif Nat.beq pc 14 then some (.dload 1, 15, 0, 0) else none) else (bif Nat.beq pc 13 then some (.iadd, 14, 0, 0) else none)) else (bif Nat.beq pc 12 then some (.iload_n 1, 13, 0, 0) else none))) else (bif Nat.ble 5 pc then (bif Nat.ble 7 pc then (bif Nat.ble 10 pc then (bif Nat.beq pc 10 then some (.dload 97, 12, 0, 0) else none) else (bif Nat.beq pc 7 then some (.goto 0, 10, 16, 0) else none)) else (bif Nat.beq pc 5 then some (.dload 106, 7, 0, 0) else none)) else (bif Nat.ble 1 pc then (bif Nat.ble 2 pc then (bif Nat.beq pc 2 then some (.ifCond .ne 0, 5, 10, 0) else none) else (bif Nat.beq pc 1 then some (.iload_n 1, 2, 0, 0) else none)) else (bif Nat.beq pc 0 then some (.aload_n 0, 1, 0, 0) else none)))
def mc_105 (pc : Nat) : Option (Instr × Nat × Nat × Nat) := bif Nat.ble 98 pc then (bif Nat.ble 151 pc then (bif Nat.ble 178 pc then (bif Nat.ble 190 pc then (bif Nat.ble 198 pc then (bif Nat.ble 200 pc then (bif Nat.ble 203 pc then (bif Nat.beq pc 203 then some (.return_, 204, 0, 0) else none) else (bif Nat.beq pc 200 then some (.goto 0, 203, 2, 0) else none)) else (bif Nat.ble 199 pc then (bif Nat.beq pc 199 then some (.istore_n 1, 200, 0, 0) else none) else (bif Nat.beq pc 198 then some (.iload_n 2, 199, 0, 0) else none))) else (bif Nat.ble 194 pc then (bif Nat.ble 195 pc then (bif Nat.beq pc 195 then some (.invokevirtual 98, 198, 111, 0) else none) else (bif Nat.beq pc 194 then some (.iload_n 1, 195, 0, 0) else none)) else (bif Nat.ble 191 pc then (bif Nat.beq pc 191 then some (.invokevirtual 97, 194, 73, 0) else none) else (bif Nat.beq pc 190 then some (.iload_n 3, 191, 0, 0) else none)))) else (bif Nat.ble 182 pc then (bif Nat.ble 186 pc then (bif Nat.ble 189 pc then (bif Nat.beq pc 189 then some (.aload_n 0, 190, 0, 0) else none) else (bif Nat.beq pc 186 then some (.goto 0, 189, 194, 0) else none)) else (bif Nat.ble 185 pc then (bif Nat.beq pc 185 then some (.dload 0, 186, 0, 0) else none) else (bif Nat.beq pc 182 then some (.if_icmp .ne 0, 185, 189, 0) else none))) else (bif Nat.ble 179 pc then (bif Nat.ble 180 pc then (bif Nat.beq pc 180 then some (.dload 32, 182, 0, 0) else none) else (bif Nat.beq pc 179 then some (.iload_n 3, 180, 0, 0) else none)) else (bif Nat.beq pc 178 then some (.aload_n 0, 179, 0, 0) else none)))) else (bif Nat.ble 163 pc then (bif Nat.ble 169 pc then (bif Nat.ble 172 pc then (bif Nat.ble 175 pc then (bif Nat.beq pc 175 then some (.goto 0, 178, 198, 0) else none) else (bif Nat.beq pc 172 then some (.invokevirtual 98, 175, 111, 0) else none)) else (bif Nat.ble 171 pc then (bif Nat.beq pc 171 then some (.iload_n 2, 172, 0, 0) else none) else (bif Nat.beq pc 169 then some (.dload 48, 171, 0, 0) else none))) else (bif Nat.ble 165 pc then (bif Nat.ble 168 pc then (bif Nat.beq pc 168 then some (.aload_n 0, 169, 0, 0) else none) else (bif Nat.beq pc 165 then some (.if_icmp .gt 0, 168, 198, 0) else none)) else (bif Nat.beq pc 163 then some (.dload 106, 165, 0, 0) else none))) else (bif Nat.ble 157 pc then (bif Nat.ble 161 pc then (bif Nat.ble 162 pc then (bif Nat.beq pc 162 then some (.caload, 163, 0, 0) else none) else (bif Nat.beq pc 161 then some (.iload_n 2, 162, 0, 0) else none)) else (bif Nat.ble 158 pc then (bif Nat.beq pc 158 then some (.fload 7, 161, 7, 4) else none) else (bif Nat.beq pc 157 then some (.aload_n 0, 158, 0, 0) else none))) else (bif Nat.ble 152 pc then (bif Nat.ble 154 pc then (bif Nat.beq pc 154 then some (.if_icmp .lt 0, 157, 198, 0) else none) else (bif Nat.beq pc 152 then some (.dload 97, 154, 0, 0) else none)) else (bif Nat.beq pc 151 then some (.caload, 152, 0, 0) else none))))) else (bif Nat.ble 122 pc then (bif Nat.ble 138 pc then (bif Nat.ble 143 pc then (bif Nat.ble 147 pc then (bif Nat.ble 150 pc then (bif Nat.beq pc 150 then some (.iload_n 2, 151, 0, 0) else none) else (bif Nat.beq pc 147 then some (.fload 7, 150, 7, 4) else none)) else (bif Nat.ble 146 pc then (bif Nat.beq pc 146 then some (.aload_n 0, 147, 0, 0) else none) else (bif Nat.beq pc 143 then some (.if_icmp .ge 0, 146, 198, 0) else none))) else (bif Nat.ble 139 pc then (bif Nat.ble 140 pc then (bif Nat.beq pc 140 then some (.getfield 7, 143, 80, 3) else none) else (bif Nat.beq pc 139 then some (.aload_n 0, 140, 0, 0) else none)) else (bif Nat.beq pc 138 then some (.iload_n 2, 139, 0, 0) else none))) else (bif Nat.ble 128 pc then (bif Nat.ble 132 pc then (bif Nat.ble 135 pc then (bif Nat.beq pc 135 then some (.goto 0, 138, 93, 0) else none) else (bif Nat.beq pc 132 then some (.multianewarray 2 1, 135, 0, 0) else none)) else (bif Nat.ble 129 pc then (bif Nat.beq pc 129 then some (.invokevirtual 98, 132, 111, 0) else none) else (bif Nat.beq pc 128 then some (.iload_n 2, 129, 0, 0) else none))) else (bif Nat.ble 124 pc then (bif Nat.ble 125 pc then (bif Nat.beq pc 125 then some (.invokevirtual 104, 128, 128, 0) else none) else (bif Nat.beq pc 124 then some (.isub, 125, 0, 0) else none)) else (bif Nat.beq pc 122 then some (.dload 48, 124, 0, 0) else none)))) else (bif Nat.ble 111 pc then (bif Nat.ble 116 pc then (bif Nat.ble 120 pc then (bif Nat.ble 121 pc then (bif Nat.beq pc 121 then some (.caload, 122, 0, 0) else none) else (bif Nat.beq pc 120 then some (.iload_n 2, 121, 0, 0) else none)) else (bif Nat.ble 117 pc then (bif Nat.beq pc 117 then some (.fload 7, 120, 7, 4) else none) else (bif Nat.beq pc 116 then some (.aload_n 0, 117, 0, 0) else none))) else (bif Nat.ble 114 pc then (bif Nat.ble 115 pc then (bif Nat.beq pc 115 then some (.aload_n 0, 116, 0, 0) else none) else (bif Nat.beq pc 114 then some (.aload_n 0, 115, 0, 0) else none)) else (bif Nat.beq pc 111 then some (.ifCond .eq 0, 114, 138, 0) else none))) else (bif Nat.ble 103 pc then (bif Nat.ble 107 pc then (bif Nat.ble 108 pc then (bif Nat.beq pc 108 then some (.invokevirtual 96, 111, 125, 0) else none) else (bif Nat.beq pc 107 then some (.caload, 108, 0, 0) else none)) else (bif Nat.ble 106 pc then (bif Nat.beq pc 106 then some (.iload_n 2, 107, 0, 0) else none) else (bif Nat.beq pc 103 then some (.fload 7, 106, 7, 4) else none))) else (bif Nat.ble 101 pc then (bif Nat.ble 102 pc then (bif Nat.beq pc 102 then some (.aload_n 0, 103, 0, 0) else none) else (bif Nat.beq pc 101 then some (.aload_n 0, 102, 0, 0) else none)) else (bif Nat.beq pc 98 then some (.if_icmp .ge 0, 101, 138, 0) else none)))))) else (bif Nat.ble 44 pc then (bif Nat.ble 74 pc then (bif Nat.ble 85 pc then (bif Nat.ble 90 pc then (bif Nat.ble 94 pc then (bif Nat.ble 95 pc then (bif Nat.beq pc 95 then some (.getfield 7, 98, 80, 3) else none) else (bif Nat.beq pc 94 then some (.aload_n 0, 95, 0, 0) else none)) else (bif Nat.ble 93 pc then (bif Nat.beq pc 93 then some (.iload_n 2, 94, 0, 0) else none) else (bif Nat.beq pc 90 then some (.invokevirtual 98, 93, 111, 0) else none))) else (bif Nat.ble 86 pc then (bif Nat.ble 89 pc then (bif Nat.beq pc 89 then some (.iload_n 1, 90, 0, 0) else none) else (bif Nat.beq pc 86 then some (.invokevirtual 104, 89, 128, 0) else none)) else (bif Nat.beq pc 85 then some (.isub, 86, 0, 0) else none))) else (bif Nat.ble 80 pc then (bif Nat.ble 82 pc then (bif Nat.ble 83 pc then (bif Nat.beq pc 83 then some (.dload 48, 85, 0, 0) else none) else (bif Nat.beq pc 82 then some (.iload_n 3, 83, 0, 0) else none)) else (bif Nat.ble 81 pc then (bif Nat.beq pc 81 then some (.aload_n 0, 82, 0, 0) else none) else (bif Nat.beq pc 80 then some (.aload_n 0, 81, 0, 0) else none))) else (bif Nat.ble 76 pc then (bif Nat.ble 77 pc then (bif Nat.beq pc 77 then some (.invokevirtual 98, 80, 111, 0) else none) else (bif Nat.beq pc 76 then some (.iload_n 1, 77, 0, 0) else none)) else (bif Nat.beq pc 74 then some (.dload 60, 76, 0, 0) else none)))) else (bif Nat.ble 59 pc then (bif Nat.ble 66 pc then (bif Nat.ble 70 pc then (bif Nat.ble 73 pc then (bif Nat.beq pc 73 then some (.aload_n 0, 74, 0, 0) else none) else (bif Nat.beq pc 70 then some (.ifCond .eq 0, 73, 178, 0) else none)) else (bif Nat.ble 67 pc then (bif Nat.beq pc 67 then some (.invokevirtual 96, 70, 125, 0) else none) else (bif Nat.beq pc 66 then some (.iload_n 3, 67, 0, 0) else none))) else (bif Nat.ble 62 pc then (bif Nat.ble 65 pc then (bif Nat.beq pc 65 then some (.aload_n 0, 66, 0, 0) else none) else (bif Nat.beq pc 62 then some (.goto 0, 65, 198, 0) else none)) else (bif Nat.beq pc 59 then some (.invokevirtual 103, 62, 122, 0) else none))) else (bif Nat.ble 53 pc then (bif Nat.ble 57 pc then (bif Nat.ble 58 pc then (bif Nat.beq pc 58 then some (.iload_n 2, 59, 0, 0) else none) else (bif Nat.beq pc 57 then some (.iload_n 1, 58, 0, 0) else none)) else (bif Nat.ble 56 pc then (bif Nat.beq pc 56 then some (.aload_n 0, 57, 0, 0) else none) else (bif Nat.beq pc 53 then some (.goto 0, 56, 29, 0) else none))) else (bif Nat.ble 47 pc then (bif Nat.ble 50 pc then (bif Nat.beq pc 50 then some (.multianewarray 2 1, 53, 0, 0) else none) else (bif Nat.beq pc 47 then some (.ifCond .eq 0, 50, 56, 0) else none)) else (bif Nat.beq pc 44 then some (.invokevirtual 95, 47, 119, 0) else none))))) else (bif Nat.ble 20 pc then (bif Nat.ble 31 pc then (bif Nat.ble 38 pc then (bif Nat.ble 42 pc then (bif Nat.ble 43 pc then (bif Nat.beq pc 43 then some (.caload, 44, 0, 0) else none) else (bif Nat.beq pc 42 then some (.iload_n 2, 43, 0, 0) else none)) else (bif Nat.ble 39 pc then (bif Nat.beq pc 39 then some (.fload 7, 42, 7, 4) else none) else (bif Nat.beq pc 38 then some (.aload_n 0, 39, 0, 0) else none))) else (bif Nat.ble 34 pc then (bif Nat.ble 37 pc then (bif Nat.beq pc 37 then some (.aload_n 0, 38, 0, 0) else none) else (bif Nat.beq pc 34 then some (.if_icmp .ge 0, 37, 56, 0) else none)) else (bif Nat.beq pc 31 then some (.getfield 7, 34, 80, 3) else none))) else (bif Nat.ble 23 pc then (bif Nat.ble 29 pc then (bif Nat.ble 30 pc then (bif Nat.beq pc 30 then some (.aload_n 0, 31, 0, 0) else none) else (bif Nat.beq pc 29 then some (.iload_n 2, 30, 0, 0) else none)) else (bif Nat.ble 26 pc then (bif Nat.beq pc 26 then some (.ifCond .eq 0, 29, 65, 0) else none) else (bif Nat.beq pc 23 then some (.invokevirtual 95, 26, 119, 0) else none))) else (bif Nat.ble 21 pc then (bif Nat.ble 22 pc then (bif Nat.beq pc 22 then some (.iload_n 3, 23, 0, 0) else none) else (bif Nat.beq pc 21 then some (.aload_n 0, 22, 0, 0) else none)) else (bif Nat.beq pc 20 then some (.istore_n 3, 21, 0, 0) else none)))) else (bif Nat.ble 11 pc then (bif Nat.ble 14 pc then (bif Nat.ble 18 pc then (bif Nat.ble 19 pc then (bif Nat.beq pc 19 then some (.caload, 20, 0, 0) else none) else (bif Nat.beq pc 18 then some (.iload_n 1, 19, 0, 0) else none)) else (bif Nat.ble 15 pc then (bif Nat.beq pc 15 then some (.fload 7, 18, 7, 4) else none) else (bif Nat.beq pc 14 then some (.aload_n 0, 15, 0, 0) else none))) else (bif Nat.ble 12 pc then (bif Nat.ble 13 pc then (bif Nat.beq pc 13 then some (.istore_n 2, 14, 0, 0) else none) else (bif Nat.beq pc 12 then some (.iadd, 13, 0, 0) else none)) else (bif Nat.beq pc 11 then some (.dload 1, 12, 0, 0) else none))) else (bif Nat.ble 3 pc then (bif Nat.ble 7 pc then (bif Nat.ble 10 pc then (bif Nat.beq pc 10 then some (.iload_n 1, 11, 0, 0) else none) else (bif Nat.beq pc 7 then some (.if_icmp .ge 0, 10, 203, 0) else none)) else (bif Nat.ble 4 pc then (bif Nat.beq pc 4 then some (.getfield 7, 7, 80, 3) else none) else (bif Nat.beq pc 3 then some (.aload_n 0, 4, 0, 0) else none))) else (bif Nat.ble 1 pc then (bif Nat.ble 2 pc then (bif Nat.beq pc 2 then some (.iload_n 1, 3, 0, 0) else none) else (bif Nat.beq pc 1 then some (.istore_n 1, 2, 0, 0) else none)) else (bif Nat.beq pc 0 then some (.dload 0, 1, 0, 0) else none))))))
def mc_106 (pc : Nat) : Option (Instr × Nat × Nat × Nat) := bif Nat.ble 85 pc then (bif Nat.ble 128 pc then (bif Nat.ble 147 pc then (bif Nat.ble 157 pc then (bif Nat.ble 162 pc then (bif Nat.ble 163 pc then (bif Nat.ble 166 pc then (bif Nat.beq pc 166 then some (.ireturn, 167, 0, 0) else none) else (bif Nat.beq pc 163 then some (.getfield 7, 166, 100, 12) else none)) else (bif Nat.beq pc 162 then some (.aload_n 0, 163, 0, 0) else none)) else (bif Nat.ble 158 pc then (bif Nat.ble 159 pc then (bif Nat.beq pc 159 then some (.putfield 7, 162, 80, 3) else none) else (bif Nat.beq pc 158 then some (.dload 0, 159, 0, 0) else none)) else (bif Nat.beq pc 157 then some (.aload_n 0, 158, 0, 0) else none))) else (bif Nat.ble 152 pc then (bif Nat.ble 153 pc then (bif Nat.ble 154 pc then (bif Nat.beq pc 154 then some (.putfield 7, 157, 100, 12) else none) else (bif Nat.beq pc 153 then some (.iadd, 154, 0, 0) else none)) else (bif Nat.beq pc 152 then some (.dload 1, 153, 0, 0) else none)) else (bif Nat.ble 148 pc then (bif Nat.ble 149 pc then (bif Nat.beq pc 149 then some (.getfield 7, 152, 100, 12) else none) else (bif Nat.beq pc 148 then some (.dup, 149, 0, 0) else none)) else (bif Nat.beq pc 147 then some (.aload_n 0, 148, 0, 0) else none)))) else (bif Nat.ble 137 pc then (bif Nat.ble 140 pc then (bif Nat.ble 143 pc then (bif Nat.ble 144 pc then (bif Nat.beq pc 144 then some (.invokevirtual 105, 147, 132, 0) else none) else (bif Nat.beq pc 143 then some (.aload_n 0, 144, 0, 0) else none)) else (bif Nat.beq pc 140 then some (.if_icmp .eq 0, 143, 147, 0) else none)) else (bif Nat.ble 138 pc then (bif Nat.ble 139 pc then (bif Nat.beq pc 139 then some (.dload 3, 140, 0, 0) else none) else (bif Nat.beq pc 138 then some (.iload_n 1, 139, 0, 0) else none)) else (bif Nat.beq pc 137 then some (.iastore, 138, 0, 0) else none))) else (bif Nat.ble 132 pc then (bif Nat.ble 133 pc then (bif Nat.ble 136 pc then (bif Nat.beq pc 136 then some (.dload 0, 137, 0, 0) else none) else (bif Nat.beq pc 133 then some (.getfield 7, 136, 100, 12) else none)) else (bif Nat.beq pc 132 then some (.aload_n 0, 133, 0, 0) else none)) else (bif Nat.ble 129 pc then (bif Nat.beq pc 129 then some (.fload 7, 132, 36, 14) else none) else (bif Nat.beq pc 128 then some (.aload_n 0, 129, 0, 0) else none))))) else (bif Nat.ble 109 pc then (bif Nat.ble 118 pc then (bif Nat.ble 123 pc then (bif Nat.ble 126 pc then (bif Nat.ble 127 pc then (bif Nat.beq pc 127 then some (.iastore, 128, 0, 0) else none) else (bif Nat.beq pc 126 then some (.iload_n 1, 127, 0, 0) else none)) else (bif Nat.beq pc 123 then some (.getfield 7, 126, 100, 12) else none)) else (bif Nat.ble 119 pc then (bif Nat.ble 122 pc then (bif Nat.beq pc 122 then some (.aload_n 0, 123, 0, 0) else none) else (bif Nat.beq pc 119 then some (.fload 7, 122, 33, 13) else none)) else (bif Nat.beq pc 118 then some (.aload_n 0, 119, 0, 0) else none))) else (bif Nat.ble 113 pc then (bif Nat.ble 116 pc then (bif Nat.ble 117 pc then (bif Nat.beq pc 117 then some (.ireturn, 118, 0, 0) else none) else (bif Nat.beq pc 116 then some (.dload 0, 117, 0, 0) else none)) else (bif Nat.beq pc 113 then some (.ifCond .eq 0, 116, 118, 0) else none)) else (bif Nat.ble 110 pc then (bif Nat.beq pc 110 then some (.getfield 7, 113, 63, 0) else none) else (bif Nat.beq pc 109 then some (.aload_n 0, 110, 0, 0) else none)))) else (bif Nat.ble 96 pc then (bif Nat.ble 102 pc then (bif Nat.ble 105 pc then (bif Nat.ble 106 pc then (bif Nat.beq pc 106 then some (.putfield 7, 109, 63, 0) else none) else (bif Nat.beq pc 105 then some (.dload 0, 106, 0, 0) else none)) else (bif Nat.beq pc 102 then some (.goto 0, 105, 106, 0) else none)) else (bif Nat.ble 98 pc then (bif Nat.ble 101 pc then (bif Nat.beq pc 101 then some (.dload 2, 102, 0, 0) else none) else (bif Nat.beq pc 98 then some (.if_icmp .ne 0, 101, 105, 0) else none)) else (bif Nat.beq pc 96 then some (.dload 12, 98, 0, 0) else none))) else (bif Nat.ble 89 pc then (bif Nat.ble 92 pc then (bif Nat.ble 93 pc then (bif Nat.beq pc 93 then some (.getfield 7, 96, 100, 12) else none) else (bif Nat.beq pc 92 then some (.aload_n 0, 93, 0, 0) else none)) else (bif Nat.beq pc 89 then some (.goto 0, 92, 106, 0) else none)) else (bif Nat.ble 88 pc then (bif Nat.beq pc 88 then some (.dload 1, 89, 0, 0) else none) else (bif Nat.beq pc 85 then some (.ifCond .ne 0, 88, 92, 0) else none)))))) else (bif Nat.ble 37 pc then (bif Nat.ble 62 pc then (bif Nat.ble 75 pc then (bif Nat.ble 80 pc then (bif Nat.ble 83 pc then (bif Nat.ble 84 pc then (bif Nat.beq pc 84 then some (.iload_n 2, 85, 0, 0) else none) else (bif Nat.beq pc 83 then some (.aload_n 0, 84, 0, 0) else none)) else (bif Nat.beq pc 80 then some (.goto 0, 83, 17, 0) else none)) else (bif Nat.ble 76 pc then (bif Nat.ble 77 pc then (bif Nat.beq pc 77 then some (.multianewarray 3 1, 80, 0, 0) else none) else (bif Nat.beq pc 76 then some (.istore_n 2, 77, 0, 0) else none)) else (bif Nat.beq pc 75 then some (.dload 0, 76, 0, 0) else none))) else (bif Nat.ble 68 pc then (bif Nat.ble 71 pc then (bif Nat.ble 72 pc then (bif Nat.beq pc 72 then some (.goto 0, 75, 76, 0) else none) else (bif Nat.beq pc 71 then some (.dload 1, 72, 0, 0) else none)) else (bif Nat.beq pc 68 then some (.ifCond .le 0, 71, 75, 0) else none)) else (bif Nat.ble 63 pc then (bif Nat.ble 65 pc then (bif Nat.beq pc 65 then some (.invokevirtual 97, 68, 73, 0) else none) else (bif Nat.beq pc 63 then some (.iload 4, 65, 0, 0) else none)) else (bif Nat.beq pc 62 then some (.aload_n 0, 63, 0, 0) else none)))) else (bif Nat.ble 47 pc then (bif Nat.ble 55 pc then (bif Nat.ble 57 pc then (bif Nat.ble 59 pc then (bif Nat.beq pc 59 then some (.if_icmp .eq 0, 62, 71, 0) else none) else (bif Nat.beq pc 57 then some (.dload 32, 59, 0, 0) else none)) else (bif Nat.beq pc 55 then some (.iload 4, 57, 0, 0) else none)) else (bif Nat.ble 49 pc then (bif Nat.ble 52 pc then (bif Nat.beq pc 52 then some (.ifCond .ne 0, 55, 71, 0) else none) else (bif Nat.beq pc 49 then some (.invokevirtual 96, 52, 125, 0) else none)) else (bif Nat.beq pc 47 then some (.iload 4, 49, 0, 0) else none))) else (bif Nat.ble 40 pc then (bif Nat.ble 43 pc then (bif Nat.ble 46 pc then (bif Nat.beq pc 46 then some (.aload_n 0, 47, 0, 0) else none) else (bif Nat.beq pc 43 then some (.ifCond .ne 0, 46, 71, 0) else none)) else (bif Nat.beq pc 40 then some (.invokevirtual 95, 43, 119, 0) else none)) else (bif Nat.ble 38 pc then (bif Nat.beq pc 38 then some (.iload 4, 40, 0, 0) else none) else (bif Nat.beq pc 37 then some (.aload_n 0, 38, 0, 0) else none))))) else (bif Nat.ble 17 pc then (bif Nat.ble 26 pc then (bif Nat.ble 31 pc then (bif Nat.ble 33 pc then (bif Nat.ble 34 pc then (bif Nat.beq pc 34 then some (.ifCond .eq 0, 37, 75, 0) else none) else (bif Nat.beq pc 33 then some (.iload_n 2, 34, 0, 0) else none)) else (bif Nat.beq pc 31 then some (.istore 4, 33, 0, 0) else none)) else (bif Nat.ble 29 pc then (bif Nat.ble 30 pc then (bif Nat.beq pc 30 then some (.caload, 31, 0, 0) else none) else (bif Nat.beq pc 29 then some (.iload_n 3, 30, 0, 0) else none)) else (bif Nat.beq pc 26 then some (.fload 7, 29, 7, 4) else none))) else (bif Nat.ble 19 pc then (bif Nat.ble 22 pc then (bif Nat.ble 25 pc then (bif Nat.beq pc 25 then some (.aload_n 0, 26, 0, 0) else none) else (bif Nat.beq pc 22 then some (.if_icmp .ge 0, 25, 83, 0) else none)) else (bif Nat.beq pc 19 then some (.getfield 7, 22, 80, 3) else none)) else (bif Nat.ble 18 pc then (bif Nat.beq pc 18 then some (.aload_n 0, 19, 0, 0) else none) else (bif Nat.beq pc 17 then some (.iload_n 3, 18, 0, 0) else none)))) else (bif Nat.ble 9 pc then (bif Nat.ble 14 pc then (bif Nat.ble 15 pc then (bif Nat.ble 16 pc then (bif Nat.beq pc 16 then some (.istore_n 3, 17, 0, 0) else none) else (bif Nat.beq pc 15 then some (.dload 0, 16, 0, 0) else none)) else (bif Nat.beq pc 14 then some (.istore_n 2, 15, 0, 0) else none)) else (bif Nat.ble 10 pc then (bif Nat.ble 13 pc then (bif Nat.beq pc 13 then some (.dload 0, 14, 0, 0) else none) else (bif Nat.beq pc 10 then some (.goto 0, 13, 14, 0) else none)) else (bif Nat.beq pc 9 then some (.dload 1, 10, 0, 0) else none))) else (bif Nat.ble 4 pc then (bif Nat.ble 5 pc then (bif Nat.ble 6 pc then (bif Nat.beq pc 6 then some (.if_icmp .gt 0, 9, 13, 0) else none) else (bif Nat.beq pc 5 then some (.dload 3, 6, 0, 0) else none)) else (bif Nat.beq pc 4 then some (.iload_n 1, 5, 0, 0) else none)) else (bif Nat.ble 1 pc then (bif Nat.beq pc 1 then some (.ifCond .lt 0, 4, 13, 0) else none) else (bif Nat.beq pc 0 then some (.iload_n 1, 1, 0, 0) else none))))))
def mc_107 (pc : Nat) : Option (Instr × Nat × Nat × Nat) := bif Nat.ble 12 pc then (bif Nat.ble 21 pc then (bif Nat.ble 25 pc then (bif Nat.ble 26 pc then (bif Nat.beq pc 26 then some (.areturn, 27, 0, 0) else none) else (bif Nat.beq pc 25 then some (.aaload, 26, 0, 0) else none)) else (bif Nat.ble 24 pc then (bif Nat.beq pc 24 then some (.iload_n 1, 25, 0, 0) else none) else (bif Nat.beq pc 21 then some (.fload 0, 24, 74, 7) else none))) else (bif Nat.ble 15 pc then (bif Nat.ble 20 pc then (bif Nat.beq pc 20 then some (.aload_n 0, 21, 0, 0) else none) else (bif Nat.beq pc 15 then some (.dup, 16, 0, 0) else none)) else (bif Nat.beq pc 12 then some (.jsr 655593, 15, 231, 0) else none))) else (bif Nat.ble 5 pc then (bif Nat.ble 6 pc then (bif Nat.ble 9 pc then (bif Nat.beq pc 9 then some (.if_icmp .lt 0, 12, 20, 0) else none) else (bif Nat.beq pc 6 then some (.getfield 0, 9, 211, 8) else none)) else (bif Nat.beq pc 5 then some (.aload_n 0, 6, 0, 0) else none)) else (bif Nat.ble 1 pc then (bif Nat.ble 4 pc then (bif Nat.beq pc 4 then some (.iload_n 1, 5, 0, 0) else none) else (bif Nat.beq pc 1 then some (.ifCond .lt 0, 4, 12, 0) else none)) else (bif Nat.beq pc 0 then some (.iload_n 1, 1, 0, 0) else none)))
def mc_108 (pc : Nat) : Option (Instr × Nat × Nat × Nat) := bif Nat.ble 2 pc then (bif Nat.ble 5 pc then (bif Nat.ble 8 pc then (bif Nat.beq pc 8 then some (.ireturn, 9, 0, 0) else none) else (bif Nat.beq pc 5 then some (.getfield 6, 8, 238, 3) else none)) else (bif Nat.beq pc 2 then some (.invokevirtual 107, 5, 234, 0) else none)) else (bif Nat.ble 1 pc then (bif Nat.beq pc 1 then some (.iload_n 1, 2, 0, 0) else none) else (bif Nat.beq pc 0 then some (.aload_n 0, 1, 0, 0) else none))
def mc_109 (pc : Nat) : Option (Instr × Nat × Nat × Nat) := bif Nat.ble 8 pc then (bif Nat.ble 13 pc then (bif Nat.ble 15 pc then (bif Nat.ble 16 pc then (bif Nat.beq pc 16 then some (.ireturn, 17, 0, 0) else none) else (bif Nat.beq pc 15 then some (.dload 0, 16, 0, 0) else none)) else (bif Nat.ble 14 pc then (bif Nat.beq pc 14 then some (.ireturn, 15, 0, 0) else none) else (bif Nat.beq pc 13 then some (.dload 1, 14, 0, 0) else none))) else (bif Nat.ble 9 pc then (bif Nat.ble 12 pc then (bif Nat.beq pc 12 then some (.astore_n 3, 13, 0, 0) else none) else (bif Nat.beq pc 9 then some (.goto 0, 12, 15, 0) else none)) else (bif Nat.beq pc 8 then some (.lastore, 9, 0, 0) else none))) else (bif Nat.ble 3 pc then (bif Nat.ble 4 pc then (bif Nat.ble 7 pc then (bif Nat.beq pc 7 then some (.i2l, 8, 0, 0) else none) else (bif Nat.beq pc 4 then some (.invokevirtual 108, 7, 25, 0) else none)) else (bif Nat.beq pc 3 then some (.iload_n 1, 4, 0, 0) else none)) else (bif Nat.ble 1 pc then (bif Nat.ble 2 pc then (bif Nat.beq pc 2 then some (.aload_n 0, 3, 0, 0) else none) else (bif Nat.beq pc 1 then some (.dload 0, 2, 0, 0) else none)) else (bif Nat.beq pc 0 then some (.aload_n 2, 1, 0, 0) else none)))
def mc_110 (pc : Nat) : Option (Instr × Nat × Nat × Nat) := bif Nat.ble 9 pc then (bif Nat.ble 13 pc then (bif Nat.ble 16 pc then (bif Nat.ble 17 pc then (bif Nat.beq pc 17 then some (.ireturn, 18, 0, 0) else none) else (bif Nat.beq pc 16 then some (.dload 0, 17, 0, 0) else none)) else (bif Nat.beq pc 13 then some (.goto 0, 16, 17, 0) else none)) else (bif Nat.ble 12 pc then (bif Nat.beq pc 12 then some (.dload 1, 13, 0, 0) else none) else (bif Nat.beq pc 9 then some (.if_icmp .lt 0, 12, 16, 0) else none))) else (bif Nat.ble 4 pc then (bif Nat.ble 5 pc then (bif Nat.ble 6 pc then (bif Nat.beq pc 6 then some (.getfield 7, 9, 100, 12) else none) else (bif Nat.beq pc 5 then some (.aload_n 0, 6, 0, 0) else none)) else (bif Nat.beq pc 4 then some (.iload_n 1, 5, 0, 0) else none)) else (bif Nat.ble 1 pc then (bif Nat.beq pc 1 then some (.ifCond .lt 0, 4, 12, 0) else none) else (bif Nat.beq pc 0 then some (.iload_n 1, 1, 0, 0) else none)))
def mc_111 (pc : Nat) : Option (Instr × Nat × Nat × Nat) := bif Nat.ble 17 pc then (bif Nat.ble 28 pc then (bif Nat.ble 30 pc then (bif Nat.ble 33 pc then (bif Nat.ble 34 pc then (bif Nat.beq pc 34 then some (.ireturn, 35, 0, 0) else none) else (bif Nat.beq pc 33 then some (.dload 0, 34, 0, 0) else none)) else (bif Nat.beq pc 30 then some (.goto 0, 33, 34, 0) else none)) else (bif Nat.ble 29 pc then (bif Nat.beq pc 29 then some (.iaload, 30, 0, 0) else none) else (bif Nat.beq pc 28 then some (.iload_n 1, 29, 0, 0) else none))) else (bif Nat.ble 21 pc then (bif Nat.ble 24 pc then (bif Nat.ble 25 pc then (bif Nat.beq pc 25 then some (.fload 7, 28, 36, 14) else none) else (bif Nat.beq pc 24 then some (.aload_n 0, 25, 0, 0) else none)) else (bif Nat.beq pc 21 then some (.ifCond .ne 0, 24, 33, 0) else none)) else (bif Nat.ble 18 pc then (bif Nat.beq pc 18 then some (.getfield 7, 21, 63, 0) else none) else (bif Nat.beq pc 17 then some (.aload_n 0, 18, 0, 0) else none)))) else (bif Nat.ble 6 pc then (bif Nat.ble 10 pc then (bif Nat.ble 13 pc then (bif Nat.ble 14 pc then (bif Nat.beq pc 14 then some (.putfield 7, 17, 63, 0) else none) else (bif Nat.beq pc 13 then some (.dload 0, 14, 0, 0) else none)) else (bif Nat.beq pc 10 then some (.goto 0, 13, 14, 0) else none)) else (bif Nat.ble 9 pc then (bif Nat.beq pc 9 then some (.dload 1, 10, 0, 0) else none) else (bif Nat.beq pc 6 then some (.ifCond .eq 0, 9, 13, 0) else none))) else (bif Nat.ble 2 pc then (bif Nat.ble 3 pc then (bif Nat.beq pc 3 then some (.invokevirtual 110, 6, 135, 0) else none) else (bif Nat.beq pc 2 then some (.iload_n 1, 3, 0, 0) else none)) else (bif Nat.ble 1 pc then (bif Nat.beq pc 1 then some (.aload_n 0, 2, 0, 0) else none) else (bif Nat.beq pc 0 then some (.aload_n 0, 1, 0, 0) else none))))
def mc_112 (pc : Nat) : Option (Instr × Nat × Nat × Nat) := bif Nat.ble 26 pc then (bif Nat.ble 35 pc then (bif Nat.ble 40 pc then (bif Nat.ble 41 pc then (bif Nat.ble 42 pc then (bif Nat.beq pc 42 then some (.ireturn, 43, 0, 0) else none) else (bif Nat.beq pc 41 then some (.iadd, 42, 0, 0) else none)) else (bif Nat.beq pc 40 then some (.imul, 41, 0, 0) else none)) else (bif Nat.ble 38 pc then (bif Nat.ble 39 pc then (bif Nat.beq pc 39 then some (.baload, 40, 0, 0) else none) else (bif Nat.beq pc 38 then some (.iload_n 2, 39, 0, 0) else none)) else (bif Nat.beq pc 35 then some (.fload 6, 38, 242, 2) else none))) else (bif Nat.ble 31 pc then (bif Nat.ble 32 pc then (bif Nat.ble 34 pc then (bif Nat.beq pc 34 then some (.aload_n 3, 35, 0, 0) else none) else (bif Nat.beq pc 32 then some (.dload 64, 34, 0, 0) else none)) else (bif Nat.beq pc 31 then some (.baload, 32, 0, 0) else none)) else (bif Nat.ble 27 pc then (bif Nat.ble 30 pc then (bif Nat.beq pc 30 then some (.iload_n 2, 31, 0, 0) else none) else (bif Nat.beq pc 27 then some (.fload 6, 30, 241, 1) else none)) else (bif Nat.beq pc 26 then some (.aload_n 3, 27, 0, 0) else none)))) else (bif Nat.ble 10 pc then (bif Nat.ble 15 pc then (bif Nat.ble 18 pc then (bif Nat.ble 21 pc then (bif Nat.beq pc 21 then some (.dup, 22, 0, 0) else none) else (bif Nat.beq pc 18 then some (.jsr 655593, 21, 231, 0) else none)) else (bif Nat.beq pc 15 then some (.if_icmp .lt 0, 18, 26, 0) else none)) else (bif Nat.ble 11 pc then (bif Nat.ble 12 pc then (bif Nat.beq pc 12 then some (.getfield 6, 15, 238, 3) else none) else (bif Nat.beq pc 11 then some (.aload_n 3, 12, 0, 0) else none)) else (bif Nat.beq pc 10 then some (.iload_n 2, 11, 0, 0) else none))) else (bif Nat.ble 5 pc then (bif Nat.ble 6 pc then (bif Nat.ble 7 pc then (bif Nat.beq pc 7 then some (.ifCond .lt 0, 10, 18, 0) else none) else (bif Nat.beq pc 6 then some (.iload_n 2, 7, 0, 0) else none)) else (bif Nat.beq pc 5 then some (.astore_n 3, 6, 0, 0) else none)) else (bif Nat.ble 1 pc then (bif Nat.ble 2 pc then (bif Nat.beq pc 2 then some (.invokevirtual 107, 5, 234, 0) else none) else (bif Nat.beq pc 1 then some (.iload_n 1, 2, 0, 0) else none)) else (bif Nat.beq pc 0 then some (.aload_n 0, 1, 0, 0) else none))))
def mc_113 (pc : Nat) : Option (Instr × Nat × Nat × Nat) := bif Nat.ble 9 pc then (bif Nat.ble 15 pc then (bif Nat.ble 17 pc then (bif Nat.ble 18 pc then (bif Nat.beq pc 18 then some (.ireturn, 19, 0, 0) else none) else (bif Nat.beq pc 17 then some (.dload 0, 18, 0, 0) else none)) else (bif Nat.ble 16 pc then (bif Nat.beq pc 16 then some (.ireturn, 17, 0, 0) else none) else (bif Nat.beq pc 15 then some (.dload 1, 16, 0, 0) else none))) else (bif Nat.ble 10 pc then (bif Nat.ble 13 pc then (bif Nat.beq pc 13 then some (.astore 4, 15, 0, 0) else none) else (bif Nat.beq pc 10 then some (.goto 0, 13, 17, 0) else none)) else (bif Nat.beq pc 9 then some (.lastore, 10, 0, 0) else none))) else (bif Nat.ble 3 pc then (bif Nat.ble 5 pc then (bif Nat.ble 8 pc then (bif Nat.beq pc 8 then some (.i2l, 9, 0, 0) else none) else (bif Nat.beq pc 5 then some (.invokevirtual 112, 8, 30, 0) else none)) else (bif Nat.ble 4 pc then (bif Nat.beq pc 4 then some (.iload_n 2, 5, 0, 0) else none) else (bif Nat.beq pc 3 then some (.iload_n 1, 4, 0, 0) else none))) else (bif Nat.ble 1 pc then (bif Nat.ble 2 pc then (bif Nat.beq pc 2 then some (.aload_n 0, 3, 0, 0) else none) else (bif Nat.beq pc 1 then some (.dload 0, 2, 0, 0) else none)) else (bif Nat.beq pc 0 then some (.aload_n 3, 1, 0, 0) else none)))
def mc_114 (pc : Nat) : Option (Instr × Nat × Nat × Nat) := bif Nat.ble 44 pc then (bif Nat.ble 65 pc then (bif Nat.ble 75 pc then (bif Nat.ble 78 pc then (bif Nat.ble 81 pc then (bif Nat.ble 82 pc then (bif Nat.beq pc 82 then some (.ireturn, 83, 0, 0) else none) else (bif Nat.beq pc 81 then some (.dload 0, 82, 0, 0) else none)) else (bif Nat.beq pc 78 then some (.goto 0, 81, 82, 0) else none)) else (bif Nat.ble 76 pc then (bif Nat.ble 77 pc then (bif Nat.beq pc 77 then some (.iadd, 78, 0, 0) else none) else (bif Nat.beq pc 76 then some (.imul, 77, 0, 0) else none)) else (bif Nat.beq pc 75 then some (.iaload, 76, 0, 0) else none))) else (bif Nat.ble 72 pc then (bif Nat.ble 73 pc then (bif Nat.ble 74 pc then (bif Nat.beq pc 74 then some (.iadd, 75, 0, 0) else none) else (bif Nat.beq pc 73 then some (.iload_n 2, 74, 0, 0) else none)) else (bif Nat.beq pc 72 then some (.imul, 73, 0, 0) else none)) else (bif Nat.ble 68 pc then (bif Nat.ble 71 pc then (bif Nat.beq pc 71 then some (.iload_n 1, 72, 0, 0) else none) else (bif Nat.beq pc 68 then some (.dload 240, 71, 0, 0) else none)) else (bif Nat.beq pc 65 then some (.fload 7, 68, 42, 16) else none)))) else (bif Nat.ble 58 pc then (bif Nat.ble 61 pc then (bif Nat.ble 62 pc then (bif Nat.ble 64 pc then (bif Nat.beq pc 64 then some (.aload_n 0, 65, 0, 0) else none) else (bif Nat.beq pc 62 then some (.dload 64, 64, 0, 0) else none)) else (bif Nat.beq pc 61 then some (.iaload, 62, 0, 0) else none)) else (bif Nat.ble 59 pc then (bif Nat.ble 60 pc then (bif Nat.beq pc 60 then some (.iadd, 61, 0, 0) else none) else (bif Nat.beq pc 59 then some (.iload_n 2, 60, 0, 0) else none)) else (bif Nat.beq pc 58 then some (.imul, 59, 0, 0) else none))) else (bif Nat.ble 51 pc then (bif Nat.ble 54 pc then (bif Nat.ble 57 pc then (bif Nat.beq pc 57 then some (.iload_n 1, 58, 0, 0) else none) else (bif Nat.beq pc 54 then some (.dload 240, 57, 0, 0) else none)) else (bif Nat.beq pc 51 then some (.fload 7, 54, 39, 15) else none)) else (bif Nat.ble 47 pc then (bif Nat.ble 50 pc then (bif Nat.beq pc 50 then some (.aload_n 0, 51, 0, 0) else none) else (bif Nat.beq pc 47 then some (.ifCond .ne 0, 50, 81, 0) else none)) else (bif Nat.beq pc 44 then some (.getfield 7, 47, 63, 0) else none))))) else (bif Nat.ble 20 pc then (bif Nat.ble 32 pc then (bif Nat.ble 39 pc then (bif Nat.ble 40 pc then (bif Nat.ble 43 pc then (bif Nat.beq pc 43 then some (.aload_n 0, 44, 0, 0) else none) else (bif Nat.beq pc 40 then some (.putfield 7, 43, 63, 0) else none)) else (bif Nat.beq pc 39 then some (.dload 0, 40, 0, 0) else none)) else (bif Nat.ble 35 pc then (bif Nat.ble 36 pc then (bif Nat.beq pc 36 then some (.goto 0, 39, 40, 0) else none) else (bif Nat.beq pc 35 then some (.dload 1, 36, 0, 0) else none)) else (bif Nat.beq pc 32 then some (.if_icmp .lt 0, 35, 39, 0) else none))) else (bif Nat.ble 27 pc then (bif Nat.ble 30 pc then (bif Nat.ble 31 pc then (bif Nat.beq pc 31 then some (.iaload, 32, 0, 0) else none) else (bif Nat.beq pc 30 then some (.iload_n 1, 31, 0, 0) else none)) else (bif Nat.beq pc 27 then some (.goto 0, 30, 31, 0) else none)) else (bif Nat.ble 23 pc then (bif Nat.ble 26 pc then (bif Nat.beq pc 26 then some (.dload 0, 27, 0, 0) else none) else (bif Nat.beq pc 23 then some (.ifCond .eq 0, 26, 30, 0) else none)) else (bif Nat.beq pc 20 then some (.invokevirtual 110, 23, 135, 0) else none)))) else (bif Nat.ble 10 pc then (bif Nat.ble 15 pc then (bif Nat.ble 18 pc then (bif Nat.ble 19 pc then (bif Nat.beq pc 19 then some (.iload_n 1, 20, 0, 0) else none) else (bif Nat.beq pc 18 then some (.aload_n 0, 19, 0, 0) else none)) else (bif Nat.beq pc 15 then some (.fload 7, 18, 36, 14) else none)) else (bif Nat.ble 13 pc then (bif Nat.ble 14 pc then (bif Nat.beq pc 14 then some (.aload_n 0, 15, 0, 0) else none) else (bif Nat.beq pc 13 then some (.iload_n 2, 14, 0, 0) else none)) else (bif Nat.beq pc 10 then some (.ifCond .lt 0, 13, 35, 0) else none))) else (bif Nat.ble 3 pc then (bif Nat.ble 6 pc then (bif Nat.ble 9 pc then (bif Nat.beq pc 9 then some (.iload_n 2, 10, 0, 0) else none) else (bif Nat.beq pc 6 then some (.ifCond .ne 0, 9, 35, 0) else none)) else (bif Nat.beq pc 3 then some (.invokevirtual 110, 6, 135, 0) else none)) else (bif Nat.ble 1 pc then (bif Nat.ble 2 pc then (bif Nat.beq pc 2 then some (.iload_n 1, 3, 0, 0) else none) else (bif Nat.beq pc 1 then some (.aload_n 0, 2, 0, 0) else none)) else (bif Nat.beq pc 0 then some (.aload_n 0, 1, 0, 0) else none)))))
def mc_115 (pc : Nat) : Option (Instr × Nat × Nat × Nat) := bif Nat.ble 11 pc then (bif Nat.ble 19 pc then (bif Nat.ble 25 pc then (bif Nat.ble 26 pc then (bif Nat.beq pc 26 then some (.ireturn, 27, 0, 0) else none) else (bif Nat.beq pc 25 then some (.iload_n 2, 26, 0, 0) else none)) else (bif Nat.ble 22 pc then (bif Nat.beq pc 22 then some (.goto 0, 25, 2, 0) else none) else (bif Nat.beq pc 19 then some (.multianewarray 2 1, 22, 0, 0) else none))) else (bif Nat.ble 15 pc then (bif Nat.ble 16 pc then (bif Nat.beq pc 16 then some (.ifCond .ne 0, 19, 25, 0) else none) else (bif Nat.beq pc 15 then some (.baload, 16, 0, 0) else none)) else (bif Nat.ble 14 pc then (bif Nat.beq pc 14 then some (.iload_n 2, 15, 0, 0) else none) else (bif Nat.beq pc 11 then some (.fload 6, 14, 7, 1) else none)))) else (bif Nat.ble 3 pc then (bif Nat.ble 7 pc then (bif Nat.ble 10 pc then (bif Nat.beq pc 10 then some (.aload_n 0, 11, 0, 0) else none) else (bif Nat.beq pc 7 then some (.if_icmp .ge 0, 10, 25, 0) else none)) else (bif Nat.ble 4 pc then (bif Nat.beq pc 4 then some (.getfield 6, 7, 20, 3) else none) else (bif Nat.beq pc 3 then some (.aload_n 0, 4, 0, 0) else none))) else (bif Nat.ble 1 pc then (bif Nat.ble 2 pc then (bif Nat.beq pc 2 then some (.iload_n 2, 3, 0, 0) else none) else (bif Nat.beq pc 1 then some (.istore_n 2, 2, 0, 0) else none)) else (bif Nat.beq pc 0 then some (.iload_n 1, 1, 0, 0) else none)))
def mc_116 (pc : Nat) : Option (Instr × Nat × Nat × Nat) := bif Nat.ble 11 pc then (bif Nat.ble 19 pc then (bif Nat.ble 25 pc then (bif Nat.ble 26 pc then (bif Nat.beq pc 26 then some (.ireturn, 27, 0, 0) else none) else (bif Nat.beq pc 25 then some (.iload_n 2, 26, 0, 0) else none)) else (bif Nat.ble 22 pc then (bif Nat.beq pc 22 then some (.goto 0, 25, 2, 0) else none) else (bif Nat.beq pc 19 then some (.multianewarray 2 1, 22, 0, 0) else none))) else (bif Nat.ble 15 pc then (bif Nat.ble 16 pc then (bif Nat.beq pc 16 then some (.ifCond .eq 0, 19, 25, 0) else none) else (bif Nat.beq pc 15 then some (.baload, 16, 0, 0) else none)) else (bif Nat.ble 14 pc then (bif Nat.beq pc 14 then some (.iload_n 2, 15, 0, 0) else none) else (bif Nat.beq pc 11 then some (.fload 6, 14, 7, 1) else none)))) else (bif Nat.ble 3 pc then (bif Nat.ble 7 pc then (bif Nat.ble 10 pc then (bif Nat.beq pc 10 then some (.aload_n 0, 11, 0, 0) else none) else (bif Nat.beq pc 7 then some (.if_icmp .ge 0, 10, 25, 0) else none)) else (bif Nat.ble 4 pc then (bif Nat.beq pc 4 then some (.getfield 6, 7, 20, 3) else none) else (bif Nat.beq pc 3 then some (.aload_n 0, 4, 0, 0) else none))) else (bif Nat.ble 1 pc then (bif Nat.ble 2 pc then (bif Nat.beq pc 2 then some (.iload_n 2, 3, 0, 0) else none) else (bif Nat.beq pc 1 then some (.istore_n 2, 2, 0, 0) else none)) else (bif Nat.beq pc 0 then some (.iload_n 1, 1, 0, 0) else none)))
def mc_117 (pc : Nat) : Option (Instr × Nat × Nat × Nat) := bif Nat.ble 35 pc then (bif Nat.ble 54 pc then (bif Nat.ble 66 pc then (bif Nat.ble 71 pc then (bif Nat.ble 74 pc then (bif Nat.ble 75 pc then (bif Nat.beq pc 75 then some (.ireturn, 76, 0, 0) else none) else (bif Nat.beq pc 74 then some (.iload_n 1, 75, 0, 0) else none)) else (bif Nat.beq pc 71 then some (.goto 0, 74, 40, 0) else none)) else (bif Nat.ble 67 pc then (bif Nat.ble 68 pc then (bif Nat.beq pc 68 then some (.multianewarray 2 1, 71, 0, 0) else none) else (bif Nat.beq pc 67 then some (.istore_n 1, 68, 0, 0) else none)) else (bif Nat.beq pc 66 then some (.iload_n 1, 67, 0, 0) else none))) else (bif Nat.ble 59 pc then (bif Nat.ble 60 pc then (bif Nat.ble 63 pc then (bif Nat.beq pc 63 then some (.goto 0, 66, 67, 0) else none) else (bif Nat.beq pc 60 then some (.invokevirtual 71, 63, 35, 0) else none)) else (bif Nat.beq pc 59 then some (.iload_n 2, 60, 0, 0) else none)) else (bif Nat.ble 57 pc then (bif Nat.beq pc 57 then some (.ldc 1, 59, 27, 0) else none) else (bif Nat.beq pc 54 then some (.if_icmp .ne 0, 57, 66, 0) else none)))) else (bif Nat.ble 44 pc then (bif Nat.ble 51 pc then (bif Nat.ble 52 pc then (bif Nat.ble 53 pc then (bif Nat.beq pc 53 then some (.iload_n 0, 54, 0, 0) else none) else (bif Nat.beq pc 52 then some (.iaload, 53, 0, 0) else none)) else (bif Nat.beq pc 51 then some (.iload_n 2, 52, 0, 0) else none)) else (bif Nat.ble 45 pc then (bif Nat.ble 48 pc then (bif Nat.beq pc 48 then some (.getstatic 2, 51, 24, 0) else none) else (bif Nat.beq pc 45 then some (.if_icmp .ge 0, 48, 74, 0) else none)) else (bif Nat.beq pc 44 then some (.arraylength, 45, 0, 0) else none))) else (bif Nat.ble 39 pc then (bif Nat.ble 40 pc then (bif Nat.ble 41 pc then (bif Nat.beq pc 41 then some (.getstatic 2, 44, 24, 0) else none) else (bif Nat.beq pc 40 then some (.iload_n 2, 41, 0, 0) else none)) else (bif Nat.beq pc 39 then some (.istore_n 2, 40, 0, 0) else none)) else (bif Nat.ble 38 pc then (bif Nat.beq pc 38 then some (.dload 0, 39, 0, 0) else none) else (bif Nat.beq pc 35 then some (.goto 0, 38, 5, 0) else none))))) else (bif Nat.ble 17 pc then (bif Nat.ble 25 pc then (bif Nat.ble 30 pc then (bif Nat.ble 31 pc then (bif Nat.ble 32 pc then (bif Nat.beq pc 32 then some (.multianewarray 2 1, 35, 0, 0) else none) else (bif Nat.beq pc 31 then some (.istore_n 1, 32, 0, 0) else none)) else (bif Nat.beq pc 30 then some (.iload_n 1, 31, 0, 0) else none)) else (bif Nat.ble 26 pc then (bif Nat.ble 27 pc then (bif Nat.beq pc 27 then some (.goto 0, 30, 31, 0) else none) else (bif Nat.beq pc 26 then some (.i2c, 27, 0, 0) else none)) else (bif Nat.beq pc 25 then some (.iadd, 26, 0, 0) else none))) else (bif Nat.ble 19 pc then (bif Nat.ble 22 pc then (bif Nat.ble 24 pc then (bif Nat.beq pc 24 then some (.iload_n 2, 25, 0, 0) else none) else (bif Nat.beq pc 22 then some (.dload 97, 24, 0, 0) else none)) else (bif Nat.beq pc 19 then some (.if_icmp .ne 0, 22, 30, 0) else none)) else (bif Nat.ble 18 pc then (bif Nat.beq pc 18 then some (.iload_n 0, 19, 0, 0) else none) else (bif Nat.beq pc 17 then some (.iaload, 18, 0, 0) else none)))) else (bif Nat.ble 6 pc then (bif Nat.ble 10 pc then (bif Nat.ble 13 pc then (bif Nat.ble 16 pc then (bif Nat.beq pc 16 then some (.iload_n 2, 17, 0, 0) else none) else (bif Nat.beq pc 13 then some (.getstatic 1, 16, 13, 0) else none)) else (bif Nat.beq pc 10 then some (.if_icmp .ge 0, 13, 38, 0) else none)) else (bif Nat.ble 9 pc then (bif Nat.beq pc 9 then some (.arraylength, 10, 0, 0) else none) else (bif Nat.beq pc 6 then some (.getstatic 1, 9, 13, 0) else none))) else (bif Nat.ble 3 pc then (bif Nat.ble 4 pc then (bif Nat.ble 5 pc then (bif Nat.beq pc 5 then some (.iload_n 2, 6, 0, 0) else none) else (bif Nat.beq pc 4 then some (.istore_n 2, 5, 0, 0) else none)) else (bif Nat.beq pc 3 then some (.dload 0, 4, 0, 0) else none)) else (bif Nat.ble 2 pc then (bif Nat.beq pc 2 then some (.istore_n 1, 3, 0, 0) else none) else (bif Nat.beq pc 0 then some (.dload 35, 2, 0, 0) else none)))))
def mc_118 (pc : Nat) : Option (Instr × Nat × Nat × Nat) := bif Nat.ble 19 pc then (bif Nat.ble 29 pc then (bif Nat.ble 33 pc then (bif Nat.ble 36 pc then (bif Nat.ble 38 pc then (bif Nat.beq pc 38 then some (.ireturn, 39, 0, 0) else none) else (bif Nat.beq pc 36 then some (.dload 32, 38, 0, 0) else none)) else (bif Nat.beq pc 33 then some (.goto 0, 36, 38, 0) else none)) else (bif Nat.ble 31 pc then (bif Nat.ble 32 pc then (bif Nat.beq pc 32 then some (.i2c, 33, 0, 0) else none) else (bif Nat.beq pc 31 then some (.isub, 32, 0, 0) else none)) else (bif Nat.beq pc 29 then some (.dload 48, 31, 0, 0) else none))) else (bif Nat.ble 23 pc then (bif Nat.ble 25 pc then (bif Nat.ble 28 pc then (bif Nat.beq pc 28 then some (.iload_n 1, 29, 0, 0) else none) else (bif Nat.beq pc 25 then some (.if_icmp .gt 0, 28, 36, 0) else none)) else (bif Nat.beq pc 23 then some (.dload 105, 25, 0, 0) else none)) else (bif Nat.ble 22 pc then (bif Nat.beq pc 22 then some (.iload_n 1, 23, 0, 0) else none) else (bif Nat.beq pc 19 then some (.if_icmp .lt 0, 22, 36, 0) else none)))) else (bif Nat.ble 8 pc then (bif Nat.ble 13 pc then (bif Nat.ble 16 pc then (bif Nat.ble 17 pc then (bif Nat.beq pc 17 then some (.dload 97, 19, 0, 0) else none) else (bif Nat.beq pc 16 then some (.iload_n 1, 17, 0, 0) else none)) else (bif Nat.beq pc 13 then some (.goto 0, 16, 38, 0) else none)) else (bif Nat.ble 11 pc then (bif Nat.beq pc 11 then some (.dload 48, 13, 0, 0) else none) else (bif Nat.beq pc 8 then some (.if_icmp .ne 0, 11, 16, 0) else none))) else (bif Nat.ble 4 pc then (bif Nat.ble 5 pc then (bif Nat.ble 6 pc then (bif Nat.beq pc 6 then some (.dload 106, 8, 0, 0) else none) else (bif Nat.beq pc 5 then some (.iload_n 1, 6, 0, 0) else none)) else (bif Nat.beq pc 4 then some (.istore_n 1, 5, 0, 0) else none)) else (bif Nat.ble 1 pc then (bif Nat.beq pc 1 then some (.invokestatic 117, 4, 245, 0) else none) else (bif Nat.beq pc 0 then some (.iload_n 0, 1, 0, 0) else none))))
def mc_119 (pc : Nat) : Option (Instr × Nat × Nat × Nat) := bif Nat.ble 88 pc then (bif Nat.ble 139 pc then (bif Nat.ble 165 pc then (bif Nat.ble 180 pc then (bif Nat.ble 187 pc then (bif Nat.ble 190 pc then (bif Nat.ble 192 pc then (bif Nat.beq pc 192 then some (.areturn, 193, 0, 0) else none) else (bif Nat.beq pc 190 then some (.aload 5, 192, 0, 0) else none)) else (bif Nat.beq pc 187 then some (.goto 0, 190, 6, 0) else none)) else (bif Nat.ble 182 pc then (bif Nat.ble 184 pc then (bif Nat.beq pc 184 then some (.multianewarray 6 1, 187, 0, 0) else none) else (bif Nat.beq pc 182 then some (.astore 5, 184, 0, 0) else none)) else (bif Nat.beq pc 180 then some (.aload 5, 182, 0, 0) else none))) else (bif Nat.ble 172 pc then (bif Nat.ble 175 pc then (bif Nat.ble 177 pc then (bif Nat.beq pc 177 then some (.goto 0, 180, 182, 0) else none) else (bif Nat.beq pc 175 then some (.aload 7, 177, 0, 0) else none)) else (bif Nat.beq pc 172 then some (.ifCond .eq 0, 175, 180, 0) else none)) else (bif Nat.ble 167 pc then (bif Nat.ble 170 pc then (bif Nat.beq pc 170 then some (.iload 9, 172, 0, 0) else none) else (bif Nat.beq pc 167 then some (.ifCond .eq 0, 170, 180, 0) else none)) else (bif Nat.beq pc 165 then some (.iload 8, 167, 0, 0) else none)))) else (bif Nat.ble 152 pc then (bif Nat.ble 159 pc then (bif Nat.ble 162 pc then (bif Nat.ble 163 pc then (bif Nat.beq pc 163 then some (.istore 9, 165, 0, 0) else none) else (bif Nat.beq pc 162 then some (.dload 0, 163, 0, 0) else none)) else (bif Nat.beq pc 159 then some (.goto 0, 162, 163, 0) else none)) else (bif Nat.ble 155 pc then (bif Nat.ble 158 pc then (bif Nat.beq pc 158 then some (.dload 1, 159, 0, 0) else none) else (bif Nat.beq pc 155 then some (.if_icmp .ge 0, 158, 162, 0) else none)) else (bif Nat.beq pc 152 then some (.getfield 5, 155, 139, 0) else none))) else (bif Nat.ble 145 pc then (bif Nat.ble 147 pc then (bif Nat.ble 150 pc then (bif Nat.beq pc 150 then some (.aload 5, 152, 0, 0) else none) else (bif Nat.beq pc 147 then some (.getfield 5, 150, 139, 0) else none)) else (bif Nat.beq pc 145 then some (.aload 7, 147, 0, 0) else none)) else (bif Nat.ble 142 pc then (bif Nat.beq pc 142 then some (.if_icmp .ne 0, 145, 162, 0) else none) else (bif Nat.beq pc 139 then some (.getfield 5, 142, 144, 4) else none))))) else (bif Nat.ble 108 pc then (bif Nat.ble 124 pc then (bif Nat.ble 132 pc then (bif Nat.ble 134 pc then (bif Nat.ble 137 pc then (bif Nat.beq pc 137 then some (.aload 5, 139, 0, 0) else none) else (bif Nat.beq pc 134 then some (.getfield 5, 137, 144, 4) else none)) else (bif Nat.beq pc 132 then some (.aload 7, 134, 0, 0) else none)) else (bif Nat.ble 126 pc then (bif Nat.ble 129 pc then (bif Nat.beq pc 129 then some (.if_icmp .gt 0, 132, 158, 0) else none) else (bif Nat.beq pc 126 then some (.getfield 5, 129, 144, 4) else none)) else (bif Nat.beq pc 124 then some (.aload 5, 126, 0, 0) else none))) else (bif Nat.ble 116 pc then (bif Nat.ble 119 pc then (bif Nat.ble 121 pc then (bif Nat.beq pc 121 then some (.getfield 5, 124, 144, 4) else none) else (bif Nat.beq pc 119 then some (.aload 7, 121, 0, 0) else none)) else (bif Nat.beq pc 116 then some (.ifnull 0, 119, 158, 0) else none)) else (bif Nat.ble 111 pc then (bif Nat.ble 114 pc then (bif Nat.beq pc 114 then some (.aload 5, 116, 0, 0) else none) else (bif Nat.beq pc 111 then some (.goto 0, 114, 66, 0) else none)) else (bif Nat.beq pc 108 then some (.multianewarray 9 1, 111, 0, 0) else none)))) else (bif Nat.ble 97 pc then (bif Nat.ble 102 pc then (bif Nat.ble 105 pc then (bif Nat.ble 106 pc then (bif Nat.beq pc 106 then some (.istore 8, 108, 0, 0) else none) else (bif Nat.beq pc 105 then some (.dload 0, 106, 0, 0) else none)) else (bif Nat.beq pc 102 then some (.goto 0, 105, 106, 0) else none)) else (bif Nat.ble 98 pc then (bif Nat.ble 101 pc then (bif Nat.beq pc 101 then some (.dload 1, 102, 0, 0) else none) else (bif Nat.beq pc 98 then some (.if_icmp .ne 0, 101, 105, 0) else none)) else (bif Nat.beq pc 97 then some (.baload, 98, 0, 0) else none))) else (bif Nat.ble 90 pc then (bif Nat.ble 92 pc then (bif Nat.ble 95 pc then (bif Nat.beq pc 95 then some (.iload 9, 97, 0, 0) else none) else (bif Nat.beq pc 92 then some (.fload 5, 95, 159, 3) else none)) else (bif Nat.beq pc 90 then some (.aload 7, 92, 0, 0) else none)) else (bif Nat.ble 89 pc then (bif Nat.beq pc 89 then some (.baload, 90, 0, 0) else none) else (bif Nat.beq pc 88 then some (.iadd, 89, 0, 0) else none)))))) else (bif Nat.ble 41 pc then (bif Nat.ble 63 pc then (bif Nat.ble 76 pc then (bif Nat.ble 82 pc then (bif Nat.ble 85 pc then (bif Nat.ble 86 pc then (bif Nat.beq pc 86 then some (.iload 9, 88, 0, 0) else none) else (bif Nat.beq pc 85 then some (.iload_n 2, 86, 0, 0) else none)) else (bif Nat.beq pc 82 then some (.fload 6, 85, 241, 1) else none)) else (bif Nat.ble 78 pc then (bif Nat.ble 81 pc then (bif Nat.beq pc 81 then some (.aload_n 1, 82, 0, 0) else none) else (bif Nat.beq pc 78 then some (.ifCond .eq 0, 81, 114, 0) else none)) else (bif Nat.beq pc 76 then some (.iload 8, 78, 0, 0) else none))) else (bif Nat.ble 68 pc then (bif Nat.ble 70 pc then (bif Nat.ble 73 pc then (bif Nat.beq pc 73 then some (.if_icmp .ge 0, 76, 114, 0) else none) else (bif Nat.beq pc 70 then some (.getfield 5, 73, 144, 4) else none)) else (bif Nat.beq pc 68 then some (.aload 7, 70, 0, 0) else none)) else (bif Nat.ble 64 pc then (bif Nat.ble 66 pc then (bif Nat.beq pc 66 then some (.iload 9, 68, 0, 0) else none) else (bif Nat.beq pc 64 then some (.istore 9, 66, 0, 0) else none)) else (bif Nat.beq pc 63 then some (.dload 0, 64, 0, 0) else none)))) else (bif Nat.ble 50 pc then (bif Nat.ble 57 pc then (bif Nat.ble 60 pc then (bif Nat.ble 61 pc then (bif Nat.beq pc 61 then some (.istore 8, 63, 0, 0) else none) else (bif Nat.beq pc 60 then some (.dload 0, 61, 0, 0) else none)) else (bif Nat.beq pc 57 then some (.goto 0, 60, 61, 0) else none)) else (bif Nat.ble 53 pc then (bif Nat.ble 56 pc then (bif Nat.beq pc 56 then some (.dload 1, 57, 0, 0) else none) else (bif Nat.beq pc 53 then some (.ifCond .eq 0, 56, 60, 0) else none)) else (bif Nat.beq pc 50 then some (.invokevirtual 85, 53, 184, 0) else none))) else (bif Nat.ble 46 pc then (bif Nat.ble 48 pc then (bif Nat.ble 49 pc then (bif Nat.beq pc 49 then some (.isub, 50, 0, 0) else none) else (bif Nat.beq pc 48 then some (.iload_n 3, 49, 0, 0) else none)) else (bif Nat.beq pc 46 then some (.iload 4, 48, 0, 0) else none)) else (bif Nat.ble 43 pc then (bif Nat.beq pc 43 then some (.getfield 5, 46, 144, 4) else none) else (bif Nat.beq pc 41 then some (.aload 7, 43, 0, 0) else none))))) else (bif Nat.ble 21 pc then (bif Nat.ble 31 pc then (bif Nat.ble 38 pc then (bif Nat.ble 39 pc then (bif Nat.ble 40 pc then (bif Nat.beq pc 40 then some (.isub, 41, 0, 0) else none) else (bif Nat.beq pc 39 then some (.iload_n 3, 40, 0, 0) else none)) else (bif Nat.beq pc 38 then some (.iload_n 2, 39, 0, 0) else none)) else (bif Nat.ble 33 pc then (bif Nat.ble 36 pc then (bif Nat.beq pc 36 then some (.aload 7, 38, 0, 0) else none) else (bif Nat.beq pc 33 then some (.if_icmp .gt 0, 36, 60, 0) else none)) else (bif Nat.beq pc 31 then some (.iload 4, 33, 0, 0) else none))) else (bif Nat.ble 25 pc then (bif Nat.ble 27 pc then (bif Nat.ble 30 pc then (bif Nat.beq pc 30 then some (.iadd, 31, 0, 0) else none) else (bif Nat.beq pc 27 then some (.getfield 5, 30, 144, 4) else none)) else (bif Nat.beq pc 25 then some (.aload 7, 27, 0, 0) else none)) else (bif Nat.ble 22 pc then (bif Nat.ble 24 pc then (bif Nat.beq pc 24 then some (.iload_n 2, 25, 0, 0) else none) else (bif Nat.beq pc 22 then some (.astore 7, 24, 0, 0) else none)) else (bif Nat.beq pc 21 then some (.aaload, 22, 0, 0) else none)))) else (bif Nat.ble 8 pc then (bif Nat.ble 15 pc then (bif Nat.ble 16 pc then (bif Nat.ble 19 pc then (bif Nat.beq pc 19 then some (.iload 6, 21, 0, 0) else none) else (bif Nat.beq pc 16 then some (.fload 0, 19, 64, 4) else none)) else (bif Nat.beq pc 15 then some (.aload_n 0, 16, 0, 0) else none)) else (bif Nat.ble 9 pc then (bif Nat.ble 12 pc then (bif Nat.beq pc 12 then some (.if_icmp .ge 0, 15, 190, 0) else none) else (bif Nat.beq pc 9 then some (.getfield 0, 12, 128, 5) else none)) else (bif Nat.beq pc 8 then some (.aload_n 0, 9, 0, 0) else none))) else (bif Nat.ble 3 pc then (bif Nat.ble 4 pc then (bif Nat.ble 6 pc then (bif Nat.beq pc 6 then some (.iload 6, 8, 0, 0) else none) else (bif Nat.beq pc 4 then some (.istore 6, 6, 0, 0) else none)) else (bif Nat.beq pc 3 then some (.dload 0, 4, 0, 0) else none)) else (bif Nat.ble 1 pc then (bif Nat.beq pc 1 then some (.astore 5, 3, 0, 0) else none) else (bif Nat.beq pc 0 then some (.aconst_null, 1, 0, 0) else none))))))
def mc_120 (pc : Nat) : Option (Instr × Nat × Nat × Nat) := bif Nat.ble 16 pc then (bif Nat.ble 23 pc then (bif Nat.ble 27 pc then (bif Nat.ble 28 pc then (bif Nat.beq pc 28 then some (.return_, 29, 0, 0) else none) else (bif Nat.beq pc 27 then some (.pop, 28, 0, 0) else none)) else (bif Nat.ble 24 pc then (bif Nat.beq pc 24 then some (.invokevirtual 21, 27, 120, 0) else none) else (bif Nat.beq pc 23 then some (.iload_n 1, 24, 0, 0) else none))) else (bif Nat.ble 19 pc then (bif Nat.ble 20 pc then (bif Nat.beq pc 20 then some (.goto 0, 23, 24, 0) else none) else (bif Nat.beq pc 19 then some (.i2c, 20, 0, 0) else none)) else (bif Nat.ble 18 pc then (bif Nat.beq pc 18 then some (.isub, 19, 0, 0) else none) else (bif Nat.beq pc 16 then some (.dload 32, 18, 0, 0) else none)))) else (bif Nat.ble 8 pc then (bif Nat.ble 12 pc then (bif Nat.ble 15 pc then (bif Nat.beq pc 15 then some (.iload_n 1, 16, 0, 0) else none) else (bif Nat.beq pc 12 then some (.ifCond .eq 0, 15, 23, 0) else none)) else (bif Nat.ble 9 pc then (bif Nat.beq pc 9 then some (.invokestatic 44, 12, 1, 0) else none) else (bif Nat.beq pc 8 then some (.iload_n 1, 9, 0, 0) else none))) else (bif Nat.ble 4 pc then (bif Nat.ble 5 pc then (bif Nat.beq pc 5 then some (.ifCond .eq 0, 8, 23, 0) else none) else (bif Nat.beq pc 4 then some (.iload_n 2, 5, 0, 0) else none)) else (bif Nat.ble 1 pc then (bif Nat.beq pc 1 then some (.fload 0, 4, 78, 9) else none) else (bif Nat.beq pc 0 then some (.aload_n 0, 1, 0, 0) else none))))
def mc_121 (pc : Nat) : Option (Instr × Nat × Nat × Nat) := bif Nat.ble 156 pc then (bif Nat.ble 230 pc then (bif Nat.ble 268 pc then (bif Nat.ble 287 pc then (bif Nat.ble 298 pc then (bif Nat.ble 302 pc then (bif Nat.ble 304 pc then (bif Nat.ble 307 pc then (bif Nat.beq pc 307 then some (.return_, 308, 0, 0) else none) else (bif Nat.beq pc 304 then some (.goto 0, 307, 36, 0) else none)) else (bif Nat.beq pc 302 then some (.istore 7, 304, 0, 0) else none)) else (bif Nat.ble 301 pc then (bif Nat.beq pc 301 then some (.iadd, 302, 0, 0) else none) else (bif Nat.beq pc 298 then some (.getfield 5, 301, 144, 4) else none))) else (bif Nat.ble 292 pc then (bif Nat.ble 293 pc then (bif Nat.ble 296 pc then (bif Nat.beq pc 296 then some (.aload 9, 298, 0, 0) else none) else (bif Nat.beq pc 293 then some (.goto 0, 296, 301, 0) else none)) else (bif Nat.beq pc 292 then some (.dload 1, 293, 0, 0) else none)) else (bif Nat.ble 289 pc then (bif Nat.beq pc 289 then some (.ifnonnull 0, 292, 296, 0) else none) else (bif Nat.beq pc 287 then some (.aload 9, 289, 0, 0) else none)))) else (bif Nat.ble 276 pc then (bif Nat.ble 279 pc then (bif Nat.ble 282 pc then (bif Nat.ble 285 pc then (bif Nat.beq pc 285 then some (.iload 7, 287, 0, 0) else none) else (bif Nat.beq pc 282 then some (.goto 0, 285, 210, 0) else none)) else (bif Nat.beq pc 279 then some (.multianewarray 11 1, 282, 0, 0) else none)) else (bif Nat.ble 277 pc then (bif Nat.beq pc 277 then some (.istore 5, 279, 0, 0) else none) else (bif Nat.beq pc 276 then some (.iand, 277, 0, 0) else none))) else (bif Nat.ble 272 pc then (bif Nat.ble 275 pc then (bif Nat.beq pc 275 then some (.dload 0, 276, 0, 0) else none) else (bif Nat.beq pc 272 then some (.goto 0, 275, 276, 0) else none)) else (bif Nat.ble 271 pc then (bif Nat.beq pc 271 then some (.dload 1, 272, 0, 0) else none) else (bif Nat.beq pc 268 then some (.ifCond .ne 0, 271, 275, 0) else none))))) else (bif Nat.ble 248 pc then (bif Nat.ble 257 pc then (bif Nat.ble 261 pc then (bif Nat.ble 263 pc then (bif Nat.ble 265 pc then (bif Nat.beq pc 265 then some (.invokestatic 44, 268, 1, 0) else none) else (bif Nat.beq pc 263 then some (.iload 12, 265, 0, 0) else none)) else (bif Nat.beq pc 261 then some (.iload 5, 263, 0, 0) else none)) else (bif Nat.ble 258 pc then (bif Nat.beq pc 258 then some (.invokevirtual 120, 261, 255, 0) else none) else (bif Nat.beq pc 257 then some (.dload 0, 258, 0, 0) else none))) else (bif Nat.ble 253 pc then (bif Nat.ble 254 pc then (bif Nat.beq pc 254 then some (.goto 0, 257, 258, 0) else none) else (bif Nat.beq pc 253 then some (.dload 1, 254, 0, 0) else none)) else (bif Nat.ble 250 pc then (bif Nat.beq pc 250 then some (.ifCond .eq 0, 253, 257, 0) else none) else (bif Nat.beq pc 248 then some (.iload 5, 250, 0, 0) else none)))) else (bif Nat.ble 238 pc then (bif Nat.ble 241 pc then (bif Nat.ble 243 pc then (bif Nat.ble 245 pc then (bif Nat.beq pc 245 then some (.ifCond .ne 0, 248, 253, 0) else none) else (bif Nat.beq pc 243 then some (.iload 6, 245, 0, 0) else none)) else (bif Nat.beq pc 241 then some (.iload 12, 243, 0, 0) else none)) else (bif Nat.ble 240 pc then (bif Nat.beq pc 240 then some (.aload_n 0, 241, 0, 0) else none) else (bif Nat.beq pc 238 then some (.istore 12, 240, 0, 0) else none))) else (bif Nat.ble 235 pc then (bif Nat.ble 237 pc then (bif Nat.beq pc 237 then some (.caload, 238, 0, 0) else none) else (bif Nat.beq pc 235 then some (.iload 11, 237, 0, 0) else none)) else (bif Nat.ble 232 pc then (bif Nat.beq pc 232 then some (.fload 5, 235, 147, 1) else none) else (bif Nat.beq pc 230 then some (.aload 9, 232, 0, 0) else none)))))) else (bif Nat.ble 186 pc then (bif Nat.ble 207 pc then (bif Nat.ble 217 pc then (bif Nat.ble 222 pc then (bif Nat.ble 224 pc then (bif Nat.ble 227 pc then (bif Nat.beq pc 227 then some (.goto 0, 230, 238, 0) else none) else (bif Nat.beq pc 224 then some (.invokestatic 117, 227, 245, 0) else none)) else (bif Nat.beq pc 222 then some (.iload 8, 224, 0, 0) else none)) else (bif Nat.ble 219 pc then (bif Nat.beq pc 219 then some (.ifnonnull 0, 222, 230, 0) else none) else (bif Nat.beq pc 217 then some (.aload 9, 219, 0, 0) else none))) else (bif Nat.ble 210 pc then (bif Nat.ble 212 pc then (bif Nat.ble 214 pc then (bif Nat.beq pc 214 then some (.if_icmp .ge 0, 217, 285, 0) else none) else (bif Nat.beq pc 212 then some (.iload 10, 214, 0, 0) else none)) else (bif Nat.beq pc 210 then some (.iload 11, 212, 0, 0) else none)) else (bif Nat.ble 208 pc then (bif Nat.beq pc 208 then some (.istore 11, 210, 0, 0) else none) else (bif Nat.beq pc 207 then some (.dload 0, 208, 0, 0) else none)))) else (bif Nat.ble 196 pc then (bif Nat.ble 200 pc then (bif Nat.ble 202 pc then (bif Nat.ble 205 pc then (bif Nat.beq pc 205 then some (.istore 10, 207, 0, 0) else none) else (bif Nat.beq pc 202 then some (.getfield 5, 205, 142, 2) else none)) else (bif Nat.beq pc 200 then some (.aload 9, 202, 0, 0) else none)) else (bif Nat.ble 197 pc then (bif Nat.beq pc 197 then some (.goto 0, 200, 205, 0) else none) else (bif Nat.beq pc 196 then some (.dload 1, 197, 0, 0) else none))) else (bif Nat.ble 191 pc then (bif Nat.ble 193 pc then (bif Nat.beq pc 193 then some (.ifnonnull 0, 196, 200, 0) else none) else (bif Nat.beq pc 191 then some (.aload 9, 193, 0, 0) else none)) else (bif Nat.ble 189 pc then (bif Nat.beq pc 189 then some (.astore 9, 191, 0, 0) else none) else (bif Nat.beq pc 186 then some (.invokevirtual 119, 189, 251, 0) else none))))) else (bif Nat.ble 171 pc then (bif Nat.ble 179 pc then (bif Nat.ble 181 pc then (bif Nat.ble 183 pc then (bif Nat.ble 185 pc then (bif Nat.beq pc 185 then some (.iload_n 3, 186, 0, 0) else none) else (bif Nat.beq pc 183 then some (.iload 4, 185, 0, 0) else none)) else (bif Nat.beq pc 181 then some (.iload 7, 183, 0, 0) else none)) else (bif Nat.ble 180 pc then (bif Nat.beq pc 180 then some (.aload_n 1, 181, 0, 0) else none) else (bif Nat.beq pc 179 then some (.aload_n 0, 180, 0, 0) else none))) else (bif Nat.ble 174 pc then (bif Nat.ble 176 pc then (bif Nat.beq pc 176 then some (.goto 0, 179, 304, 0) else none) else (bif Nat.beq pc 174 then some (.istore 5, 176, 0, 0) else none)) else (bif Nat.ble 173 pc then (bif Nat.beq pc 173 then some (.dload 1, 174, 0, 0) else none) else (bif Nat.beq pc 171 then some (.istore 6, 173, 0, 0) else none)))) else (bif Nat.ble 162 pc then (bif Nat.ble 166 pc then (bif Nat.ble 169 pc then (bif Nat.ble 170 pc then (bif Nat.beq pc 170 then some (.ior, 171, 0, 0) else none) else (bif Nat.beq pc 169 then some (.dload 0, 170, 0, 0) else none)) else (bif Nat.beq pc 166 then some (.goto 0, 169, 170, 0) else none)) else (bif Nat.ble 165 pc then (bif Nat.beq pc 165 then some (.dload 1, 166, 0, 0) else none) else (bif Nat.beq pc 162 then some (.if_icmp .le 0, 165, 169, 0) else none))) else (bif Nat.ble 160 pc then (bif Nat.ble 161 pc then (bif Nat.beq pc 161 then some (.dload 1, 162, 0, 0) else none) else (bif Nat.beq pc 160 then some (.isub, 161, 0, 0) else none)) else (bif Nat.ble 158 pc then (bif Nat.beq pc 158 then some (.iload 9, 160, 0, 0) else none) else (bif Nat.beq pc 156 then some (.iload 7, 158, 0, 0) else none))))))) else (bif Nat.ble 73 pc then (bif Nat.ble 113 pc then (bif Nat.ble 133 pc then (bif Nat.ble 143 pc then (bif Nat.ble 148 pc then (bif Nat.ble 151 pc then (bif Nat.ble 154 pc then (bif Nat.beq pc 154 then some (.iload 6, 156, 0, 0) else none) else (bif Nat.beq pc 151 then some (.goto 0, 154, 130, 0) else none)) else (bif Nat.beq pc 148 then some (.multianewarray 7 1, 151, 0, 0) else none)) else (bif Nat.ble 145 pc then (bif Nat.beq pc 145 then some (.if_icmp .ne 0, 148, 154, 0) else none) else (bif Nat.beq pc 143 then some (.dload 32, 145, 0, 0) else none))) else (bif Nat.ble 137 pc then (bif Nat.ble 140 pc then (bif Nat.ble 142 pc then (bif Nat.beq pc 142 then some (.baload, 143, 0, 0) else none) else (bif Nat.beq pc 140 then some (.iload 7, 142, 0, 0) else none)) else (bif Nat.beq pc 137 then some (.fload 6, 140, 241, 1) else none)) else (bif Nat.ble 136 pc then (bif Nat.beq pc 136 then some (.aload_n 1, 137, 0, 0) else none) else (bif Nat.beq pc 133 then some (.if_icmp .ge 0, 136, 154, 0) else none)))) else (bif Nat.ble 123 pc then (bif Nat.ble 128 pc then (bif Nat.ble 130 pc then (bif Nat.ble 132 pc then (bif Nat.beq pc 132 then some (.iload_n 3, 133, 0, 0) else none) else (bif Nat.beq pc 130 then some (.iload 7, 132, 0, 0) else none)) else (bif Nat.beq pc 128 then some (.istore 9, 130, 0, 0) else none)) else (bif Nat.ble 126 pc then (bif Nat.beq pc 126 then some (.iload 7, 128, 0, 0) else none) else (bif Nat.beq pc 123 then some (.if_icmp .ne 0, 126, 179, 0) else none))) else (bif Nat.ble 119 pc then (bif Nat.ble 121 pc then (bif Nat.beq pc 121 then some (.dload 32, 123, 0, 0) else none) else (bif Nat.beq pc 119 then some (.iload 8, 121, 0, 0) else none)) else (bif Nat.ble 116 pc then (bif Nat.beq pc 116 then some (.goto 0, 119, 304, 0) else none) else (bif Nat.beq pc 113 then some (.multianewarray 7 1, 116, 0, 0) else none))))) else (bif Nat.ble 92 pc then (bif Nat.ble 102 pc then (bif Nat.ble 106 pc then (bif Nat.ble 108 pc then (bif Nat.ble 110 pc then (bif Nat.beq pc 110 then some (.if_icmp .ne 0, 113, 119, 0) else none) else (bif Nat.beq pc 108 then some (.dload 48, 110, 0, 0) else none)) else (bif Nat.beq pc 106 then some (.iload 8, 108, 0, 0) else none)) else (bif Nat.ble 103 pc then (bif Nat.beq pc 103 then some (.goto 0, 106, 61, 0) else none) else (bif Nat.beq pc 102 then some (.pop, 103, 0, 0) else none))) else (bif Nat.ble 96 pc then (bif Nat.ble 99 pc then (bif Nat.beq pc 99 then some (.invokevirtual 21, 102, 120, 0) else none) else (bif Nat.beq pc 96 then some (.invokestatic 118, 99, 248, 0) else none)) else (bif Nat.ble 95 pc then (bif Nat.beq pc 95 then some (.baload, 96, 0, 0) else none) else (bif Nat.beq pc 92 then some (.multianewarray 7 1, 95, 0, 0) else none)))) else (bif Nat.ble 82 pc then (bif Nat.ble 86 pc then (bif Nat.ble 87 pc then (bif Nat.ble 90 pc then (bif Nat.beq pc 90 then some (.iload 7, 92, 0, 0) else none) else (bif Nat.beq pc 87 then some (.fload 6, 90, 241, 1) else none)) else (bif Nat.beq pc 86 then some (.aload_n 1, 87, 0, 0) else none)) else (bif Nat.ble 83 pc then (bif Nat.beq pc 83 then some (.fload 0, 86, 78, 9) else none) else (bif Nat.beq pc 82 then some (.aload_n 0, 83, 0, 0) else none))) else (bif Nat.ble 77 pc then (bif Nat.ble 79 pc then (bif Nat.beq pc 79 then some (.if_icmp .eq 0, 82, 304, 0) else none) else (bif Nat.beq pc 77 then some (.dload 32, 79, 0, 0) else none)) else (bif Nat.ble 74 pc then (bif Nat.beq pc 74 then some (.invokestatic 118, 77, 248, 0) else none) else (bif Nat.beq pc 73 then some (.baload, 74, 0, 0) else none)))))) else (bif Nat.ble 34 pc then (bif Nat.ble 51 pc then (bif Nat.ble 63 pc then (bif Nat.ble 67 pc then (bif Nat.ble 68 pc then (bif Nat.ble 71 pc then (bif Nat.beq pc 71 then some (.iload 7, 73, 0, 0) else none) else (bif Nat.beq pc 68 then some (.fload 6, 71, 241, 1) else none)) else (bif Nat.beq pc 67 then some (.aload_n 1, 68, 0, 0) else none)) else (bif Nat.ble 64 pc then (bif Nat.beq pc 64 then some (.if_icmp .ge 0, 67, 304, 0) else none) else (bif Nat.beq pc 63 then some (.iload_n 3, 64, 0, 0) else none))) else (bif Nat.ble 55 pc then (bif Nat.ble 58 pc then (bif Nat.ble 61 pc then (bif Nat.beq pc 61 then some (.iload 7, 63, 0, 0) else none) else (bif Nat.beq pc 58 then some (.multianewarray 7 1, 61, 0, 0) else none)) else (bif Nat.beq pc 55 then some (.if_icmp .ne 0, 58, 106, 0) else none)) else (bif Nat.ble 53 pc then (bif Nat.beq pc 53 then some (.dload 60, 55, 0, 0) else none) else (bif Nat.beq pc 51 then some (.iload 8, 53, 0, 0) else none)))) else (bif Nat.ble 42 pc then (bif Nat.ble 46 pc then (bif Nat.ble 48 pc then (bif Nat.ble 49 pc then (bif Nat.beq pc 49 then some (.istore 8, 51, 0, 0) else none) else (bif Nat.beq pc 48 then some (.baload, 49, 0, 0) else none)) else (bif Nat.beq pc 46 then some (.iload 7, 48, 0, 0) else none)) else (bif Nat.ble 43 pc then (bif Nat.beq pc 43 then some (.fload 6, 46, 241, 1) else none) else (bif Nat.beq pc 42 then some (.aload_n 1, 43, 0, 0) else none))) else (bif Nat.ble 38 pc then (bif Nat.ble 39 pc then (bif Nat.beq pc 39 then some (.if_icmp .ge 0, 42, 307, 0) else none) else (bif Nat.beq pc 38 then some (.iload_n 3, 39, 0, 0) else none)) else (bif Nat.ble 36 pc then (bif Nat.beq pc 36 then some (.iload 7, 38, 0, 0) else none) else (bif Nat.beq pc 34 then some (.istore 7, 36, 0, 0) else none))))) else (bif Nat.ble 16 pc then (bif Nat.ble 27 pc then (bif Nat.ble 30 pc then (bif Nat.ble 31 pc then (bif Nat.ble 33 pc then (bif Nat.beq pc 33 then some (.iload_n 2, 34, 0, 0) else none) else (bif Nat.beq pc 31 then some (.istore 6, 33, 0, 0) else none)) else (bif Nat.beq pc 30 then some (.dload 0, 31, 0, 0) else none)) else (bif Nat.ble 28 pc then (bif Nat.beq pc 28 then some (.istore 5, 30, 0, 0) else none) else (bif Nat.beq pc 27 then some (.dload 0, 28, 0, 0) else none))) else (bif Nat.ble 21 pc then (bif Nat.ble 24 pc then (bif Nat.beq pc 24 then some (.goto 0, 27, 3, 0) else none) else (bif Nat.beq pc 21 then some (.multianewarray 4 1, 24, 0, 0) else none)) else (bif Nat.ble 18 pc then (bif Nat.beq pc 18 then some (.if_icmp .ne 0, 21, 27, 0) else none) else (bif Nat.beq pc 16 then some (.dload 32, 18, 0, 0) else none)))) else (bif Nat.ble 6 pc then (bif Nat.ble 10 pc then (bif Nat.ble 13 pc then (bif Nat.ble 15 pc then (bif Nat.beq pc 15 then some (.baload, 16, 0, 0) else none) else (bif Nat.beq pc 13 then some (.iload 4, 15, 0, 0) else none)) else (bif Nat.beq pc 10 then some (.fload 6, 13, 241, 1) else none)) else (bif Nat.ble 9 pc then (bif Nat.beq pc 9 then some (.aload_n 1, 10, 0, 0) else none) else (bif Nat.beq pc 6 then some (.if_icmp .ge 0, 9, 27, 0) else none))) else (bif Nat.ble 3 pc then (bif Nat.ble 5 pc then (bif Nat.beq pc 5 then some (.iload_n 3, 6, 0, 0) else none) else (bif Nat.beq pc 3 then some (.iload 4, 5, 0, 0) else none)) else (bif Nat.ble 1 pc then (bif Nat.beq pc 1 then some (.istore 4, 3, 0, 0) else none) else (bif Nat.beq pc 0 then some (.iload_n 2, 1, 0, 0) else none)))))))
def mc_122 (pc : Nat) : Option (Instr × Nat × Nat × Nat) := bif Nat.ble 38 pc then (bif Nat.ble 63 pc then (bif Nat.ble 69 pc then (bif Nat.ble 76 pc then (bif Nat.ble 79 pc then (bif Nat.ble 82 pc then (bif Nat.beq pc 82 then some (.ireturn, 83, 0, 0) else none) else (bif Nat.beq pc 79 then some (.invokevirtual 13, 82, 113, 0) else none)) else (bif Nat.beq pc 76 then some (.fload 0, 79, 78, 9) else none)) else (bif Nat.ble 72 pc then (bif Nat.ble 75 pc then (bif Nat.beq pc 75 then some (.aload_n 0, 76, 0, 0) else none) else (bif Nat.beq pc 72 then some (.goto 0, 75, 16, 0) else none)) else (bif Nat.beq pc 69 then some (.invokevirtual 121, 72, 265, 0) else none))) else (bif Nat.ble 65 pc then (bif Nat.ble 66 pc then (bif Nat.ble 68 pc then (bif Nat.beq pc 68 then some (.iload_n 3, 69, 0, 0) else none) else (bif Nat.beq pc 66 then some (.iload 4, 68, 0, 0) else none)) else (bif Nat.beq pc 65 then some (.aload_n 2, 66, 0, 0) else none)) else (bif Nat.ble 64 pc then (bif Nat.beq pc 64 then some (.aload_n 0, 65, 0, 0) else none) else (bif Nat.beq pc 63 then some (.istore_n 3, 64, 0, 0) else none)))) else (bif Nat.ble 50 pc then (bif Nat.ble 57 pc then (bif Nat.ble 58 pc then (bif Nat.ble 60 pc then (bif Nat.beq pc 60 then some (.invokevirtual 116, 63, 262, 0) else none) else (bif Nat.beq pc 58 then some (.iload 4, 60, 0, 0) else none)) else (bif Nat.beq pc 57 then some (.aload_n 2, 58, 0, 0) else none)) else (bif Nat.ble 51 pc then (bif Nat.ble 54 pc then (bif Nat.beq pc 54 then some (.goto 0, 57, 34, 0) else none) else (bif Nat.beq pc 51 then some (.multianewarray 5 1, 54, 0, 0) else none)) else (bif Nat.beq pc 50 then some (.pop, 51, 0, 0) else none))) else (bif Nat.ble 42 pc then (bif Nat.ble 45 pc then (bif Nat.ble 47 pc then (bif Nat.beq pc 47 then some (.invokevirtual 21, 50, 120, 0) else none) else (bif Nat.beq pc 45 then some (.dload 32, 47, 0, 0) else none)) else (bif Nat.beq pc 42 then some (.fload 0, 45, 78, 9) else none)) else (bif Nat.ble 41 pc then (bif Nat.beq pc 41 then some (.aload_n 0, 42, 0, 0) else none) else (bif Nat.beq pc 38 then some (.if_icmp .ge 0, 41, 57, 0) else none))))) else (bif Nat.ble 17 pc then (bif Nat.ble 26 pc then (bif Nat.ble 32 pc then (bif Nat.ble 34 pc then (bif Nat.ble 36 pc then (bif Nat.beq pc 36 then some (.iload 4, 38, 0, 0) else none) else (bif Nat.beq pc 34 then some (.iload 5, 36, 0, 0) else none)) else (bif Nat.beq pc 32 then some (.istore 5, 34, 0, 0) else none)) else (bif Nat.ble 29 pc then (bif Nat.ble 31 pc then (bif Nat.beq pc 31 then some (.iload_n 3, 32, 0, 0) else none) else (bif Nat.beq pc 29 then some (.istore 4, 31, 0, 0) else none)) else (bif Nat.beq pc 26 then some (.invokevirtual 115, 29, 259, 0) else none))) else (bif Nat.ble 21 pc then (bif Nat.ble 24 pc then (bif Nat.ble 25 pc then (bif Nat.beq pc 25 then some (.iload_n 3, 26, 0, 0) else none) else (bif Nat.beq pc 24 then some (.aload_n 2, 25, 0, 0) else none)) else (bif Nat.beq pc 21 then some (.if_icmp .ge 0, 24, 75, 0) else none)) else (bif Nat.ble 18 pc then (bif Nat.beq pc 18 then some (.getfield 6, 21, 238, 3) else none) else (bif Nat.beq pc 17 then some (.aload_n 2, 18, 0, 0) else none)))) else (bif Nat.ble 7 pc then (bif Nat.ble 14 pc then (bif Nat.ble 15 pc then (bif Nat.ble 16 pc then (bif Nat.beq pc 16 then some (.iload_n 3, 17, 0, 0) else none) else (bif Nat.beq pc 15 then some (.istore_n 3, 16, 0, 0) else none)) else (bif Nat.beq pc 14 then some (.dload 0, 15, 0, 0) else none)) else (bif Nat.ble 10 pc then (bif Nat.ble 11 pc then (bif Nat.beq pc 11 then some (.invokevirtual 27, 14, 124, 0) else none) else (bif Nat.beq pc 10 then some (.dload 0, 11, 0, 0) else none)) else (bif Nat.beq pc 7 then some (.fload 0, 10, 78, 9) else none))) else (bif Nat.ble 2 pc then (bif Nat.ble 5 pc then (bif Nat.ble 6 pc then (bif Nat.beq pc 6 then some (.aload_n 0, 7, 0, 0) else none) else (bif Nat.beq pc 5 then some (.astore_n 2, 6, 0, 0) else none)) else (bif Nat.beq pc 2 then some (.invokevirtual 107, 5, 234, 0) else none)) else (bif Nat.ble 1 pc then (bif Nat.beq pc 1 then some (.iload_n 1, 2, 0, 0) else none) else (bif Nat.beq pc 0 then some (.aload_n 0, 1, 0, 0) else none)))))
def mc_123 (pc : Nat) : Option (Instr × Nat × Nat × Nat) := bif Nat.ble 8 pc then (bif Nat.ble 13 pc then (bif Nat.ble 15 pc then (bif Nat.ble 16 pc then (bif Nat.beq pc 16 then some (.ireturn, 17, 0, 0) else none) else (bif Nat.beq pc 15 then some (.dload 0, 16, 0, 0) else none)) else (bif Nat.ble 14 pc then (bif Nat.beq pc 14 then some (.ireturn, 15, 0, 0) else none) else (bif Nat.beq pc 13 then some (.dload 1, 14, 0, 0) else none))) else (bif Nat.ble 9 pc then (bif Nat.ble 12 pc then (bif Nat.beq pc 12 then some (.astore_n 3, 13, 0, 0) else none) else (bif Nat.beq pc 9 then some (.goto 0, 12, 15, 0) else none)) else (bif Nat.beq pc 8 then some (.lastore, 9, 0, 0) else none))) else (bif Nat.ble 3 pc then (bif Nat.ble 4 pc then (bif Nat.ble 7 pc then (bif Nat.beq pc 7 then some (.i2l, 8, 0, 0) else none) else (bif Nat.beq pc 4 then some (.invokevirtual 122, 7, 34, 0) else none)) else (bif Nat.beq pc 3 then some (.iload_n 1, 4, 0, 0) else none)) else (bif Nat.ble 1 pc then (bif Nat.ble 2 pc then (bif Nat.beq pc 2 then some (.aload_n 0, 3, 0, 0) else none) else (bif Nat.beq pc 1 then some (.dload 0, 2, 0, 0) else none)) else (bif Nat.beq pc 0 then some (.aload_n 2, 1, 0, 0) else none)))
def mc_124 (pc : Nat) : Option (Instr × Nat × Nat × Nat) := bif Nat.ble 38 pc then (bif Nat.ble 55 pc then (bif Nat.ble 66 pc then (bif Nat.ble 71 pc then (bif Nat.ble 74 pc then (bif Nat.ble 77 pc then (bif Nat.beq pc 77 then some (.return_, 78, 0, 0) else none) else (bif Nat.beq pc 74 then some (.putfield 7, 77, 139, 28) else none)) else (bif Nat.beq pc 71 then some (.getfield 7, 74, 139, 28) else none)) else (bif Nat.ble 67 pc then (bif Nat.ble 70 pc then (bif Nat.beq pc 70 then some (.aload_n 0, 71, 0, 0) else none) else (bif Nat.beq pc 67 then some (.goto 0, 70, 74, 0) else none)) else (bif Nat.beq pc 66 then some (.dload 0, 67, 0, 0) else none))) else (bif Nat.ble 59 pc then (bif Nat.ble 62 pc then (bif Nat.ble 63 pc then (bif Nat.beq pc 63 then some (.if_icmp .ne 0, 66, 70, 0) else none) else (bif Nat.beq pc 62 then some (.dload 1, 63, 0, 0) else none)) else (bif Nat.beq pc 59 then some (.getfield 7, 62, 139, 28) else none)) else (bif Nat.ble 58 pc then (bif Nat.beq pc 58 then some (.aload_n 0, 59, 0, 0) else none) else (bif Nat.beq pc 55 then some (.ifCond .eq 0, 58, 70, 0) else none)))) else (bif Nat.ble 45 pc then (bif Nat.ble 50 pc then (bif Nat.ble 53 pc then (bif Nat.ble 54 pc then (bif Nat.beq pc 54 then some (.iload_n 2, 55, 0, 0) else none) else (bif Nat.beq pc 53 then some (.aload_n 0, 54, 0, 0) else none)) else (bif Nat.beq pc 50 then some (.putfield 7, 53, 142, 17) else none)) else (bif Nat.ble 48 pc then (bif Nat.ble 49 pc then (bif Nat.beq pc 49 then some (.iadd, 50, 0, 0) else none) else (bif Nat.beq pc 48 then some (.dload 1, 49, 0, 0) else none)) else (bif Nat.beq pc 45 then some (.getfield 7, 48, 142, 17) else none))) else (bif Nat.ble 42 pc then (bif Nat.ble 43 pc then (bif Nat.ble 44 pc then (bif Nat.beq pc 44 then some (.dup, 45, 0, 0) else none) else (bif Nat.beq pc 43 then some (.aload_n 0, 44, 0, 0) else none)) else (bif Nat.beq pc 42 then some (.castore, 43, 0, 0) else none)) else (bif Nat.ble 41 pc then (bif Nat.beq pc 41 then some (.iload_n 1, 42, 0, 0) else none) else (bif Nat.beq pc 38 then some (.goto 0, 41, 42, 0) else none))))) else (bif Nat.ble 20 pc then (bif Nat.ble 29 pc then (bif Nat.ble 34 pc then (bif Nat.ble 36 pc then (bif Nat.ble 37 pc then (bif Nat.beq pc 37 then some (.i2c, 38, 0, 0) else none) else (bif Nat.beq pc 36 then some (.isub, 37, 0, 0) else none)) else (bif Nat.beq pc 34 then some (.dload 32, 36, 0, 0) else none)) else (bif Nat.ble 30 pc then (bif Nat.ble 33 pc then (bif Nat.beq pc 33 then some (.iload_n 1, 34, 0, 0) else none) else (bif Nat.beq pc 30 then some (.ifCond .eq 0, 33, 41, 0) else none)) else (bif Nat.beq pc 29 then some (.iload_n 2, 30, 0, 0) else none))) else (bif Nat.ble 22 pc then (bif Nat.ble 25 pc then (bif Nat.ble 26 pc then (bif Nat.beq pc 26 then some (.getfield 7, 29, 142, 17) else none) else (bif Nat.beq pc 25 then some (.aload_n 0, 26, 0, 0) else none)) else (bif Nat.beq pc 22 then some (.fload 7, 25, 45, 18) else none)) else (bif Nat.ble 21 pc then (bif Nat.beq pc 21 then some (.aload_n 0, 22, 0, 0) else none) else (bif Nat.beq pc 20 then some (.istore_n 2, 21, 0, 0) else none)))) else (bif Nat.ble 9 pc then (bif Nat.ble 15 pc then (bif Nat.ble 16 pc then (bif Nat.ble 19 pc then (bif Nat.beq pc 19 then some (.dload 0, 20, 0, 0) else none) else (bif Nat.beq pc 16 then some (.goto 0, 19, 20, 0) else none)) else (bif Nat.beq pc 15 then some (.dload 1, 16, 0, 0) else none)) else (bif Nat.ble 12 pc then (bif Nat.beq pc 12 then some (.ifCond .eq 0, 15, 19, 0) else none) else (bif Nat.beq pc 9 then some (.invokevirtual 52, 12, 66, 0) else none))) else (bif Nat.ble 4 pc then (bif Nat.ble 7 pc then (bif Nat.ble 8 pc then (bif Nat.beq pc 8 then some (.iload_n 1, 9, 0, 0) else none) else (bif Nat.beq pc 7 then some (.aload_n 0, 8, 0, 0) else none)) else (bif Nat.beq pc 4 then some (.ifCond .le 0, 7, 19, 0) else none)) else (bif Nat.ble 1 pc then (bif Nat.beq pc 1 then some (.getfield 7, 4, 139, 28) else none) else (bif Nat.beq pc 0 then some (.aload_n 0, 1, 0, 0) else none)))))
def mc_125 (pc : Nat) : Option (Instr × Nat × Nat × Nat) := bif Nat.ble 13 pc then (bif Nat.ble 19 pc then (bif Nat.ble 25 pc then (bif Nat.ble 26 pc then (bif Nat.beq pc 26 then some (.ireturn, 27, 0, 0) else none) else (bif Nat.beq pc 25 then some (.dstore 1, 26, 0, 0) else none)) else (bif Nat.ble 22 pc then (bif Nat.beq pc 22 then some (.goto 0, 25, 2, 0) else none) else (bif Nat.beq pc 19 then some (.multianewarray 2 1, 22, 0, 0) else none))) else (bif Nat.ble 17 pc then (bif Nat.ble 18 pc then (bif Nat.beq pc 18 then some (.ireturn, 19, 0, 0) else none) else (bif Nat.beq pc 17 then some (.iload_n 2, 18, 0, 0) else none)) else (bif Nat.ble 14 pc then (bif Nat.beq pc 14 then some (.if_icmp .ne 0, 17, 19, 0) else none) else (bif Nat.beq pc 13 then some (.iload_n 1, 14, 0, 0) else none)))) else (bif Nat.ble 5 pc then (bif Nat.ble 9 pc then (bif Nat.ble 10 pc then (bif Nat.beq pc 10 then some (.invokevirtual 104, 13, 128, 0) else none) else (bif Nat.beq pc 9 then some (.iload_n 2, 10, 0, 0) else none)) else (bif Nat.ble 8 pc then (bif Nat.beq pc 8 then some (.aload_n 0, 9, 0, 0) else none) else (bif Nat.beq pc 5 then some (.if_icmp .ge 0, 8, 25, 0) else none))) else (bif Nat.ble 2 pc then (bif Nat.ble 3 pc then (bif Nat.beq pc 3 then some (.dload 10, 5, 0, 0) else none) else (bif Nat.beq pc 2 then some (.iload_n 2, 3, 0, 0) else none)) else (bif Nat.ble 1 pc then (bif Nat.beq pc 1 then some (.istore_n 2, 2, 0, 0) else none) else (bif Nat.beq pc 0 then some (.dload 0, 1, 0, 0) else none))))
def mc_126 (pc : Nat) : Option (Instr × Nat × Nat × Nat) := bif Nat.ble 46 pc then (bif Nat.ble 72 pc then (bif Nat.ble 82 pc then (bif Nat.ble 88 pc then (bif Nat.ble 94 pc then (bif Nat.ble 96 pc then (bif Nat.beq pc 96 then some (.ireturn, 97, 0, 0) else none) else (bif Nat.beq pc 94 then some (.iload 6, 96, 0, 0) else none)) else (bif Nat.ble 91 pc then (bif Nat.beq pc 91 then some (.goto 0, 94, 46, 0) else none) else (bif Nat.beq pc 88 then some (.multianewarray 7 1, 91, 0, 0) else none))) else (bif Nat.ble 85 pc then (bif Nat.ble 86 pc then (bif Nat.beq pc 86 then some (.istore 6, 88, 0, 0) else none) else (bif Nat.beq pc 85 then some (.dload 0, 86, 0, 0) else none)) else (bif Nat.beq pc 82 then some (.goto 0, 85, 86, 0) else none))) else (bif Nat.ble 76 pc then (bif Nat.ble 78 pc then (bif Nat.ble 81 pc then (bif Nat.beq pc 81 then some (.dload 1, 82, 0, 0) else none) else (bif Nat.beq pc 78 then some (.if_icmp .ne 0, 81, 85, 0) else none)) else (bif Nat.ble 77 pc then (bif Nat.beq pc 77 then some (.iaload, 78, 0, 0) else none) else (bif Nat.beq pc 76 then some (.iadd, 77, 0, 0) else none))) else (bif Nat.ble 73 pc then (bif Nat.ble 74 pc then (bif Nat.beq pc 74 then some (.iload 7, 76, 0, 0) else none) else (bif Nat.beq pc 73 then some (.imul, 74, 0, 0) else none)) else (bif Nat.beq pc 72 then some (.iload_n 1, 73, 0, 0) else none)))) else (bif Nat.ble 62 pc then (bif Nat.ble 66 pc then (bif Nat.ble 68 pc then (bif Nat.ble 71 pc then (bif Nat.beq pc 71 then some (.dload 3, 72, 0, 0) else none) else (bif Nat.beq pc 68 then some (.fload 7, 71, 26, 10) else none)) else (bif Nat.ble 67 pc then (bif Nat.beq pc 67 then some (.aload_n 0, 68, 0, 0) else none) else (bif Nat.beq pc 66 then some (.iaload, 67, 0, 0) else none))) else (bif Nat.ble 63 pc then (bif Nat.ble 65 pc then (bif Nat.beq pc 65 then some (.iadd, 66, 0, 0) else none) else (bif Nat.beq pc 63 then some (.iload 7, 65, 0, 0) else none)) else (bif Nat.beq pc 62 then some (.iload_n 2, 63, 0, 0) else none))) else (bif Nat.ble 53 pc then (bif Nat.ble 58 pc then (bif Nat.ble 59 pc then (bif Nat.beq pc 59 then some (.fload 7, 62, 39, 15) else none) else (bif Nat.beq pc 58 then some (.aload_n 0, 59, 0, 0) else none)) else (bif Nat.ble 55 pc then (bif Nat.beq pc 55 then some (.ifCond .eq 0, 58, 94, 0) else none) else (bif Nat.beq pc 53 then some (.iload 6, 55, 0, 0) else none))) else (bif Nat.ble 48 pc then (bif Nat.ble 50 pc then (bif Nat.beq pc 50 then some (.if_icmp .ge 0, 53, 94, 0) else none) else (bif Nat.beq pc 48 then some (.iload 5, 50, 0, 0) else none)) else (bif Nat.beq pc 46 then some (.iload 7, 48, 0, 0) else none))))) else (bif Nat.ble 22 pc then (bif Nat.ble 33 pc then (bif Nat.ble 40 pc then (bif Nat.ble 43 pc then (bif Nat.ble 44 pc then (bif Nat.beq pc 44 then some (.istore 7, 46, 0, 0) else none) else (bif Nat.beq pc 43 then some (.dload 0, 44, 0, 0) else none)) else (bif Nat.ble 41 pc then (bif Nat.beq pc 41 then some (.istore 6, 43, 0, 0) else none) else (bif Nat.beq pc 40 then some (.dload 0, 41, 0, 0) else none))) else (bif Nat.ble 36 pc then (bif Nat.ble 37 pc then (bif Nat.beq pc 37 then some (.goto 0, 40, 41, 0) else none) else (bif Nat.beq pc 36 then some (.dload 1, 37, 0, 0) else none)) else (bif Nat.beq pc 33 then some (.ifCond .eq 0, 36, 40, 0) else none))) else (bif Nat.ble 25 pc then (bif Nat.ble 28 pc then (bif Nat.ble 30 pc then (bif Nat.beq pc 30 then some (.invokevirtual 99, 33, 103, 0) else none) else (bif Nat.beq pc 28 then some (.iload 4, 30, 0, 0) else none)) else (bif Nat.ble 27 pc then (bif Nat.beq pc 27 then some (.iload_n 3, 28, 0, 0) else none) else (bif Nat.beq pc 25 then some (.iload 5, 27, 0, 0) else none))) else (bif Nat.ble 23 pc then (bif Nat.ble 24 pc then (bif Nat.beq pc 24 then some (.iload_n 2, 25, 0, 0) else none) else (bif Nat.beq pc 23 then some (.iaload, 24, 0, 0) else none)) else (bif Nat.beq pc 22 then some (.iload_n 1, 23, 0, 0) else none)))) else (bif Nat.ble 9 pc then (bif Nat.ble 14 pc then (bif Nat.ble 18 pc then (bif Nat.ble 19 pc then (bif Nat.beq pc 19 then some (.fload 7, 22, 13, 6) else none) else (bif Nat.beq pc 18 then some (.aload_n 0, 19, 0, 0) else none)) else (bif Nat.ble 17 pc then (bif Nat.beq pc 17 then some (.aload_n 0, 18, 0, 0) else none) else (bif Nat.beq pc 14 then some (.if_icmp .gt 0, 17, 40, 0) else none))) else (bif Nat.ble 11 pc then (bif Nat.ble 12 pc then (bif Nat.beq pc 12 then some (.iload 4, 14, 0, 0) else none) else (bif Nat.beq pc 11 then some (.iadd, 12, 0, 0) else none)) else (bif Nat.beq pc 9 then some (.iload 5, 11, 0, 0) else none))) else (bif Nat.ble 5 pc then (bif Nat.ble 6 pc then (bif Nat.ble 8 pc then (bif Nat.beq pc 8 then some (.iload_n 2, 9, 0, 0) else none) else (bif Nat.beq pc 6 then some (.istore 5, 8, 0, 0) else none)) else (bif Nat.beq pc 5 then some (.iaload, 6, 0, 0) else none)) else (bif Nat.ble 1 pc then (bif Nat.ble 4 pc then (bif Nat.beq pc 4 then some (.iload_n 1, 5, 0, 0) else none) else (bif Nat.beq pc 1 then some (.fload 7, 4, 23, 9) else none)) else (bif Nat.beq pc 0 then some (.aload_n 0, 1, 0, 0) else none)))))
def mc_127 (pc : Nat) : Option (Instr × Nat × Nat × Nat) := bif Nat.ble 31 pc then (bif Nat.ble 50 pc then (bif Nat.ble 55 pc then (bif Nat.ble 57 pc then (bif Nat.ble 60 pc then (bif Nat.ble 62 pc then (bif Nat.beq pc 62 then some (.ireturn, 63, 0, 0) else none) else (bif Nat.beq pc 60 then some (.dload 35, 62, 0, 0) else none)) else (bif Nat.beq pc 57 then some (.goto 0, 60, 31, 0) else none)) else (bif Nat.ble 56 pc then (bif Nat.beq pc 56 then some (.istore_n 2, 57, 0, 0) else none) else (bif Nat.beq pc 55 then some (.i2c, 56, 0, 0) else none))) else (bif Nat.ble 52 pc then (bif Nat.ble 53 pc then (bif Nat.ble 54 pc then (bif Nat.beq pc 54 then some (.iadd, 55, 0, 0) else none) else (bif Nat.beq pc 53 then some (.dload 1, 54, 0, 0) else none)) else (bif Nat.beq pc 52 then some (.iload_n 2, 53, 0, 0) else none)) else (bif Nat.ble 51 pc then (bif Nat.beq pc 51 then some (.ireturn, 52, 0, 0) else none) else (bif Nat.beq pc 50 then some (.iload_n 2, 51, 0, 0) else none)))) else (bif Nat.ble 41 pc then (bif Nat.ble 43 pc then (bif Nat.ble 46 pc then (bif Nat.ble 47 pc then (bif Nat.beq pc 47 then some (.if_icmp .ne 0, 50, 52, 0) else none) else (bif Nat.beq pc 46 then some (.iload_n 1, 47, 0, 0) else none)) else (bif Nat.beq pc 43 then some (.invokevirtual 97, 46, 73, 0) else none)) else (bif Nat.ble 42 pc then (bif Nat.beq pc 42 then some (.iload_n 2, 43, 0, 0) else none) else (bif Nat.beq pc 41 then some (.aload_n 0, 42, 0, 0) else none))) else (bif Nat.ble 34 pc then (bif Nat.ble 37 pc then (bif Nat.ble 38 pc then (bif Nat.beq pc 38 then some (.ifCond .le 0, 41, 52, 0) else none) else (bif Nat.beq pc 37 then some (.iload_n 1, 38, 0, 0) else none)) else (bif Nat.beq pc 34 then some (.if_icmp .ge 0, 37, 60, 0) else none)) else (bif Nat.ble 32 pc then (bif Nat.beq pc 32 then some (.dload 65, 34, 0, 0) else none) else (bif Nat.beq pc 31 then some (.iload_n 2, 32, 0, 0) else none))))) else (bif Nat.ble 18 pc then (bif Nat.ble 23 pc then (bif Nat.ble 25 pc then (bif Nat.ble 28 pc then (bif Nat.ble 30 pc then (bif Nat.beq pc 30 then some (.istore_n 2, 31, 0, 0) else none) else (bif Nat.beq pc 28 then some (.dload 33, 30, 0, 0) else none)) else (bif Nat.beq pc 25 then some (.goto 0, 28, 3, 0) else none)) else (bif Nat.ble 24 pc then (bif Nat.beq pc 24 then some (.istore_n 2, 25, 0, 0) else none) else (bif Nat.beq pc 23 then some (.i2c, 24, 0, 0) else none))) else (bif Nat.ble 20 pc then (bif Nat.ble 21 pc then (bif Nat.ble 22 pc then (bif Nat.beq pc 22 then some (.iadd, 23, 0, 0) else none) else (bif Nat.beq pc 21 then some (.dload 1, 22, 0, 0) else none)) else (bif Nat.beq pc 20 then some (.iload_n 2, 21, 0, 0) else none)) else (bif Nat.ble 19 pc then (bif Nat.beq pc 19 then some (.ireturn, 20, 0, 0) else none) else (bif Nat.beq pc 18 then some (.iload_n 2, 19, 0, 0) else none)))) else (bif Nat.ble 9 pc then (bif Nat.ble 11 pc then (bif Nat.ble 14 pc then (bif Nat.ble 15 pc then (bif Nat.beq pc 15 then some (.if_icmp .ne 0, 18, 20, 0) else none) else (bif Nat.beq pc 14 then some (.iload_n 1, 15, 0, 0) else none)) else (bif Nat.beq pc 11 then some (.invokevirtual 102, 14, 77, 0) else none)) else (bif Nat.ble 10 pc then (bif Nat.beq pc 10 then some (.iload_n 2, 11, 0, 0) else none) else (bif Nat.beq pc 9 then some (.aload_n 0, 10, 0, 0) else none))) else (bif Nat.ble 3 pc then (bif Nat.ble 4 pc then (bif Nat.ble 6 pc then (bif Nat.beq pc 6 then some (.if_icmp .gt 0, 9, 28, 0) else none) else (bif Nat.beq pc 4 then some (.dload 122, 6, 0, 0) else none)) else (bif Nat.beq pc 3 then some (.iload_n 2, 4, 0, 0) else none)) else (bif Nat.ble 2 pc then (bif Nat.beq pc 2 then some (.istore_n 2, 3, 0, 0) else none) else (bif Nat.beq pc 0 then some (.dload 97, 2, 0, 0) else none)))))
def mc_128 (pc : Nat) : Option (Instr × Nat × Nat × Nat) := bif Nat.ble 89 pc then (bif Nat.ble 136 pc then (bif Nat.ble 158 pc then (bif Nat.ble 171 pc then (bif Nat.ble 176 pc then (bif Nat.ble 179 pc then (bif Nat.ble 180 pc then (bif Nat.beq pc 180 then some (.ireturn, 181, 0, 0) else none) else (bif Nat.beq pc 179 then some (.iadd, 180, 0, 0) else none)) else (bif Nat.ble 178 pc then (bif Nat.beq pc 178 then some (.iaload, 179, 0, 0) else none) else (bif Nat.beq pc 176 then some (.iload 4, 178, 0, 0) else none))) else (bif Nat.ble 172 pc then (bif Nat.ble 173 pc then (bif Nat.beq pc 173 then some (.fload 7, 176, 23, 9) else none) else (bif Nat.beq pc 172 then some (.aload_n 0, 173, 0, 0) else none)) else (bif Nat.beq pc 171 then some (.iload_n 1, 172, 0, 0) else none))) else (bif Nat.ble 162 pc then (bif Nat.ble 165 pc then (bif Nat.ble 168 pc then (bif Nat.beq pc 168 then some (.goto 0, 171, 136, 0) else none) else (bif Nat.beq pc 165 then some (.multianewarray 5 1, 168, 0, 0) else none)) else (bif Nat.beq pc 162 then some (.invokevirtual 124, 165, 153, 0) else none)) else (bif Nat.ble 160 pc then (bif Nat.ble 161 pc then (bif Nat.beq pc 161 then some (.caload, 162, 0, 0) else none) else (bif Nat.beq pc 160 then some (.iadd, 161, 0, 0) else none)) else (bif Nat.beq pc 158 then some (.iload 5, 160, 0, 0) else none)))) else (bif Nat.ble 148 pc then (bif Nat.ble 153 pc then (bif Nat.ble 155 pc then (bif Nat.ble 157 pc then (bif Nat.beq pc 157 then some (.imul, 158, 0, 0) else none) else (bif Nat.beq pc 155 then some (.iload 4, 157, 0, 0) else none)) else (bif Nat.beq pc 153 then some (.dload 6, 155, 0, 0) else none)) else (bif Nat.ble 149 pc then (bif Nat.ble 150 pc then (bif Nat.beq pc 150 then some (.fload 7, 153, 20, 8) else none) else (bif Nat.beq pc 149 then some (.aload_n 0, 150, 0, 0) else none)) else (bif Nat.beq pc 148 then some (.aload_n 0, 149, 0, 0) else none))) else (bif Nat.ble 142 pc then (bif Nat.ble 144 pc then (bif Nat.ble 145 pc then (bif Nat.beq pc 145 then some (.if_icmp .ge 0, 148, 171, 0) else none) else (bif Nat.beq pc 144 then some (.iaload, 145, 0, 0) else none)) else (bif Nat.beq pc 142 then some (.iload 4, 144, 0, 0) else none)) else (bif Nat.ble 138 pc then (bif Nat.ble 139 pc then (bif Nat.beq pc 139 then some (.fload 7, 142, 17, 7) else none) else (bif Nat.beq pc 138 then some (.aload_n 0, 139, 0, 0) else none)) else (bif Nat.beq pc 136 then some (.iload 5, 138, 0, 0) else none))))) else (bif Nat.ble 117 pc then (bif Nat.ble 129 pc then (bif Nat.ble 132 pc then (bif Nat.ble 133 pc then (bif Nat.ble 134 pc then (bif Nat.beq pc 134 then some (.istore 5, 136, 0, 0) else none) else (bif Nat.beq pc 133 then some (.dload 0, 134, 0, 0) else none)) else (bif Nat.beq pc 132 then some (.ireturn, 133, 0, 0) else none)) else (bif Nat.ble 130 pc then (bif Nat.ble 131 pc then (bif Nat.beq pc 131 then some (.iadd, 132, 0, 0) else none) else (bif Nat.beq pc 130 then some (.dload 1, 131, 0, 0) else none)) else (bif Nat.beq pc 129 then some (.iload_n 1, 130, 0, 0) else none))) else (bif Nat.ble 122 pc then (bif Nat.ble 123 pc then (bif Nat.ble 126 pc then (bif Nat.beq pc 126 then some (.invokevirtual 124, 129, 153, 0) else none) else (bif Nat.beq pc 123 then some (.invokevirtual 127, 126, 149, 0) else none)) else (bif Nat.beq pc 122 then some (.iaload, 123, 0, 0) else none)) else (bif Nat.ble 118 pc then (bif Nat.ble 121 pc then (bif Nat.beq pc 121 then some (.iload_n 1, 122, 0, 0) else none) else (bif Nat.beq pc 118 then some (.fload 7, 121, 39, 15) else none)) else (bif Nat.beq pc 117 then some (.aload_n 0, 118, 0, 0) else none)))) else (bif Nat.ble 104 pc then (bif Nat.ble 112 pc then (bif Nat.ble 115 pc then (bif Nat.ble 116 pc then (bif Nat.beq pc 116 then some (.aload_n 0, 117, 0, 0) else none) else (bif Nat.beq pc 115 then some (.aload_n 0, 116, 0, 0) else none)) else (bif Nat.beq pc 112 then some (.ifCond .ge 0, 115, 133, 0) else none)) else (bif Nat.ble 107 pc then (bif Nat.ble 110 pc then (bif Nat.beq pc 110 then some (.iload 4, 112, 0, 0) else none) else (bif Nat.beq pc 107 then some (.goto 0, 110, 6, 0) else none)) else (bif Nat.beq pc 104 then some (.multianewarray 5 1, 107, 0, 0) else none))) else (bif Nat.ble 97 pc then (bif Nat.ble 100 pc then (bif Nat.ble 102 pc then (bif Nat.beq pc 102 then some (.istore 4, 104, 0, 0) else none) else (bif Nat.beq pc 100 then some (.iload 4, 102, 0, 0) else none)) else (bif Nat.beq pc 97 then some (.goto 0, 100, 102, 0) else none)) else (bif Nat.ble 92 pc then (bif Nat.ble 95 pc then (bif Nat.beq pc 95 then some (.iload 5, 97, 0, 0) else none) else (bif Nat.beq pc 92 then some (.ifCond .eq 0, 95, 100, 0) else none)) else (bif Nat.beq pc 89 then some (.invokevirtual 126, 92, 145, 0) else none)))))) else (bif Nat.ble 45 pc then (bif Nat.ble 68 pc then (bif Nat.ble 80 pc then (bif Nat.ble 86 pc then (bif Nat.ble 87 pc then (bif Nat.ble 88 pc then (bif Nat.beq pc 88 then some (.iload_n 3, 89, 0, 0) else none) else (bif Nat.beq pc 87 then some (.iload_n 2, 88, 0, 0) else none)) else (bif Nat.beq pc 86 then some (.iload_n 1, 87, 0, 0) else none)) else (bif Nat.ble 83 pc then (bif Nat.ble 84 pc then (bif Nat.beq pc 84 then some (.iload 5, 86, 0, 0) else none) else (bif Nat.beq pc 83 then some (.aload_n 0, 84, 0, 0) else none)) else (bif Nat.beq pc 80 then some (.ifCond .eq 0, 83, 100, 0) else none))) else (bif Nat.ble 75 pc then (bif Nat.ble 76 pc then (bif Nat.ble 78 pc then (bif Nat.beq pc 78 then some (.iload 6, 80, 0, 0) else none) else (bif Nat.beq pc 76 then some (.istore 6, 78, 0, 0) else none)) else (bif Nat.beq pc 75 then some (.dload 0, 76, 0, 0) else none)) else (bif Nat.ble 71 pc then (bif Nat.ble 72 pc then (bif Nat.beq pc 72 then some (.goto 0, 75, 76, 0) else none) else (bif Nat.beq pc 71 then some (.dload 1, 72, 0, 0) else none)) else (bif Nat.beq pc 68 then some (.if_icmp .ge 0, 71, 75, 0) else none)))) else (bif Nat.ble 58 pc then (bif Nat.ble 62 pc then (bif Nat.ble 65 pc then (bif Nat.ble 67 pc then (bif Nat.beq pc 67 then some (.iaload, 68, 0, 0) else none) else (bif Nat.beq pc 65 then some (.iload 4, 67, 0, 0) else none)) else (bif Nat.beq pc 62 then some (.fload 7, 65, 13, 6) else none)) else (bif Nat.ble 60 pc then (bif Nat.ble 61 pc then (bif Nat.beq pc 61 then some (.aload_n 0, 62, 0, 0) else none) else (bif Nat.beq pc 60 then some (.iaload, 61, 0, 0) else none)) else (bif Nat.beq pc 58 then some (.iload 5, 60, 0, 0) else none))) else (bif Nat.ble 51 pc then (bif Nat.ble 54 pc then (bif Nat.ble 55 pc then (bif Nat.beq pc 55 then some (.fload 7, 58, 13, 6) else none) else (bif Nat.beq pc 54 then some (.aload_n 0, 55, 0, 0) else none)) else (bif Nat.beq pc 51 then some (.if_icmp .ne 0, 54, 75, 0) else none)) else (bif Nat.ble 48 pc then (bif Nat.ble 50 pc then (bif Nat.beq pc 50 then some (.iaload, 51, 0, 0) else none) else (bif Nat.beq pc 48 then some (.iload 4, 50, 0, 0) else none)) else (bif Nat.beq pc 45 then some (.fload 7, 48, 23, 9) else none))))) else (bif Nat.ble 24 pc then (bif Nat.ble 34 pc then (bif Nat.ble 41 pc then (bif Nat.ble 43 pc then (bif Nat.ble 44 pc then (bif Nat.beq pc 44 then some (.aload_n 0, 45, 0, 0) else none) else (bif Nat.beq pc 43 then some (.iaload, 44, 0, 0) else none)) else (bif Nat.beq pc 41 then some (.iload 5, 43, 0, 0) else none)) else (bif Nat.ble 37 pc then (bif Nat.ble 38 pc then (bif Nat.beq pc 38 then some (.fload 7, 41, 23, 9) else none) else (bif Nat.beq pc 37 then some (.aload_n 0, 38, 0, 0) else none)) else (bif Nat.beq pc 34 then some (.if_icmp .gt 0, 37, 71, 0) else none))) else (bif Nat.ble 28 pc then (bif Nat.ble 31 pc then (bif Nat.ble 33 pc then (bif Nat.beq pc 33 then some (.iaload, 34, 0, 0) else none) else (bif Nat.beq pc 31 then some (.iload 4, 33, 0, 0) else none)) else (bif Nat.beq pc 28 then some (.fload 7, 31, 23, 9) else none)) else (bif Nat.ble 26 pc then (bif Nat.ble 27 pc then (bif Nat.beq pc 27 then some (.aload_n 0, 28, 0, 0) else none) else (bif Nat.beq pc 26 then some (.iaload, 27, 0, 0) else none)) else (bif Nat.beq pc 24 then some (.iload 5, 26, 0, 0) else none)))) else (bif Nat.ble 9 pc then (bif Nat.ble 17 pc then (bif Nat.ble 20 pc then (bif Nat.ble 21 pc then (bif Nat.beq pc 21 then some (.fload 7, 24, 23, 9) else none) else (bif Nat.beq pc 20 then some (.aload_n 0, 21, 0, 0) else none)) else (bif Nat.beq pc 17 then some (.ifCond .lt 0, 20, 71, 0) else none)) else (bif Nat.ble 12 pc then (bif Nat.ble 15 pc then (bif Nat.beq pc 15 then some (.iload 4, 17, 0, 0) else none) else (bif Nat.beq pc 12 then some (.if_icmp .ge 0, 15, 110, 0) else none)) else (bif Nat.beq pc 9 then some (.getfield 7, 12, 83, 5) else none))) else (bif Nat.ble 4 pc then (bif Nat.ble 6 pc then (bif Nat.ble 8 pc then (bif Nat.beq pc 8 then some (.aload_n 0, 9, 0, 0) else none) else (bif Nat.beq pc 6 then some (.iload 5, 8, 0, 0) else none)) else (bif Nat.beq pc 4 then some (.istore 5, 6, 0, 0) else none)) else (bif Nat.ble 1 pc then (bif Nat.ble 3 pc then (bif Nat.beq pc 3 then some (.dload 0, 4, 0, 0) else none) else (bif Nat.beq pc 1 then some (.istore 4, 3, 0, 0) else none)) else (bif Nat.beq pc 0 then some (.dstore 1, 1, 0, 0) else none))))))
def mc_129 (pc : Nat) : Option (Instr × Nat × Nat × Nat) := bif Nat.ble 92 pc then (bif Nat.ble 146 pc then (bif Nat.ble 171 pc then (bif Nat.ble 183 pc then (bif Nat.ble 187 pc then (bif Nat.ble 192 pc then (bif Nat.ble 195 pc then (bif Nat.beq pc 195 then some (.return_, 196, 0, 0) else none) else (bif Nat.beq pc 192 then some (.goto 0, 195, 32, 0) else none)) else (bif Nat.ble 190 pc then (bif Nat.beq pc 190 then some (.istore 4, 192, 0, 0) else none) else (bif Nat.beq pc 187 then some (.invokevirtual 128, 190, 160, 0) else none))) else (bif Nat.ble 185 pc then (bif Nat.ble 186 pc then (bif Nat.beq pc 186 then some (.iload_n 2, 187, 0, 0) else none) else (bif Nat.beq pc 185 then some (.iload_n 3, 186, 0, 0) else none)) else (bif Nat.beq pc 183 then some (.iload 4, 185, 0, 0) else none))) else (bif Nat.ble 176 pc then (bif Nat.ble 179 pc then (bif Nat.ble 182 pc then (bif Nat.beq pc 182 then some (.aload_n 0, 183, 0, 0) else none) else (bif Nat.beq pc 179 then some (.goto 0, 182, 192, 0) else none)) else (bif Nat.beq pc 176 then some (.putfield 7, 179, 139, 28) else none)) else (bif Nat.ble 172 pc then (bif Nat.ble 175 pc then (bif Nat.beq pc 175 then some (.dload 1, 176, 0, 0) else none) else (bif Nat.beq pc 172 then some (.goto 0, 175, 176, 0) else none)) else (bif Nat.beq pc 171 then some (.dload 2, 172, 0, 0) else none)))) else (bif Nat.ble 159 pc then (bif Nat.ble 164 pc then (bif Nat.ble 167 pc then (bif Nat.ble 168 pc then (bif Nat.beq pc 168 then some (.if_icmp .ne 0, 171, 175, 0) else none) else (bif Nat.beq pc 167 then some (.dload 2, 168, 0, 0) else none)) else (bif Nat.beq pc 164 then some (.getfield 7, 167, 139, 28) else none)) else (bif Nat.ble 160 pc then (bif Nat.ble 163 pc then (bif Nat.beq pc 163 then some (.aload_n 0, 164, 0, 0) else none) else (bif Nat.beq pc 160 then some (.goto 0, 163, 176, 0) else none)) else (bif Nat.beq pc 159 then some (.dload 2, 160, 0, 0) else none))) else (bif Nat.ble 153 pc then (bif Nat.ble 155 pc then (bif Nat.ble 156 pc then (bif Nat.beq pc 156 then some (.if_icmp .le 0, 159, 163, 0) else none) else (bif Nat.beq pc 155 then some (.dload 1, 156, 0, 0) else none)) else (bif Nat.beq pc 153 then some (.iload 6, 155, 0, 0) else none)) else (bif Nat.ble 149 pc then (bif Nat.ble 152 pc then (bif Nat.beq pc 152 then some (.aload_n 0, 153, 0, 0) else none) else (bif Nat.beq pc 149 then some (.goto 0, 152, 125, 0) else none)) else (bif Nat.beq pc 146 then some (.multianewarray 6 1, 149, 0, 0) else none))))) else (bif Nat.ble 122 pc then (bif Nat.ble 132 pc then (bif Nat.ble 138 pc then (bif Nat.ble 140 pc then (bif Nat.ble 143 pc then (bif Nat.beq pc 143 then some (.multianewarray 4 1, 146, 0, 0) else none) else (bif Nat.beq pc 140 then some (.if_icmp .ne 0, 143, 152, 0) else none)) else (bif Nat.beq pc 138 then some (.dload 32, 140, 0, 0) else none)) else (bif Nat.ble 135 pc then (bif Nat.ble 137 pc then (bif Nat.beq pc 137 then some (.iaload, 138, 0, 0) else none) else (bif Nat.beq pc 135 then some (.iload 4, 137, 0, 0) else none)) else (bif Nat.beq pc 132 then some (.fload 7, 135, 39, 15) else none))) else (bif Nat.ble 127 pc then (bif Nat.ble 128 pc then (bif Nat.ble 131 pc then (bif Nat.beq pc 131 then some (.aload_n 0, 132, 0, 0) else none) else (bif Nat.beq pc 128 then some (.if_icmp .ge 0, 131, 152, 0) else none)) else (bif Nat.beq pc 127 then some (.iload_n 2, 128, 0, 0) else none)) else (bif Nat.ble 123 pc then (bif Nat.ble 125 pc then (bif Nat.beq pc 125 then some (.iload 4, 127, 0, 0) else none) else (bif Nat.beq pc 123 then some (.istore 6, 125, 0, 0) else none)) else (bif Nat.beq pc 122 then some (.dload 0, 123, 0, 0) else none)))) else (bif Nat.ble 106 pc then (bif Nat.ble 115 pc then (bif Nat.ble 117 pc then (bif Nat.ble 119 pc then (bif Nat.beq pc 119 then some (.if_icmp .ne 0, 122, 182, 0) else none) else (bif Nat.beq pc 117 then some (.dload 32, 119, 0, 0) else none)) else (bif Nat.beq pc 115 then some (.iload 5, 117, 0, 0) else none)) else (bif Nat.ble 109 pc then (bif Nat.ble 112 pc then (bif Nat.beq pc 112 then some (.goto 0, 115, 192, 0) else none) else (bif Nat.beq pc 109 then some (.multianewarray 4 1, 112, 0, 0) else none)) else (bif Nat.beq pc 106 then some (.if_icmp .ne 0, 109, 115, 0) else none))) else (bif Nat.ble 99 pc then (bif Nat.ble 102 pc then (bif Nat.ble 104 pc then (bif Nat.beq pc 104 then some (.dload 48, 106, 0, 0) else none) else (bif Nat.beq pc 102 then some (.iload 5, 104, 0, 0) else none)) else (bif Nat.beq pc 99 then some (.goto 0, 102, 57, 0) else none)) else (bif Nat.ble 93 pc then (bif Nat.ble 96 pc then (bif Nat.beq pc 96 then some (.multianewarray 4 1, 99, 0, 0) else none) else (bif Nat.beq pc 93 then some (.invokevirtual 124, 96, 153, 0) else none)) else (bif Nat.beq pc 92 then some (.i2c, 93, 0, 0) else none)))))) else (bif Nat.ble 44 pc then (bif Nat.ble 68 pc then (bif Nat.ble 80 pc then (bif Nat.ble 85 pc then (bif Nat.ble 88 pc then (bif Nat.ble 91 pc then (bif Nat.beq pc 91 then some (.iadd, 92, 0, 0) else none) else (bif Nat.beq pc 88 then some (.invokevirtual 125, 91, 157, 0) else none)) else (bif Nat.ble 87 pc then (bif Nat.beq pc 87 then some (.iaload, 88, 0, 0) else none) else (bif Nat.beq pc 85 then some (.iload 4, 87, 0, 0) else none))) else (bif Nat.ble 81 pc then (bif Nat.ble 82 pc then (bif Nat.beq pc 82 then some (.fload 7, 85, 39, 15) else none) else (bif Nat.beq pc 81 then some (.aload_n 0, 82, 0, 0) else none)) else (bif Nat.beq pc 80 then some (.aload_n 0, 81, 0, 0) else none))) else (bif Nat.ble 74 pc then (bif Nat.ble 77 pc then (bif Nat.ble 78 pc then (bif Nat.beq pc 78 then some (.dload 48, 80, 0, 0) else none) else (bif Nat.beq pc 77 then some (.aload_n 0, 78, 0, 0) else none)) else (bif Nat.beq pc 74 then some (.ifCond .lt 0, 77, 192, 0) else none)) else (bif Nat.ble 70 pc then (bif Nat.ble 71 pc then (bif Nat.beq pc 71 then some (.invokevirtual 125, 74, 157, 0) else none) else (bif Nat.beq pc 70 then some (.iaload, 71, 0, 0) else none)) else (bif Nat.beq pc 68 then some (.iload 4, 70, 0, 0) else none)))) else (bif Nat.ble 57 pc then (bif Nat.ble 63 pc then (bif Nat.ble 64 pc then (bif Nat.ble 65 pc then (bif Nat.beq pc 65 then some (.fload 7, 68, 39, 15) else none) else (bif Nat.beq pc 64 then some (.aload_n 0, 65, 0, 0) else none)) else (bif Nat.beq pc 63 then some (.aload_n 0, 64, 0, 0) else none)) else (bif Nat.ble 59 pc then (bif Nat.ble 60 pc then (bif Nat.beq pc 60 then some (.if_icmp .ge 0, 63, 192, 0) else none) else (bif Nat.beq pc 59 then some (.iload_n 2, 60, 0, 0) else none)) else (bif Nat.beq pc 57 then some (.iload 4, 59, 0, 0) else none))) else (bif Nat.ble 49 pc then (bif Nat.ble 51 pc then (bif Nat.ble 54 pc then (bif Nat.beq pc 54 then some (.multianewarray 4 1, 57, 0, 0) else none) else (bif Nat.beq pc 51 then some (.if_icmp .ne 0, 54, 102, 0) else none)) else (bif Nat.beq pc 49 then some (.dload 60, 51, 0, 0) else none)) else (bif Nat.ble 45 pc then (bif Nat.ble 47 pc then (bif Nat.beq pc 47 then some (.iload 5, 49, 0, 0) else none) else (bif Nat.beq pc 45 then some (.istore 5, 47, 0, 0) else none)) else (bif Nat.beq pc 44 then some (.iaload, 45, 0, 0) else none))))) else (bif Nat.ble 21 pc then (bif Nat.ble 32 pc then (bif Nat.ble 38 pc then (bif Nat.ble 39 pc then (bif Nat.ble 42 pc then (bif Nat.beq pc 42 then some (.iload 4, 44, 0, 0) else none) else (bif Nat.beq pc 39 then some (.fload 7, 42, 39, 15) else none)) else (bif Nat.beq pc 38 then some (.aload_n 0, 39, 0, 0) else none)) else (bif Nat.ble 34 pc then (bif Nat.ble 35 pc then (bif Nat.beq pc 35 then some (.if_icmp .ge 0, 38, 195, 0) else none) else (bif Nat.beq pc 34 then some (.iload_n 2, 35, 0, 0) else none)) else (bif Nat.beq pc 32 then some (.iload 4, 34, 0, 0) else none))) else (bif Nat.ble 26 pc then (bif Nat.ble 29 pc then (bif Nat.ble 30 pc then (bif Nat.beq pc 30 then some (.istore 4, 32, 0, 0) else none) else (bif Nat.beq pc 29 then some (.iload_n 1, 30, 0, 0) else none)) else (bif Nat.beq pc 26 then some (.putfield 7, 29, 139, 28) else none)) else (bif Nat.ble 24 pc then (bif Nat.ble 25 pc then (bif Nat.beq pc 25 then some (.dload 0, 26, 0, 0) else none) else (bif Nat.beq pc 24 then some (.aload_n 0, 25, 0, 0) else none)) else (bif Nat.beq pc 21 then some (.goto 0, 24, 2, 0) else none)))) else (bif Nat.ble 8 pc then (bif Nat.ble 13 pc then (bif Nat.ble 15 pc then (bif Nat.ble 18 pc then (bif Nat.beq pc 18 then some (.multianewarray 3 1, 21, 0, 0) else none) else (bif Nat.beq pc 15 then some (.if_icmp .ne 0, 18, 24, 0) else none)) else (bif Nat.beq pc 13 then some (.dload 32, 15, 0, 0) else none)) else (bif Nat.ble 11 pc then (bif Nat.ble 12 pc then (bif Nat.beq pc 12 then some (.iaload, 13, 0, 0) else none) else (bif Nat.beq pc 11 then some (.iload_n 3, 12, 0, 0) else none)) else (bif Nat.beq pc 8 then some (.fload 7, 11, 39, 15) else none))) else (bif Nat.ble 3 pc then (bif Nat.ble 4 pc then (bif Nat.ble 7 pc then (bif Nat.beq pc 7 then some (.aload_n 0, 8, 0, 0) else none) else (bif Nat.beq pc 4 then some (.if_icmp .ge 0, 7, 24, 0) else none)) else (bif Nat.beq pc 3 then some (.iload_n 2, 4, 0, 0) else none)) else (bif Nat.ble 1 pc then (bif Nat.ble 2 pc then (bif Nat.beq pc 2 then some (.iload_n 3, 3, 0, 0) else none) else (bif Nat.beq pc 1 then some (.istore_n 3, 2, 0, 0) else none)) else (bif Nat.beq pc 0 then some (.iload_n 1, 1, 0, 0) else none))))))
def mc_130 (pc : Nat) : Option (Instr × Nat × Nat × Nat) := bif Nat.ble 51 pc then (bif Nat.ble 82 pc then (bif Nat.ble 99 pc then (bif Nat.ble 107 pc then (bif Nat.ble 111 pc then (bif Nat.ble 114 pc then (bif Nat.beq pc 114 then some (.ireturn, 115, 0, 0) else none) else (bif Nat.beq pc 111 then some (.getfield 7, 114, 142, 17) else none)) else (bif Nat.ble 110 pc then (bif Nat.beq pc 110 then some (.aload_n 0, 111, 0, 0) else none) else (bif Nat.beq pc 107 then some (.goto 0, 110, 46, 0) else none))) else (bif Nat.ble 104 pc then (bif Nat.ble 106 pc then (bif Nat.beq pc 106 then some (.istore_n 2, 107, 0, 0) else none) else (bif Nat.beq pc 104 then some (.iload 4, 106, 0, 0) else none)) else (bif Nat.ble 101 pc then (bif Nat.beq pc 101 then some (.invokevirtual 129, 104, 164, 0) else none) else (bif Nat.beq pc 99 then some (.iload 4, 101, 0, 0) else none)))) else (bif Nat.ble 91 pc then (bif Nat.ble 97 pc then (bif Nat.ble 98 pc then (bif Nat.beq pc 98 then some (.iload_n 2, 99, 0, 0) else none) else (bif Nat.beq pc 97 then some (.aload_n 0, 98, 0, 0) else none)) else (bif Nat.ble 94 pc then (bif Nat.beq pc 94 then some (.goto 0, 97, 75, 0) else none) else (bif Nat.beq pc 91 then some (.multianewarray 4 1, 94, 0, 0) else none))) else (bif Nat.ble 87 pc then (bif Nat.ble 88 pc then (bif Nat.beq pc 88 then some (.ifCond .eq 0, 91, 97, 0) else none) else (bif Nat.beq pc 87 then some (.iaload, 88, 0, 0) else none)) else (bif Nat.ble 85 pc then (bif Nat.beq pc 85 then some (.iload 4, 87, 0, 0) else none) else (bif Nat.beq pc 82 then some (.fload 7, 85, 39, 15) else none))))) else (bif Nat.ble 66 pc then (bif Nat.ble 75 pc then (bif Nat.ble 78 pc then (bif Nat.ble 81 pc then (bif Nat.beq pc 81 then some (.aload_n 0, 82, 0, 0) else none) else (bif Nat.beq pc 78 then some (.if_icmp .ge 0, 81, 97, 0) else none)) else (bif Nat.ble 77 pc then (bif Nat.beq pc 77 then some (.iload_n 3, 78, 0, 0) else none) else (bif Nat.beq pc 75 then some (.iload 4, 77, 0, 0) else none))) else (bif Nat.ble 72 pc then (bif Nat.ble 73 pc then (bif Nat.beq pc 73 then some (.istore 4, 75, 0, 0) else none) else (bif Nat.beq pc 72 then some (.iload_n 2, 73, 0, 0) else none)) else (bif Nat.ble 69 pc then (bif Nat.beq pc 69 then some (.goto 0, 72, 46, 0) else none) else (bif Nat.beq pc 66 then some (.multianewarray 2 1, 69, 0, 0) else none)))) else (bif Nat.ble 57 pc then (bif Nat.ble 61 pc then (bif Nat.ble 63 pc then (bif Nat.beq pc 63 then some (.invokevirtual 124, 66, 153, 0) else none) else (bif Nat.beq pc 61 then some (.dload 32, 63, 0, 0) else none)) else (bif Nat.ble 60 pc then (bif Nat.beq pc 60 then some (.aload_n 0, 61, 0, 0) else none) else (bif Nat.beq pc 57 then some (.ifCond .ne 0, 60, 72, 0) else none))) else (bif Nat.ble 55 pc then (bif Nat.ble 56 pc then (bif Nat.beq pc 56 then some (.iaload, 57, 0, 0) else none) else (bif Nat.beq pc 55 then some (.iload_n 2, 56, 0, 0) else none)) else (bif Nat.ble 52 pc then (bif Nat.beq pc 52 then some (.fload 7, 55, 39, 15) else none) else (bif Nat.beq pc 51 then some (.aload_n 0, 52, 0, 0) else none)))))) else (bif Nat.ble 27 pc then (bif Nat.ble 39 pc then (bif Nat.ble 45 pc then (bif Nat.ble 47 pc then (bif Nat.ble 48 pc then (bif Nat.beq pc 48 then some (.if_icmp .ge 0, 51, 110, 0) else none) else (bif Nat.beq pc 47 then some (.iload_n 3, 48, 0, 0) else none)) else (bif Nat.ble 46 pc then (bif Nat.beq pc 46 then some (.iload_n 2, 47, 0, 0) else none) else (bif Nat.beq pc 45 then some (.istore_n 3, 46, 0, 0) else none))) else (bif Nat.ble 43 pc then (bif Nat.ble 44 pc then (bif Nat.beq pc 44 then some (.iadd, 45, 0, 0) else none) else (bif Nat.beq pc 43 then some (.iaload, 44, 0, 0) else none)) else (bif Nat.ble 42 pc then (bif Nat.beq pc 42 then some (.iload_n 1, 43, 0, 0) else none) else (bif Nat.beq pc 39 then some (.fload 7, 42, 36, 14) else none)))) else (bif Nat.ble 35 pc then (bif Nat.ble 37 pc then (bif Nat.ble 38 pc then (bif Nat.beq pc 38 then some (.aload_n 0, 39, 0, 0) else none) else (bif Nat.beq pc 37 then some (.iload_n 2, 38, 0, 0) else none)) else (bif Nat.ble 36 pc then (bif Nat.beq pc 36 then some (.istore_n 2, 37, 0, 0) else none) else (bif Nat.beq pc 35 then some (.imul, 36, 0, 0) else none))) else (bif Nat.ble 31 pc then (bif Nat.ble 34 pc then (bif Nat.beq pc 34 then some (.iload_n 1, 35, 0, 0) else none) else (bif Nat.beq pc 31 then some (.dload 240, 34, 0, 0) else none)) else (bif Nat.ble 28 pc then (bif Nat.beq pc 28 then some (.putfield 7, 31, 142, 17) else none) else (bif Nat.beq pc 27 then some (.dload 0, 28, 0, 0) else none))))) else (bif Nat.ble 13 pc then (bif Nat.ble 21 pc then (bif Nat.ble 25 pc then (bif Nat.ble 26 pc then (bif Nat.beq pc 26 then some (.aload_n 0, 27, 0, 0) else none) else (bif Nat.beq pc 25 then some (.ireturn, 26, 0, 0) else none)) else (bif Nat.ble 24 pc then (bif Nat.beq pc 24 then some (.dload 0, 25, 0, 0) else none) else (bif Nat.beq pc 21 then some (.ifCond .eq 0, 24, 26, 0) else none))) else (bif Nat.ble 17 pc then (bif Nat.ble 18 pc then (bif Nat.beq pc 18 then some (.getfield 7, 21, 63, 0) else none) else (bif Nat.beq pc 17 then some (.aload_n 0, 18, 0, 0) else none)) else (bif Nat.ble 14 pc then (bif Nat.beq pc 14 then some (.putfield 7, 17, 63, 0) else none) else (bif Nat.beq pc 13 then some (.dload 0, 14, 0, 0) else none)))) else (bif Nat.ble 3 pc then (bif Nat.ble 9 pc then (bif Nat.ble 10 pc then (bif Nat.beq pc 10 then some (.goto 0, 13, 14, 0) else none) else (bif Nat.beq pc 9 then some (.dload 1, 10, 0, 0) else none)) else (bif Nat.ble 6 pc then (bif Nat.beq pc 6 then some (.ifCond .eq 0, 9, 13, 0) else none) else (bif Nat.beq pc 3 then some (.invokevirtual 110, 6, 135, 0) else none))) else (bif Nat.ble 1 pc then (bif Nat.ble 2 pc then (bif Nat.beq pc 2 then some (.iload_n 1, 3, 0, 0) else none) else (bif Nat.beq pc 1 then some (.aload_n 0, 2, 0, 0) else none)) else (bif Nat.beq pc 0 then some (.aload_n 0, 1, 0, 0) else none)))))
def mc_131 (pc : Nat) : Option (Instr × Nat × Nat × Nat) := bif Nat.ble 15 pc then (bif Nat.ble 21 pc then (bif Nat.ble 25 pc then (bif Nat.ble 28 pc then (bif Nat.beq pc 28 then some (.ireturn, 29, 0, 0) else none) else (bif Nat.beq pc 25 then some (.invokevirtual 33, 28, 131, 0) else none)) else (bif Nat.ble 24 pc then (bif Nat.beq pc 24 then some (.iload_n 1, 25, 0, 0) else none) else (bif Nat.beq pc 21 then some (.fload 0, 24, 78, 9) else none))) else (bif Nat.ble 17 pc then (bif Nat.ble 20 pc then (bif Nat.beq pc 20 then some (.aload_n 0, 21, 0, 0) else none) else (bif Nat.beq pc 17 then some (.goto 0, 20, 28, 0) else none)) else (bif Nat.beq pc 15 then some (.dload 32, 17, 0, 0) else none))) else (bif Nat.ble 5 pc then (bif Nat.ble 9 pc then (bif Nat.ble 12 pc then (bif Nat.beq pc 12 then some (.if_icmp .lt 0, 15, 20, 0) else none) else (bif Nat.beq pc 9 then some (.invokevirtual 13, 12, 113, 0) else none)) else (bif Nat.ble 6 pc then (bif Nat.beq pc 6 then some (.fload 0, 9, 78, 9) else none) else (bif Nat.beq pc 5 then some (.aload_n 0, 6, 0, 0) else none))) else (bif Nat.ble 1 pc then (bif Nat.ble 4 pc then (bif Nat.beq pc 4 then some (.iload_n 1, 5, 0, 0) else none) else (bif Nat.beq pc 1 then some (.ifCond .lt 0, 4, 15, 0) else none)) else (bif Nat.beq pc 0 then some (.iload_n 1, 1, 0, 0) else none)))
def mc_132 (pc : Nat) : Option (Instr × Nat × Nat × Nat) := bif Nat.ble 14 pc then (bif Nat.ble 23 pc then (bif Nat.ble 27 pc then (bif Nat.ble 28 pc then (bif Nat.beq pc 28 then some (.ireturn, 29, 0, 0) else none) else (bif Nat.beq pc 27 then some (.caload, 28, 0, 0) else none)) else (bif Nat.ble 26 pc then (bif Nat.beq pc 26 then some (.iload_n 1, 27, 0, 0) else none) else (bif Nat.beq pc 23 then some (.fload 7, 26, 45, 18) else none))) else (bif Nat.ble 19 pc then (bif Nat.ble 22 pc then (bif Nat.beq pc 22 then some (.aload_n 0, 23, 0, 0) else none) else (bif Nat.beq pc 19 then some (.goto 0, 22, 28, 0) else none)) else (bif Nat.ble 17 pc then (bif Nat.beq pc 17 then some (.dload 32, 19, 0, 0) else none) else (bif Nat.beq pc 14 then some (.if_icmp .lt 0, 17, 22, 0) else none)))) else (bif Nat.ble 6 pc then (bif Nat.ble 10 pc then (bif Nat.ble 11 pc then (bif Nat.beq pc 11 then some (.getfield 7, 14, 142, 17) else none) else (bif Nat.beq pc 10 then some (.aload_n 0, 11, 0, 0) else none)) else (bif Nat.ble 9 pc then (bif Nat.beq pc 9 then some (.iload_n 1, 10, 0, 0) else none) else (bif Nat.beq pc 6 then some (.ifCond .lt 0, 9, 17, 0) else none))) else (bif Nat.ble 2 pc then (bif Nat.ble 5 pc then (bif Nat.beq pc 5 then some (.iload_n 1, 6, 0, 0) else none) else (bif Nat.beq pc 2 then some (.putfield 7, 5, 63, 0) else none)) else (bif Nat.ble 1 pc then (bif Nat.beq pc 1 then some (.dload 0, 2, 0, 0) else none) else (bif Nat.beq pc 0 then some (.aload_n 0, 1, 0, 0) else none))))
def mc_133 (pc : Nat) : Option (Instr × Nat × Nat × Nat) := bif Nat.ble 13 pc then (bif Nat.ble 21 pc then (bif Nat.ble 23 pc then (bif Nat.ble 26 pc then (bif Nat.beq pc 26 then some (.return_, 27, 0, 0) else none) else (bif Nat.beq pc 23 then some (.putfield 0, 26, 292, 14) else none)) else (bif Nat.ble 22 pc then (bif Nat.beq pc 22 then some (.dload 0, 23, 0, 0) else none) else (bif Nat.beq pc 21 then some (.aload_n 0, 22, 0, 0) else none))) else (bif Nat.ble 17 pc then (bif Nat.ble 18 pc then (bif Nat.beq pc 18 then some (.putfield 0, 21, 295, 13) else none) else (bif Nat.beq pc 17 then some (.iadd, 18, 0, 0) else none)) else (bif Nat.ble 16 pc then (bif Nat.beq pc 16 then some (.dload 1, 17, 0, 0) else none) else (bif Nat.beq pc 13 then some (.getfield 0, 16, 295, 13) else none)))) else (bif Nat.ble 5 pc then (bif Nat.ble 11 pc then (bif Nat.ble 12 pc then (bif Nat.beq pc 12 then some (.dup, 13, 0, 0) else none) else (bif Nat.beq pc 11 then some (.aload_n 0, 12, 0, 0) else none)) else (bif Nat.ble 8 pc then (bif Nat.beq pc 8 then some (.ifCond .le 0, 11, 26, 0) else none) else (bif Nat.beq pc 5 then some (.getfield 0, 8, 292, 14) else none))) else (bif Nat.ble 1 pc then (bif Nat.ble 4 pc then (bif Nat.beq pc 4 then some (.aload_n 0, 5, 0, 0) else none) else (bif Nat.beq pc 1 then some (.ifCond .eq 0, 4, 26, 0) else none)) else (bif Nat.beq pc 0 then some (.iload_n 1, 1, 0, 0) else none)))
def mc_134 (pc : Nat) : Option (Instr × Nat × Nat × Nat) := bif Nat.ble 16 pc then (bif Nat.ble 26 pc then (bif Nat.ble 30 pc then (bif Nat.ble 31 pc then (bif Nat.beq pc 31 then some (.ireturn, 32, 0, 0) else none) else (bif Nat.beq pc 30 then some (.dload 0, 31, 0, 0) else none)) else (bif Nat.ble 27 pc then (bif Nat.beq pc 27 then some (.goto 0, 30, 31, 0) else none) else (bif Nat.beq pc 26 then some (.dload 4, 27, 0, 0) else none))) else (bif Nat.ble 22 pc then (bif Nat.ble 23 pc then (bif Nat.beq pc 23 then some (.ifCond .ne 0, 26, 30, 0) else none) else (bif Nat.beq pc 22 then some (.iload_n 1, 23, 0, 0) else none)) else (bif Nat.ble 19 pc then (bif Nat.beq pc 19 then some (.if_acmp .ne 0, 22, 30, 0) else none) else (bif Nat.beq pc 16 then some (.getstatic 6, 19, 10, 0) else none)))) else (bif Nat.ble 8 pc then (bif Nat.ble 12 pc then (bif Nat.ble 15 pc then (bif Nat.beq pc 15 then some (.aload_n 0, 16, 0, 0) else none) else (bif Nat.beq pc 12 then some (.goto 0, 15, 31, 0) else none)) else (bif Nat.ble 11 pc then (bif Nat.beq pc 11 then some (.dload 2, 12, 0, 0) else none) else (bif Nat.beq pc 8 then some (.ifCond .eq 0, 11, 15, 0) else none))) else (bif Nat.ble 4 pc then (bif Nat.ble 7 pc then (bif Nat.beq pc 7 then some (.iload_n 1, 8, 0, 0) else none) else (bif Nat.beq pc 4 then some (.if_acmp .ne 0, 7, 15, 0) else none)) else (bif Nat.ble 1 pc then (bif Nat.beq pc 1 then some (.getstatic 4, 4, 3, 0) else none) else (bif Nat.beq pc 0 then some (.aload_n 0, 1, 0, 0) else none))))
def mc_135 (pc : Nat) : Option (Instr × Nat × Nat × Nat) := bif Nat.ble 1 pc then (bif Nat.ble 4 pc then (bif Nat.beq pc 4 then some (.ireturn, 5, 0, 0) else none) else (bif Nat.beq pc 1 then some (.getfield 3, 4, 48, 1) else none)) else (bif Nat.beq pc 0 then some (.aload_n 0, 1, 0, 0) else none)
def mc_136 (pc : Nat) : Option (Instr × Nat × Nat × Nat) := bif Nat.ble 26 pc then (bif Nat.ble 31 pc then (bif Nat.ble 35 pc then (bif Nat.ble 38 pc then (bif Nat.ble 39 pc then (bif Nat.beq pc 39 then some (.areturn, 40, 0, 0) else none) else (bif Nat.beq pc 38 then some (.aload_n 3, 39, 0, 0) else none)) else (bif Nat.beq pc 35 then some (.invokestatic 900, 38, 150, 0) else none)) else (bif Nat.ble 32 pc then (bif Nat.beq pc 32 then some (.invokestatic 8, 35, 304, 0) else none) else (bif Nat.beq pc 31 then some (.iload_n 1, 32, 0, 0) else none))) else (bif Nat.ble 28 pc then (bif Nat.ble 29 pc then (bif Nat.ble 30 pc then (bif Nat.beq pc 30 then some (.arraylength, 31, 0, 0) else none) else (bif Nat.beq pc 29 then some (.aload_n 0, 30, 0, 0) else none)) else (bif Nat.beq pc 28 then some (.dload 0, 29, 0, 0) else none)) else (bif Nat.ble 27 pc then (bif Nat.beq pc 27 then some (.aload_n 3, 28, 0, 0) else none) else (bif Nat.beq pc 26 then some (.dload 0, 27, 0, 0) else none)))) else (bif Nat.ble 10 pc then (bif Nat.ble 17 pc then (bif Nat.ble 24 pc then (bif Nat.ble 25 pc then (bif Nat.beq pc 25 then some (.aload_n 0, 26, 0, 0) else none) else (bif Nat.beq pc 24 then some (.astore_n 3, 25, 0, 0) else none)) else (bif Nat.beq pc 17 then some (.iload_n 1, 18, 0, 0) else none)) else (bif Nat.ble 13 pc then (bif Nat.beq pc 13 then some (.aload_n 2, 14, 0, 0) else none) else (bif Nat.beq pc 10 then some (.goto 0, 13, 24, 0) else none))) else (bif Nat.ble 3 pc then (bif Nat.ble 6 pc then (bif Nat.ble 7 pc then (bif Nat.beq pc 7 then some (.anewarray 23, 10, 2, 0) else none) else (bif Nat.beq pc 6 then some (.iload_n 1, 7, 0, 0) else none)) else (bif Nat.beq pc 3 then some (.if_acmp .ne 0, 6, 13, 0) else none)) else (bif Nat.ble 1 pc then (bif Nat.beq pc 1 then some (.ldc 2, 3, 110, 0) else none) else (bif Nat.beq pc 0 then some (.aload_n 2, 1, 0, 0) else none))))
def mc_137 (pc : Nat) : Option (Instr × Nat × Nat × Nat) := bif Nat.ble 3 pc then (bif Nat.ble 6 pc then (bif Nat.ble 9 pc then (bif Nat.beq pc 9 then some (.areturn, 10, 0, 0) else none) else (bif Nat.beq pc 6 then some (.invokestatic 136, 9, 300, 0) else none)) else (bif Nat.beq pc 3 then some (.invokevirtual 902, 6, 86, 0) else none)) else (bif Nat.ble 1 pc then (bif Nat.ble 2 pc then (bif Nat.beq pc 2 then some (.aload_n 0, 3, 0, 0) else none) else (bif Nat.beq pc 1 then some (.iload_n 1, 2, 0, 0) else none)) else (bif Nat.beq pc 0 then some (.aload_n 0, 1, 0, 0) else none))
def mc_138 (pc : Nat) : Option (Instr × Nat × Nat × Nat) := bif Nat.ble 27 pc then (bif Nat.ble 44 pc then (bif Nat.ble 49 pc then (bif Nat.ble 55 pc then (bif Nat.ble 56 pc then (bif Nat.ble 59 pc then (bif Nat.beq pc 59 then some (.areturn, 60, 0, 0) else none) else (bif Nat.beq pc 56 then some (.fstore 3, 59, 9, 0) else none)) else (bif Nat.beq pc 55 then some (.dup_x1, 56, 0, 0) else none)) else (bif Nat.ble 52 pc then (bif Nat.beq pc 52 then some (.anewarray 23, 55, 7, 0) else none) else (bif Nat.beq pc 49 then some (.invokestatic 9, 52, 79, 0) else none))) else (bif Nat.ble 46 pc then (bif Nat.ble 48 pc then (bif Nat.beq pc 48 then some (.iload_n 1, 49, 0, 0) else none) else (bif Nat.beq pc 46 then some (.dload 10, 48, 0, 0) else none)) else (bif Nat.ble 45 pc then (bif Nat.beq pc 45 then some (.aload_n 0, 46, 0, 0) else none) else (bif Nat.beq pc 44 then some (.areturn, 45, 0, 0) else none)))) else (bif Nat.ble 33 pc then (bif Nat.ble 37 pc then (bif Nat.ble 40 pc then (bif Nat.ble 41 pc then (bif Nat.beq pc 41 then some (.fstore 3, 44, 9, 0) else none) else (bif Nat.beq pc 40 then some (.dup_x1, 41, 0, 0) else none)) else (bif Nat.beq pc 37 then some (.invokestatic 137, 40, 66, 0) else none)) else (bif Nat.ble 36 pc then (bif Nat.beq pc 36 then some (.iload_n 3, 37, 0, 0) else none) else (bif Nat.beq pc 33 then some (.fload 3, 36, 9, 0) else none))) else (bif Nat.ble 31 pc then (bif Nat.ble 32 pc then (bif Nat.beq pc 32 then some (.aload_n 0, 33, 0, 0) else none) else (bif Nat.beq pc 31 then some (.aload_n 0, 32, 0, 0) else none)) else (bif Nat.ble 30 pc then (bif Nat.beq pc 30 then some (.istore_n 3, 31, 0, 0) else none) else (bif Nat.beq pc 27 then some (.invokestatic 14, 30, 73, 0) else none))))) else (bif Nat.ble 14 pc then (bif Nat.ble 22 pc then (bif Nat.ble 24 pc then (bif Nat.ble 25 pc then (bif Nat.ble 26 pc then (bif Nat.beq pc 26 then some (.ishr, 27, 0, 0) else none) else (bif Nat.beq pc 25 then some (.dload 1, 26, 0, 0) else none)) else (bif Nat.beq pc 24 then some (.iload_n 2, 25, 0, 0) else none)) else (bif Nat.ble 23 pc then (bif Nat.beq pc 23 then some (.isub, 24, 0, 0) else none) else (bif Nat.beq pc 22 then some (.iload_n 2, 23, 0, 0) else none))) else (bif Nat.ble 20 pc then (bif Nat.ble 21 pc then (bif Nat.beq pc 21 then some (.iload_n 1, 22, 0, 0) else none) else (bif Nat.beq pc 20 then some (.iload_n 2, 21, 0, 0) else none)) else (bif Nat.ble 17 pc then (bif Nat.beq pc 17 then some (.if_acmp .eq 0, 20, 45, 0) else none) else (bif Nat.beq pc 14 then some (.getstatic 8, 17, 39, 0) else none)))) else (bif Nat.ble 6 pc then (bif Nat.ble 10 pc then (bif Nat.ble 11 pc then (bif Nat.beq pc 11 then some (.fload 3, 14, 9, 0) else none) else (bif Nat.beq pc 10 then some (.aload_n 0, 11, 0, 0) else none)) else (bif Nat.ble 7 pc then (bif Nat.beq pc 7 then some (.ifCond .gt 0, 10, 20, 0) else none) else (bif Nat.beq pc 6 then some (.iload_n 2, 7, 0, 0) else none))) else (bif Nat.ble 4 pc then (bif Nat.ble 5 pc then (bif Nat.beq pc 5 then some (.istore_n 2, 6, 0, 0) else none) else (bif Nat.beq pc 4 then some (.arraylength, 5, 0, 0) else none)) else (bif Nat.ble 1 pc then (bif Nat.beq pc 1 then some (.fload 3, 4, 9, 0) else none) else (bif Nat.beq pc 0 then some (.aload_n 0, 1, 0, 0) else none)))))
def mc_139 (pc : Nat) : Option (Instr × Nat × Nat × Nat) := bif Nat.ble 5 pc then (bif Nat.ble 7 pc then (bif Nat.ble 10 pc then (bif Nat.beq pc 10 then some (.areturn, 11, 0, 0) else none) else (bif Nat.beq pc 7 then some (.invokevirtual 138, 10, 69, 0) else none)) else (bif Nat.ble 6 pc then (bif Nat.beq pc 6 then some (.iadd, 7, 0, 0) else none) else (bif Nat.beq pc 5 then some (.dload 1, 6, 0, 0) else none))) else (bif Nat.ble 1 pc then (bif Nat.ble 2 pc then (bif Nat.beq pc 2 then some (.getfield 3, 5, 48, 1) else none) else (bif Nat.beq pc 1 then some (.aload_n 0, 2, 0, 0) else none)) else (bif Nat.beq pc 0 then some (.aload_n 0, 1, 0, 0) else none))
def mc_140 (pc : Nat) : Option (Instr × Nat × Nat × Nat) := bif Nat.ble 12 pc then (bif Nat.ble 16 pc then (bif Nat.ble 18 pc then (bif Nat.ble 19 pc then (bif Nat.ble 22 pc then (bif Nat.beq pc 22 then some (.return_, 23, 0, 0) else none) else (bif Nat.beq pc 19 then some (.putfield 3, 22, 48, 1) else none)) else (bif Nat.beq pc 18 then some (.iadd, 19, 0, 0) else none)) else (bif Nat.ble 17 pc then (bif Nat.beq pc 17 then some (.dload 1, 18, 0, 0) else none) else (bif Nat.beq pc 16 then some (.iload_n 3, 17, 0, 0) else none))) else (bif Nat.ble 14 pc then (bif Nat.ble 15 pc then (bif Nat.beq pc 15 then some (.aload_n 0, 16, 0, 0) else none) else (bif Nat.beq pc 14 then some (.aastore, 15, 0, 0) else none)) else (bif Nat.ble 13 pc then (bif Nat.beq pc 13 then some (.aload_n 1, 14, 0, 0) else none) else (bif Nat.beq pc 12 then some (.iload_n 3, 13, 0, 0) else none)))) else (bif Nat.ble 6 pc then (bif Nat.ble 10 pc then (bif Nat.ble 11 pc then (bif Nat.beq pc 11 then some (.aload_n 2, 12, 0, 0) else none) else (bif Nat.beq pc 10 then some (.astore_n 2, 11, 0, 0) else none)) else (bif Nat.ble 7 pc then (bif Nat.beq pc 7 then some (.invokevirtual 139, 10, 129, 0) else none) else (bif Nat.beq pc 6 then some (.aload_n 0, 7, 0, 0) else none))) else (bif Nat.ble 2 pc then (bif Nat.ble 3 pc then (bif Nat.beq pc 3 then some (.if_icmp .ne 0, 6, 11, 0) else none) else (bif Nat.beq pc 2 then some (.arraylength, 3, 0, 0) else none)) else (bif Nat.ble 1 pc then (bif Nat.beq pc 1 then some (.aload_n 2, 2, 0, 0) else none) else (bif Nat.beq pc 0 then some (.iload_n 3, 1, 0, 0) else none))))
def mc_141 (pc : Nat) : Option (Instr × Nat × Nat × Nat) := bif Nat.ble 11 pc then (bif Nat.ble 17 pc then (bif Nat.ble 23 pc then (bif Nat.ble 24 pc then (bif Nat.beq pc 24 then some (.ireturn, 25, 0, 0) else none) else (bif Nat.beq pc 23 then some (.dload 1, 24, 0, 0) else none)) else (bif Nat.ble 20 pc then (bif Nat.beq pc 20 then some (.invokevirtual 140, 23, 131, 0) else none) else (bif Nat.beq pc 17 then some (.getfield 3, 20, 48, 1) else none))) else (bif Nat.ble 13 pc then (bif Nat.ble 16 pc then (bif Nat.beq pc 16 then some (.aload_n 0, 17, 0, 0) else none) else (bif Nat.beq pc 13 then some (.fload 3, 16, 9, 0) else none)) else (bif Nat.ble 12 pc then (bif Nat.beq pc 12 then some (.aload_n 0, 13, 0, 0) else none) else (bif Nat.beq pc 11 then some (.aload_n 1, 12, 0, 0) else none)))) else (bif Nat.ble 5 pc then (bif Nat.ble 7 pc then (bif Nat.ble 10 pc then (bif Nat.beq pc 10 then some (.aload_n 0, 11, 0, 0) else none) else (bif Nat.beq pc 7 then some (.putfield 3, 10, 63, 2) else none)) else (bif Nat.ble 6 pc then (bif Nat.beq pc 6 then some (.iadd, 7, 0, 0) else none) else (bif Nat.beq pc 5 then some (.dload 1, 6, 0, 0) else none))) else (bif Nat.ble 1 pc then (bif Nat.ble 2 pc then (bif Nat.beq pc 2 then some (.getfield 3, 5, 63, 2) else none) else (bif Nat.beq pc 1 then some (.dup, 2, 0, 0) else none)) else (bif Nat.beq pc 0 then some (.aload_n 0, 1, 0, 0) else none)))
def mc_142 (pc : Nat) : Option (Instr × Nat × Nat × Nat) := bif Nat.ble 2 pc then (bif Nat.ble 3 pc then (bif Nat.ble 6 pc then (bif Nat.beq pc 6 then some (.ireturn, 7, 0, 0) else none) else (bif Nat.beq pc 3 then some (.invokestatic 30, 6, 105, 0) else none)) else (bif Nat.beq pc 2 then some (.aconst_null, 3, 0, 0) else none)) else (bif Nat.ble 1 pc then (bif Nat.beq pc 1 then some (.iload_n 1, 2, 0, 0) else none) else (bif Nat.beq pc 0 then some (.iload_n 0, 1, 0, 0) else none))
def mc_143 (pc : Nat) : Option (Instr × Nat × Nat × Nat) := bif Nat.ble 4 pc then (bif Nat.ble 5 pc then (bif Nat.ble 6 pc then (bif Nat.beq pc 6 then some (.areturn, 7, 0, 0) else none) else (bif Nat.beq pc 5 then some (.aaload, 6, 0, 0) else none)) else (bif Nat.beq pc 4 then some (.iload_n 1, 5, 0, 0) else none)) else (bif Nat.ble 1 pc then (bif Nat.beq pc 1 then some (.fload 3, 4, 9, 0) else none) else (bif Nat.beq pc 0 then some (.aload_n 0, 1, 0, 0) else none))
def mc_144 (pc : Nat) : Option (Instr × Nat × Nat × Nat) := bif Nat.ble 8 pc then (bif Nat.ble 10 pc then (bif Nat.ble 11 pc then (bif Nat.ble 14 pc then (bif Nat.beq pc 14 then some (.areturn, 15, 0, 0) else none) else (bif Nat.beq pc 11 then some (.invokevirtual 143, 14, 123, 0) else none)) else (bif Nat.beq pc 10 then some (.iload_n 1, 11, 0, 0) else none)) else (bif Nat.ble 9 pc then (bif Nat.beq pc 9 then some (.aload_n 0, 10, 0, 0) else none) else (bif Nat.beq pc 8 then some (.pop, 9, 0, 0) else none))) else (bif Nat.ble 2 pc then (bif Nat.ble 5 pc then (bif Nat.beq pc 5 then some (.invokestatic 142, 8, 118, 0) else none) else (bif Nat.beq pc 2 then some (.getfield 3, 5, 48, 1) else none)) else (bif Nat.ble 1 pc then (bif Nat.beq pc 1 then some (.aload_n 0, 2, 0, 0) else none) else (bif Nat.beq pc 0 then some (.iload_n 1, 1, 0, 0) else none)))
def mc_145 (pc : Nat) : Option (Instr × Nat × Nat × Nat) := bif Nat.ble 25 pc then (bif Nat.ble 37 pc then (bif Nat.ble 40 pc then (bif Nat.ble 43 pc then (bif Nat.ble 44 pc then (bif Nat.beq pc 44 then some (.areturn, 45, 0, 0) else none) else (bif Nat.beq pc 43 then some (.aload_n 2, 44, 0, 0) else none)) else (bif Nat.beq pc 40 then some (.putfield 4, 43, 279, 1) else none)) else (bif Nat.ble 38 pc then (bif Nat.ble 39 pc then (bif Nat.beq pc 39 then some (.dload 0, 40, 0, 0) else none) else (bif Nat.beq pc 38 then some (.aload_n 2, 39, 0, 0) else none)) else (bif Nat.beq pc 37 then some (.astore_n 2, 38, 0, 0) else none))) else (bif Nat.ble 30 pc then (bif Nat.ble 31 pc then (bif Nat.ble 34 pc then (bif Nat.beq pc 34 then some (.checkcast 4, 37, 88, 0) else none) else (bif Nat.beq pc 31 then some (.invokevirtual 144, 34, 275, 0) else none)) else (bif Nat.beq pc 30 then some (.iload_n 1, 31, 0, 0) else none)) else (bif Nat.ble 26 pc then (bif Nat.ble 27 pc then (bif Nat.beq pc 27 then some (.fload 0, 30, 84, 11) else none) else (bif Nat.beq pc 26 then some (.aload_n 0, 27, 0, 0) else none)) else (bif Nat.beq pc 25 then some (.pop, 26, 0, 0) else none)))) else (bif Nat.ble 11 pc then (bif Nat.ble 18 pc then (bif Nat.ble 19 pc then (bif Nat.ble 22 pc then (bif Nat.beq pc 22 then some (.invokevirtual 141, 25, 271, 0) else none) else (bif Nat.beq pc 19 then some (.invokespecial 7, 22, 90, 0) else none)) else (bif Nat.beq pc 18 then some (.dup, 19, 0, 0) else none)) else (bif Nat.ble 12 pc then (bif Nat.ble 15 pc then (bif Nat.beq pc 15 then some (.new 4, 18, 88, 0) else none) else (bif Nat.beq pc 12 then some (.fload 0, 15, 84, 11) else none)) else (bif Nat.beq pc 11 then some (.aload_n 0, 12, 0, 0) else none))) else (bif Nat.ble 2 pc then (bif Nat.ble 5 pc then (bif Nat.ble 8 pc then (bif Nat.beq pc 8 then some (.if_icmp .ne 0, 11, 26, 0) else none) else (bif Nat.beq pc 5 then some (.invokevirtual 135, 8, 269, 0) else none)) else (bif Nat.beq pc 2 then some (.fload 0, 5, 84, 11) else none)) else (bif Nat.ble 1 pc then (bif Nat.beq pc 1 then some (.aload_n 0, 2, 0, 0) else none) else (bif Nat.beq pc 0 then some (.iload_n 1, 1, 0, 0) else none))))
def mc_146 (pc : Nat) : Option (Instr × Nat × Nat × Nat) := bif Nat.ble 89 pc then (bif Nat.ble 137 pc then (bif Nat.ble 161 pc then (bif Nat.ble 173 pc then (bif Nat.ble 180 pc then (bif Nat.ble 183 pc then (bif Nat.ble 184 pc then (bif Nat.beq pc 184 then some (.ireturn, 185, 0, 0) else none) else (bif Nat.beq pc 183 then some (.iload_n 3, 184, 0, 0) else none)) else (bif Nat.beq pc 180 then some (.goto 0, 183, 15, 0) else none)) else (bif Nat.ble 175 pc then (bif Nat.ble 178 pc then (bif Nat.beq pc 178 then some (.istore 6, 180, 0, 0) else none) else (bif Nat.beq pc 175 then some (.invokevirtual 115, 178, 259, 0) else none)) else (bif Nat.beq pc 173 then some (.iload 7, 175, 0, 0) else none))) else (bif Nat.ble 166 pc then (bif Nat.ble 169 pc then (bif Nat.ble 172 pc then (bif Nat.beq pc 172 then some (.aload_n 1, 173, 0, 0) else none) else (bif Nat.beq pc 169 then some (.goto 0, 172, 146, 0) else none)) else (bif Nat.beq pc 166 then some (.multianewarray 9 1, 169, 0, 0) else none)) else (bif Nat.ble 162 pc then (bif Nat.ble 163 pc then (bif Nat.beq pc 163 then some (.invokevirtual 84, 166, 291, 0) else none) else (bif Nat.beq pc 162 then some (.dload 0, 163, 0, 0) else none)) else (bif Nat.beq pc 161 then some (.baload, 162, 0, 0) else none)))) else (bif Nat.ble 148 pc then (bif Nat.ble 155 pc then (bif Nat.ble 156 pc then (bif Nat.ble 159 pc then (bif Nat.beq pc 159 then some (.iload 9, 161, 0, 0) else none) else (bif Nat.beq pc 156 then some (.fload 6, 159, 241, 1) else none)) else (bif Nat.beq pc 155 then some (.aload_n 1, 156, 0, 0) else none)) else (bif Nat.ble 150 pc then (bif Nat.ble 153 pc then (bif Nat.beq pc 153 then some (.aload 4, 155, 0, 0) else none) else (bif Nat.beq pc 150 then some (.if_icmp .ge 0, 153, 172, 0) else none)) else (bif Nat.beq pc 148 then some (.iload 7, 150, 0, 0) else none))) else (bif Nat.ble 142 pc then (bif Nat.ble 144 pc then (bif Nat.ble 146 pc then (bif Nat.beq pc 146 then some (.iload 9, 148, 0, 0) else none) else (bif Nat.beq pc 144 then some (.istore 9, 146, 0, 0) else none)) else (bif Nat.beq pc 142 then some (.iload 6, 144, 0, 0) else none)) else (bif Nat.ble 138 pc then (bif Nat.ble 139 pc then (bif Nat.beq pc 139 then some (.invokevirtual 84, 142, 291, 0) else none) else (bif Nat.beq pc 138 then some (.dload 0, 139, 0, 0) else none)) else (bif Nat.beq pc 137 then some (.dload 0, 138, 0, 0) else none))))) else (bif Nat.ble 112 pc then (bif Nat.ble 124 pc then (bif Nat.ble 130 pc then (bif Nat.ble 132 pc then (bif Nat.ble 135 pc then (bif Nat.beq pc 135 then some (.aload 4, 137, 0, 0) else none) else (bif Nat.beq pc 132 then some (.goto 0, 135, 142, 0) else none)) else (bif Nat.beq pc 130 then some (.istore 7, 132, 0, 0) else none)) else (bif Nat.ble 126 pc then (bif Nat.ble 127 pc then (bif Nat.beq pc 127 then some (.invokestatic 8, 130, 95, 0) else none) else (bif Nat.beq pc 126 then some (.iadd, 127, 0, 0) else none)) else (bif Nat.beq pc 124 then some (.iload 5, 126, 0, 0) else none))) else (bif Nat.ble 118 pc then (bif Nat.ble 120 pc then (bif Nat.ble 122 pc then (bif Nat.beq pc 122 then some (.iload 6, 124, 0, 0) else none) else (bif Nat.beq pc 120 then some (.iload 7, 122, 0, 0) else none)) else (bif Nat.beq pc 118 then some (.istore 5, 120, 0, 0) else none)) else (bif Nat.ble 115 pc then (bif Nat.ble 117 pc then (bif Nat.beq pc 117 then some (.isub, 118, 0, 0) else none) else (bif Nat.beq pc 115 then some (.iload 9, 117, 0, 0) else none)) else (bif Nat.beq pc 112 then some (.getfield 0, 115, 104, 0) else none)))) else (bif Nat.ble 99 pc then (bif Nat.ble 106 pc then (bif Nat.ble 108 pc then (bif Nat.ble 111 pc then (bif Nat.beq pc 111 then some (.aload_n 0, 112, 0, 0) else none) else (bif Nat.beq pc 108 then some (.putfield 4, 111, 288, 2) else none)) else (bif Nat.beq pc 106 then some (.iload 9, 108, 0, 0) else none)) else (bif Nat.ble 102 pc then (bif Nat.ble 104 pc then (bif Nat.beq pc 104 then some (.aload 4, 106, 0, 0) else none) else (bif Nat.beq pc 102 then some (.astore 4, 104, 0, 0) else none)) else (bif Nat.beq pc 99 then some (.invokevirtual 145, 102, 284, 0) else none))) else (bif Nat.ble 94 pc then (bif Nat.ble 95 pc then (bif Nat.ble 96 pc then (bif Nat.beq pc 96 then some (.multianewarray 3 1, 99, 0, 0) else none) else (bif Nat.beq pc 95 then some (.iload_n 3, 96, 0, 0) else none)) else (bif Nat.beq pc 94 then some (.aload_n 0, 95, 0, 0) else none)) else (bif Nat.ble 92 pc then (bif Nat.beq pc 92 then some (.istore 9, 94, 0, 0) else none) else (bif Nat.beq pc 89 then some (.invokevirtual 134, 92, 280, 0) else none)))))) else (bif Nat.ble 45 pc then (bif Nat.ble 67 pc then (bif Nat.ble 79 pc then (bif Nat.ble 84 pc then (bif Nat.ble 85 pc then (bif Nat.ble 88 pc then (bif Nat.beq pc 88 then some (.dload 0, 89, 0, 0) else none) else (bif Nat.beq pc 85 then some (.goto 0, 88, 89, 0) else none)) else (bif Nat.beq pc 84 then some (.dload 1, 85, 0, 0) else none)) else (bif Nat.ble 80 pc then (bif Nat.ble 81 pc then (bif Nat.beq pc 81 then some (.if_icmp .ne 0, 84, 88, 0) else none) else (bif Nat.beq pc 80 then some (.iload_n 2, 81, 0, 0) else none)) else (bif Nat.beq pc 79 then some (.iload_n 3, 80, 0, 0) else none))) else (bif Nat.ble 72 pc then (bif Nat.ble 75 pc then (bif Nat.ble 76 pc then (bif Nat.beq pc 76 then some (.fload 6, 79, 217, 0) else none) else (bif Nat.beq pc 75 then some (.aload_n 1, 76, 0, 0) else none)) else (bif Nat.beq pc 72 then some (.ifCond .ne 0, 75, 135, 0) else none)) else (bif Nat.ble 68 pc then (bif Nat.ble 70 pc then (bif Nat.beq pc 70 then some (.iload 8, 72, 0, 0) else none) else (bif Nat.beq pc 68 then some (.istore 8, 70, 0, 0) else none)) else (bif Nat.beq pc 67 then some (.dload 0, 68, 0, 0) else none)))) else (bif Nat.ble 55 pc then (bif Nat.ble 60 pc then (bif Nat.ble 63 pc then (bif Nat.ble 64 pc then (bif Nat.beq pc 64 then some (.goto 0, 67, 68, 0) else none) else (bif Nat.beq pc 63 then some (.dload 1, 64, 0, 0) else none)) else (bif Nat.beq pc 60 then some (.if_icmp .gt 0, 63, 67, 0) else none)) else (bif Nat.ble 57 pc then (bif Nat.ble 58 pc then (bif Nat.beq pc 58 then some (.iload 5, 60, 0, 0) else none) else (bif Nat.beq pc 57 then some (.isub, 58, 0, 0) else none)) else (bif Nat.beq pc 55 then some (.iload 6, 57, 0, 0) else none))) else (bif Nat.ble 51 pc then (bif Nat.ble 52 pc then (bif Nat.ble 54 pc then (bif Nat.beq pc 54 then some (.iadd, 55, 0, 0) else none) else (bif Nat.beq pc 52 then some (.iload 7, 54, 0, 0) else none)) else (bif Nat.beq pc 51 then some (.iadd, 52, 0, 0) else none)) else (bif Nat.ble 47 pc then (bif Nat.ble 50 pc then (bif Nat.beq pc 50 then some (.dload 1, 51, 0, 0) else none) else (bif Nat.beq pc 47 then some (.getfield 4, 50, 279, 1) else none)) else (bif Nat.beq pc 45 then some (.aload 4, 47, 0, 0) else none))))) else (bif Nat.ble 17 pc then (bif Nat.ble 30 pc then (bif Nat.ble 37 pc then (bif Nat.ble 39 pc then (bif Nat.ble 42 pc then (bif Nat.beq pc 42 then some (.ifCond .le 0, 45, 67, 0) else none) else (bif Nat.beq pc 39 then some (.getfield 4, 42, 279, 1) else none)) else (bif Nat.beq pc 37 then some (.aload 4, 39, 0, 0) else none)) else (bif Nat.ble 32 pc then (bif Nat.ble 34 pc then (bif Nat.beq pc 34 then some (.ifnull 0, 37, 67, 0) else none) else (bif Nat.beq pc 32 then some (.aload 4, 34, 0, 0) else none)) else (bif Nat.beq pc 30 then some (.istore 7, 32, 0, 0) else none))) else (bif Nat.ble 24 pc then (bif Nat.ble 25 pc then (bif Nat.ble 27 pc then (bif Nat.beq pc 27 then some (.invokevirtual 116, 30, 262, 0) else none) else (bif Nat.beq pc 25 then some (.iload 6, 27, 0, 0) else none)) else (bif Nat.beq pc 24 then some (.aload_n 1, 25, 0, 0) else none)) else (bif Nat.ble 18 pc then (bif Nat.ble 21 pc then (bif Nat.beq pc 21 then some (.if_icmp .ge 0, 24, 183, 0) else none) else (bif Nat.beq pc 18 then some (.getfield 6, 21, 238, 3) else none)) else (bif Nat.beq pc 17 then some (.aload_n 1, 18, 0, 0) else none)))) else (bif Nat.ble 6 pc then (bif Nat.ble 10 pc then (bif Nat.ble 13 pc then (bif Nat.ble 15 pc then (bif Nat.beq pc 15 then some (.iload 6, 17, 0, 0) else none) else (bif Nat.beq pc 13 then some (.istore 6, 15, 0, 0) else none)) else (bif Nat.beq pc 10 then some (.invokevirtual 115, 13, 259, 0) else none)) else (bif Nat.ble 8 pc then (bif Nat.ble 9 pc then (bif Nat.beq pc 9 then some (.dload 0, 10, 0, 0) else none) else (bif Nat.beq pc 8 then some (.aload_n 1, 9, 0, 0) else none)) else (bif Nat.beq pc 6 then some (.istore 5, 8, 0, 0) else none))) else (bif Nat.ble 2 pc then (bif Nat.ble 3 pc then (bif Nat.ble 5 pc then (bif Nat.beq pc 5 then some (.dload 0, 6, 0, 0) else none) else (bif Nat.beq pc 3 then some (.astore 4, 5, 0, 0) else none)) else (bif Nat.beq pc 2 then some (.aconst_null, 3, 0, 0) else none)) else (bif Nat.ble 1 pc then (bif Nat.beq pc 1 then some (.istore_n 3, 2, 0, 0) else none) else (bif Nat.beq pc 0 then some (.iload_n 2, 1, 0, 0) else none))))))
def mc_147 (pc : Nat) : Option (Instr × Nat × Nat × Nat) := bif Nat.ble 107 pc then (bif Nat.ble 162 pc then (bif Nat.ble 192 pc then (bif Nat.ble 208 pc then (bif Nat.ble 218 pc then (bif Nat.ble 220 pc then (bif Nat.ble 223 pc then (bif Nat.beq pc 223 then some (.return_, 224, 0, 0) else none) else (bif Nat.beq pc 220 then some (.putfield 0, 223, 301, 12) else none)) else (bif Nat.ble 219 pc then (bif Nat.beq pc 219 then some (.iload_n 2, 220, 0, 0) else none) else (bif Nat.beq pc 218 then some (.aload_n 0, 219, 0, 0) else none))) else (bif Nat.ble 214 pc then (bif Nat.ble 215 pc then (bif Nat.beq pc 215 then some (.fstore 6, 218, 311, 4) else none) else (bif Nat.beq pc 214 then some (.aconst_null, 215, 0, 0) else none)) else (bif Nat.ble 211 pc then (bif Nat.beq pc 211 then some (.goto 0, 214, 215, 0) else none) else (bif Nat.beq pc 208 then some (.checkcast 4, 211, 88, 0) else none)))) else (bif Nat.ble 198 pc then (bif Nat.ble 202 pc then (bif Nat.ble 205 pc then (bif Nat.beq pc 205 then some (.invokevirtual 144, 208, 275, 0) else none) else (bif Nat.beq pc 202 then some (.getfield 0, 205, 301, 12) else none)) else (bif Nat.ble 201 pc then (bif Nat.beq pc 201 then some (.aload_n 0, 202, 0, 0) else none) else (bif Nat.beq pc 198 then some (.fload 0, 201, 84, 11) else none))) else (bif Nat.ble 194 pc then (bif Nat.ble 197 pc then (bif Nat.beq pc 197 then some (.aload_n 0, 198, 0, 0) else none) else (bif Nat.beq pc 194 then some (.ifCond .le 0, 197, 214, 0) else none)) else (bif Nat.beq pc 192 then some (.iload 4, 194, 0, 0) else none)))) else (bif Nat.ble 174 pc then (bif Nat.ble 182 pc then (bif Nat.ble 188 pc then (bif Nat.ble 191 pc then (bif Nat.beq pc 191 then some (.aload_n 1, 192, 0, 0) else none) else (bif Nat.beq pc 188 then some (.goto 0, 191, 89, 0) else none)) else (bif Nat.ble 185 pc then (bif Nat.beq pc 185 then some (.multianewarray 5 1, 188, 0, 0) else none) else (bif Nat.beq pc 182 then some (.putfield 4, 185, 288, 2) else none))) else (bif Nat.ble 177 pc then (bif Nat.ble 179 pc then (bif Nat.beq pc 179 then some (.getfield 4, 182, 288, 2) else none) else (bif Nat.beq pc 177 then some (.aload 6, 179, 0, 0) else none)) else (bif Nat.beq pc 174 then some (.goto 0, 177, 182, 0) else none))) else (bif Nat.ble 168 pc then (bif Nat.ble 172 pc then (bif Nat.ble 173 pc then (bif Nat.beq pc 173 then some (.idiv, 174, 0, 0) else none) else (bif Nat.beq pc 172 then some (.dload 2, 173, 0, 0) else none)) else (bif Nat.ble 171 pc then (bif Nat.beq pc 171 then some (.isub, 172, 0, 0) else none) else (bif Nat.beq pc 168 then some (.getfield 4, 171, 279, 1) else none))) else (bif Nat.ble 163 pc then (bif Nat.ble 166 pc then (bif Nat.beq pc 166 then some (.aload 6, 168, 0, 0) else none) else (bif Nat.beq pc 163 then some (.getfield 0, 166, 104, 0) else none)) else (bif Nat.beq pc 162 then some (.aload_n 0, 163, 0, 0) else none))))) else (bif Nat.ble 133 pc then (bif Nat.ble 147 pc then (bif Nat.ble 153 pc then (bif Nat.ble 158 pc then (bif Nat.ble 159 pc then (bif Nat.beq pc 159 then some (.ifCond .eq 0, 162, 177, 0) else none) else (bif Nat.beq pc 158 then some (.iload_n 3, 159, 0, 0) else none)) else (bif Nat.ble 156 pc then (bif Nat.beq pc 156 then some (.aload 6, 158, 0, 0) else none) else (bif Nat.beq pc 153 then some (.putfield 4, 156, 308, 4) else none))) else (bif Nat.ble 149 pc then (bif Nat.ble 150 pc then (bif Nat.beq pc 150 then some (.putfield 0, 153, 292, 14) else none) else (bif Nat.beq pc 149 then some (.iadd, 150, 0, 0) else none)) else (bif Nat.ble 148 pc then (bif Nat.beq pc 148 then some (.dload 1, 149, 0, 0) else none) else (bif Nat.beq pc 147 then some (.dup_x1, 148, 0, 0) else none)))) else (bif Nat.ble 140 pc then (bif Nat.ble 143 pc then (bif Nat.ble 144 pc then (bif Nat.beq pc 144 then some (.getfield 0, 147, 292, 14) else none) else (bif Nat.beq pc 143 then some (.dup, 144, 0, 0) else none)) else (bif Nat.ble 142 pc then (bif Nat.beq pc 142 then some (.aload_n 0, 143, 0, 0) else none) else (bif Nat.beq pc 140 then some (.aload 6, 142, 0, 0) else none))) else (bif Nat.ble 134 pc then (bif Nat.ble 137 pc then (bif Nat.beq pc 137 then some (.putfield 4, 140, 307, 3) else none) else (bif Nat.beq pc 134 then some (.getfield 0, 137, 295, 13) else none)) else (bif Nat.beq pc 133 then some (.aload_n 0, 134, 0, 0) else none)))) else (bif Nat.ble 119 pc then (bif Nat.ble 124 pc then (bif Nat.ble 128 pc then (bif Nat.ble 131 pc then (bif Nat.beq pc 131 then some (.aload 6, 133, 0, 0) else none) else (bif Nat.beq pc 128 then some (.invokevirtual 133, 131, 304, 0) else none)) else (bif Nat.ble 127 pc then (bif Nat.beq pc 127 then some (.dload 0, 128, 0, 0) else none) else (bif Nat.beq pc 124 then some (.goto 0, 127, 128, 0) else none))) else (bif Nat.ble 120 pc then (bif Nat.ble 123 pc then (bif Nat.beq pc 123 then some (.dload 1, 124, 0, 0) else none) else (bif Nat.beq pc 120 then some (.if_icmp .ne 0, 123, 127, 0) else none)) else (bif Nat.beq pc 119 then some (.isub, 120, 0, 0) else none))) else (bif Nat.ble 111 pc then (bif Nat.ble 115 pc then (bif Nat.ble 118 pc then (bif Nat.beq pc 118 then some (.dload 1, 119, 0, 0) else none) else (bif Nat.beq pc 115 then some (.getfield 0, 118, 107, 1) else none)) else (bif Nat.ble 114 pc then (bif Nat.beq pc 114 then some (.aload_n 0, 115, 0, 0) else none) else (bif Nat.beq pc 111 then some (.getfield 0, 114, 292, 14) else none))) else (bif Nat.ble 109 pc then (bif Nat.ble 110 pc then (bif Nat.beq pc 110 then some (.aload_n 0, 111, 0, 0) else none) else (bif Nat.beq pc 109 then some (.aload_n 0, 110, 0, 0) else none)) else (bif Nat.beq pc 107 then some (.astore 6, 109, 0, 0) else none)))))) else (bif Nat.ble 49 pc then (bif Nat.ble 75 pc then (bif Nat.ble 89 pc then (bif Nat.ble 96 pc then (bif Nat.ble 101 pc then (bif Nat.ble 104 pc then (bif Nat.beq pc 104 then some (.checkcast 4, 107, 88, 0) else none) else (bif Nat.beq pc 101 then some (.invokevirtual 144, 104, 275, 0) else none)) else (bif Nat.ble 99 pc then (bif Nat.beq pc 99 then some (.iload 5, 101, 0, 0) else none) else (bif Nat.beq pc 96 then some (.fload 0, 99, 84, 11) else none))) else (bif Nat.ble 92 pc then (bif Nat.ble 95 pc then (bif Nat.beq pc 95 then some (.aload_n 0, 96, 0, 0) else none) else (bif Nat.beq pc 92 then some (.if_icmp .ge 0, 95, 191, 0) else none)) else (bif Nat.ble 91 pc then (bif Nat.beq pc 91 then some (.iload_n 2, 92, 0, 0) else none) else (bif Nat.beq pc 89 then some (.iload 5, 91, 0, 0) else none)))) else (bif Nat.ble 80 pc then (bif Nat.ble 84 pc then (bif Nat.ble 87 pc then (bif Nat.beq pc 87 then some (.istore 5, 89, 0, 0) else none) else (bif Nat.beq pc 84 then some (.getfield 0, 87, 301, 12) else none)) else (bif Nat.ble 83 pc then (bif Nat.beq pc 83 then some (.aload_n 0, 84, 0, 0) else none) else (bif Nat.beq pc 80 then some (.putfield 0, 83, 292, 14) else none))) else (bif Nat.ble 78 pc then (bif Nat.ble 79 pc then (bif Nat.beq pc 79 then some (.iadd, 80, 0, 0) else none) else (bif Nat.beq pc 78 then some (.dload 0, 79, 0, 0) else none)) else (bif Nat.beq pc 75 then some (.goto 0, 78, 79, 0) else none)))) else (bif Nat.ble 62 pc then (bif Nat.ble 67 pc then (bif Nat.ble 71 pc then (bif Nat.ble 74 pc then (bif Nat.beq pc 74 then some (.dload 1, 75, 0, 0) else none) else (bif Nat.beq pc 71 then some (.ifCond .le 0, 74, 78, 0) else none)) else (bif Nat.ble 68 pc then (bif Nat.beq pc 68 then some (.getfield 0, 71, 292, 14) else none) else (bif Nat.beq pc 67 then some (.aload_n 0, 68, 0, 0) else none))) else (bif Nat.ble 63 pc then (bif Nat.ble 64 pc then (bif Nat.beq pc 64 then some (.getfield 0, 67, 292, 14) else none) else (bif Nat.beq pc 63 then some (.dup, 64, 0, 0) else none)) else (bif Nat.beq pc 62 then some (.aload_n 0, 63, 0, 0) else none))) else (bif Nat.ble 54 pc then (bif Nat.ble 58 pc then (bif Nat.ble 59 pc then (bif Nat.beq pc 59 then some (.invokevirtual 133, 62, 304, 0) else none) else (bif Nat.beq pc 58 then some (.dload 0, 59, 0, 0) else none)) else (bif Nat.ble 55 pc then (bif Nat.beq pc 55 then some (.goto 0, 58, 59, 0) else none) else (bif Nat.beq pc 54 then some (.dload 1, 55, 0, 0) else none))) else (bif Nat.ble 50 pc then (bif Nat.ble 51 pc then (bif Nat.beq pc 51 then some (.if_icmp .ge 0, 54, 58, 0) else none) else (bif Nat.beq pc 50 then some (.iadd, 51, 0, 0) else none)) else (bif Nat.beq pc 49 then some (.dload 1, 50, 0, 0) else none))))) else (bif Nat.ble 25 pc then (bif Nat.ble 39 pc then (bif Nat.ble 44 pc then (bif Nat.ble 46 pc then (bif Nat.ble 47 pc then (bif Nat.beq pc 47 then some (.iload 4, 49, 0, 0) else none) else (bif Nat.beq pc 46 then some (.isub, 47, 0, 0) else none)) else (bif Nat.ble 45 pc then (bif Nat.beq pc 45 then some (.dload 1, 46, 0, 0) else none) else (bif Nat.beq pc 44 then some (.isub, 45, 0, 0) else none))) else (bif Nat.ble 40 pc then (bif Nat.ble 41 pc then (bif Nat.beq pc 41 then some (.getfield 0, 44, 292, 14) else none) else (bif Nat.beq pc 40 then some (.aload_n 0, 41, 0, 0) else none)) else (bif Nat.beq pc 39 then some (.isub, 40, 0, 0) else none))) else (bif Nat.ble 33 pc then (bif Nat.ble 35 pc then (bif Nat.ble 38 pc then (bif Nat.beq pc 38 then some (.dload 1, 39, 0, 0) else none) else (bif Nat.beq pc 35 then some (.getfield 0, 38, 107, 1) else none)) else (bif Nat.ble 34 pc then (bif Nat.beq pc 34 then some (.aload_n 0, 35, 0, 0) else none) else (bif Nat.beq pc 33 then some (.aload_n 0, 34, 0, 0) else none))) else (bif Nat.ble 28 pc then (bif Nat.ble 30 pc then (bif Nat.beq pc 30 then some (.ifCond .le 0, 33, 83, 0) else none) else (bif Nat.beq pc 28 then some (.iload 4, 30, 0, 0) else none)) else (bif Nat.beq pc 25 then some (.ifCond .eq 0, 28, 83, 0) else none)))) else (bif Nat.ble 15 pc then (bif Nat.ble 18 pc then (bif Nat.ble 22 pc then (bif Nat.ble 24 pc then (bif Nat.beq pc 24 then some (.iload_n 3, 25, 0, 0) else none) else (bif Nat.beq pc 22 then some (.istore 4, 24, 0, 0) else none)) else (bif Nat.ble 21 pc then (bif Nat.beq pc 21 then some (.isub, 22, 0, 0) else none) else (bif Nat.beq pc 18 then some (.getfield 0, 21, 301, 12) else none))) else (bif Nat.ble 16 pc then (bif Nat.ble 17 pc then (bif Nat.beq pc 17 then some (.aload_n 0, 18, 0, 0) else none) else (bif Nat.beq pc 16 then some (.iload_n 2, 17, 0, 0) else none)) else (bif Nat.beq pc 15 then some (.istore_n 3, 16, 0, 0) else none))) else (bif Nat.ble 7 pc then (bif Nat.ble 11 pc then (bif Nat.ble 14 pc then (bif Nat.beq pc 14 then some (.dload 0, 15, 0, 0) else none) else (bif Nat.beq pc 11 then some (.goto 0, 14, 15, 0) else none)) else (bif Nat.ble 10 pc then (bif Nat.beq pc 10 then some (.dload 1, 11, 0, 0) else none) else (bif Nat.beq pc 7 then some (.if_acmp .ne 0, 10, 14, 0) else none))) else (bif Nat.ble 1 pc then (bif Nat.ble 4 pc then (bif Nat.beq pc 4 then some (.getstatic 5, 7, 298, 0) else none) else (bif Nat.beq pc 1 then some (.fload 6, 4, 217, 0) else none)) else (bif Nat.beq pc 0 then some (.aload_n 1, 1, 0, 0) else none))))))
def mc_148 (pc : Nat) : Option (Instr × Nat × Nat × Nat) := bif Nat.ble 43 pc then (bif Nat.ble 67 pc then (bif Nat.ble 75 pc then (bif Nat.ble 82 pc then (bif Nat.ble 88 pc then (bif Nat.ble 91 pc then (bif Nat.beq pc 91 then some (.return_, 92, 0, 0) else none) else (bif Nat.beq pc 88 then some (.goto 0, 91, 30, 0) else none)) else (bif Nat.ble 85 pc then (bif Nat.beq pc 85 then some (.multianewarray 1 1, 88, 0, 0) else none) else (bif Nat.beq pc 82 then some (.invokevirtual 147, 85, 318, 0) else none))) else (bif Nat.ble 76 pc then (bif Nat.ble 79 pc then (bif Nat.beq pc 79 then some (.invokevirtual 146, 82, 314, 0) else none) else (bif Nat.beq pc 76 then some (.getfield 0, 79, 301, 12) else none)) else (bif Nat.beq pc 75 then some (.aload_n 0, 76, 0, 0) else none))) else (bif Nat.ble 70 pc then (bif Nat.ble 73 pc then (bif Nat.ble 74 pc then (bif Nat.beq pc 74 then some (.aaload, 75, 0, 0) else none) else (bif Nat.beq pc 73 then some (.iload_n 1, 74, 0, 0) else none)) else (bif Nat.beq pc 70 then some (.fload 0, 73, 74, 7) else none)) else (bif Nat.ble 68 pc then (bif Nat.ble 69 pc then (bif Nat.beq pc 69 then some (.aload_n 0, 70, 0, 0) else none) else (bif Nat.beq pc 68 then some (.aload_n 0, 69, 0, 0) else none)) else (bif Nat.beq pc 67 then some (.aaload, 68, 0, 0) else none)))) else (bif Nat.ble 55 pc then (bif Nat.ble 62 pc then (bif Nat.ble 63 pc then (bif Nat.ble 66 pc then (bif Nat.beq pc 66 then some (.iload_n 1, 67, 0, 0) else none) else (bif Nat.beq pc 63 then some (.fload 0, 66, 74, 7) else none)) else (bif Nat.beq pc 62 then some (.aload_n 0, 63, 0, 0) else none)) else (bif Nat.ble 58 pc then (bif Nat.ble 61 pc then (bif Nat.beq pc 61 then some (.aload_n 0, 62, 0, 0) else none) else (bif Nat.beq pc 58 then some (.goto 0, 61, 85, 0) else none)) else (bif Nat.beq pc 55 then some (.invokevirtual 133, 58, 304, 0) else none))) else (bif Nat.ble 50 pc then (bif Nat.ble 53 pc then (bif Nat.ble 54 pc then (bif Nat.beq pc 54 then some (.dload 1, 55, 0, 0) else none) else (bif Nat.beq pc 53 then some (.aload_n 0, 54, 0, 0) else none)) else (bif Nat.beq pc 50 then some (.if_acmp .ne 0, 53, 61, 0) else none)) else (bif Nat.ble 44 pc then (bif Nat.ble 47 pc then (bif Nat.beq pc 47 then some (.getstatic 7, 50, 220, 0) else none) else (bif Nat.beq pc 44 then some (.fload 6, 47, 217, 0) else none)) else (bif Nat.beq pc 43 then some (.aaload, 44, 0, 0) else none))))) else (bif Nat.ble 20 pc then (bif Nat.ble 30 pc then (bif Nat.ble 35 pc then (bif Nat.ble 39 pc then (bif Nat.ble 42 pc then (bif Nat.beq pc 42 then some (.iload_n 1, 43, 0, 0) else none) else (bif Nat.beq pc 39 then some (.fload 0, 42, 74, 7) else none)) else (bif Nat.ble 38 pc then (bif Nat.beq pc 38 then some (.aload_n 0, 39, 0, 0) else none) else (bif Nat.beq pc 35 then some (.if_icmp .ge 0, 38, 91, 0) else none))) else (bif Nat.ble 31 pc then (bif Nat.ble 32 pc then (bif Nat.beq pc 32 then some (.getfield 0, 35, 211, 8) else none) else (bif Nat.beq pc 31 then some (.aload_n 0, 32, 0, 0) else none)) else (bif Nat.beq pc 30 then some (.iload_n 1, 31, 0, 0) else none))) else (bif Nat.ble 25 pc then (bif Nat.ble 28 pc then (bif Nat.ble 29 pc then (bif Nat.beq pc 29 then some (.istore_n 1, 30, 0, 0) else none) else (bif Nat.beq pc 28 then some (.dload 0, 29, 0, 0) else none)) else (bif Nat.beq pc 25 then some (.putfield 0, 28, 292, 14) else none)) else (bif Nat.ble 23 pc then (bif Nat.ble 24 pc then (bif Nat.beq pc 24 then some (.dload 0, 25, 0, 0) else none) else (bif Nat.beq pc 23 then some (.aload_n 0, 24, 0, 0) else none)) else (bif Nat.beq pc 20 then some (.putfield 0, 23, 295, 13) else none)))) else (bif Nat.ble 10 pc then (bif Nat.ble 15 pc then (bif Nat.ble 18 pc then (bif Nat.ble 19 pc then (bif Nat.beq pc 19 then some (.dload 1, 20, 0, 0) else none) else (bif Nat.beq pc 18 then some (.aload_n 0, 19, 0, 0) else none)) else (bif Nat.beq pc 15 then some (.putfield 0, 18, 301, 12) else none)) else (bif Nat.ble 13 pc then (bif Nat.ble 14 pc then (bif Nat.beq pc 14 then some (.dload 0, 15, 0, 0) else none) else (bif Nat.beq pc 13 then some (.aload_n 0, 14, 0, 0) else none)) else (bif Nat.beq pc 10 then some (.lstore 0, 13, 227, 10) else none))) else (bif Nat.ble 7 pc then (bif Nat.ble 8 pc then (bif Nat.ble 9 pc then (bif Nat.beq pc 9 then some (.dload 1, 10, 0, 0) else none) else (bif Nat.beq pc 8 then some (.aload_n 0, 9, 0, 0) else none)) else (bif Nat.beq pc 7 then some (.return_, 8, 0, 0) else none)) else (bif Nat.ble 1 pc then (bif Nat.ble 4 pc then (bif Nat.beq pc 4 then some (.ifCond .eq 0, 7, 8, 0) else none) else (bif Nat.beq pc 1 then some (.getfield 0, 4, 227, 10) else none)) else (bif Nat.beq pc 0 then some (.aload_n 0, 1, 0, 0) else none)))))
def mc_149 (pc : Nat) : Option (Instr × Nat × Nat × Nat) := bif Nat.ble 16 pc then (bif Nat.ble 24 pc then (bif Nat.ble 28 pc then (bif Nat.ble 31 pc then (bif Nat.ble 34 pc then (bif Nat.beq pc 34 then some (.ireturn, 35, 0, 0) else none) else (bif Nat.beq pc 31 then some (.getfield 4, 34, 307, 3) else none)) else (bif Nat.beq pc 28 then some (.checkcast 4, 31, 88, 0) else none)) else (bif Nat.ble 25 pc then (bif Nat.beq pc 25 then some (.invokevirtual 144, 28, 275, 0) else none) else (bif Nat.beq pc 24 then some (.isub, 25, 0, 0) else none))) else (bif Nat.ble 20 pc then (bif Nat.ble 23 pc then (bif Nat.beq pc 23 then some (.dload 1, 24, 0, 0) else none) else (bif Nat.beq pc 20 then some (.getfield 0, 23, 301, 12) else none)) else (bif Nat.ble 19 pc then (bif Nat.beq pc 19 then some (.aload_n 0, 20, 0, 0) else none) else (bif Nat.beq pc 16 then some (.fload 0, 19, 84, 11) else none)))) else (bif Nat.ble 8 pc then (bif Nat.ble 12 pc then (bif Nat.ble 15 pc then (bif Nat.beq pc 15 then some (.aload_n 0, 16, 0, 0) else none) else (bif Nat.beq pc 12 then some (.goto 0, 15, 34, 0) else none)) else (bif Nat.ble 11 pc then (bif Nat.beq pc 11 then some (.dload 1, 12, 0, 0) else none) else (bif Nat.beq pc 8 then some (.ifCond .ne 0, 11, 15, 0) else none))) else (bif Nat.ble 4 pc then (bif Nat.ble 5 pc then (bif Nat.beq pc 5 then some (.getfield 0, 8, 301, 12) else none) else (bif Nat.beq pc 4 then some (.aload_n 0, 5, 0, 0) else none)) else (bif Nat.ble 1 pc then (bif Nat.beq pc 1 then some (.invokevirtual 148, 4, 321, 0) else none) else (bif Nat.beq pc 0 then some (.aload_n 0, 1, 0, 0) else none))))
def mc_150 (pc : Nat) : Option (Instr × Nat × Nat × Nat) := bif Nat.ble 13 pc then (bif Nat.ble 21 pc then (bif Nat.ble 25 pc then (bif Nat.ble 26 pc then (bif Nat.beq pc 26 then some (.ireturn, 27, 0, 0) else none) else (bif Nat.beq pc 25 then some (.dload 0, 26, 0, 0) else none)) else (bif Nat.ble 22 pc then (bif Nat.beq pc 22 then some (.goto 0, 25, 26, 0) else none) else (bif Nat.beq pc 21 then some (.dload 4, 22, 0, 0) else none))) else (bif Nat.ble 17 pc then (bif Nat.ble 18 pc then (bif Nat.beq pc 18 then some (.ifCond .le 0, 21, 25, 0) else none) else (bif Nat.beq pc 17 then some (.iload_n 2, 18, 0, 0) else none)) else (bif Nat.ble 14 pc then (bif Nat.beq pc 14 then some (.if_icmp .ne 0, 17, 25, 0) else none) else (bif Nat.beq pc 13 then some (.dload 2, 14, 0, 0) else none)))) else (bif Nat.ble 5 pc then (bif Nat.ble 9 pc then (bif Nat.ble 12 pc then (bif Nat.beq pc 12 then some (.iload_n 1, 13, 0, 0) else none) else (bif Nat.beq pc 9 then some (.goto 0, 12, 26, 0) else none)) else (bif Nat.ble 8 pc then (bif Nat.beq pc 8 then some (.dload 2, 9, 0, 0) else none) else (bif Nat.beq pc 5 then some (.ifCond .ne 0, 8, 12, 0) else none))) else (bif Nat.ble 1 pc then (bif Nat.ble 4 pc then (bif Nat.beq pc 4 then some (.iload_n 2, 5, 0, 0) else none) else (bif Nat.beq pc 1 then some (.ifCond .ne 0, 4, 12, 0) else none)) else (bif Nat.beq pc 0 then some (.iload_n 1, 1, 0, 0) else none)))
def mc_151 (pc : Nat) : Option (Instr × Nat × Nat × Nat) := bif Nat.ble 76 pc then (bif Nat.ble 120 pc then (bif Nat.ble 139 pc then (bif Nat.ble 151 pc then (bif Nat.ble 156 pc then (bif Nat.ble 157 pc then (bif Nat.ble 160 pc then (bif Nat.beq pc 160 then some (.return_, 161, 0, 0) else none) else (bif Nat.beq pc 157 then some (.putfield 7, 160, 173, 19) else none)) else (bif Nat.beq pc 156 then some (.dload 0, 157, 0, 0) else none)) else (bif Nat.ble 152 pc then (bif Nat.ble 155 pc then (bif Nat.beq pc 155 then some (.aload_n 0, 156, 0, 0) else none) else (bif Nat.beq pc 152 then some (.putfield 7, 155, 167, 22) else none)) else (bif Nat.beq pc 151 then some (.iadd, 152, 0, 0) else none))) else (bif Nat.ble 146 pc then (bif Nat.ble 147 pc then (bif Nat.ble 150 pc then (bif Nat.beq pc 150 then some (.dload 1, 151, 0, 0) else none) else (bif Nat.beq pc 147 then some (.getfield 7, 150, 167, 22) else none)) else (bif Nat.beq pc 146 then some (.dup, 147, 0, 0) else none)) else (bif Nat.ble 142 pc then (bif Nat.ble 145 pc then (bif Nat.beq pc 145 then some (.aload_n 0, 146, 0, 0) else none) else (bif Nat.beq pc 142 then some (.putfield 7, 145, 182, 23) else none)) else (bif Nat.beq pc 139 then some (.getfield 7, 142, 170, 21) else none)))) else (bif Nat.ble 129 pc then (bif Nat.ble 134 pc then (bif Nat.ble 137 pc then (bif Nat.ble 138 pc then (bif Nat.beq pc 138 then some (.aload_n 0, 139, 0, 0) else none) else (bif Nat.beq pc 137 then some (.aload_n 0, 138, 0, 0) else none)) else (bif Nat.beq pc 134 then some (.goto 0, 137, 84, 0) else none)) else (bif Nat.ble 130 pc then (bif Nat.ble 131 pc then (bif Nat.beq pc 131 then some (.multianewarray 4 1, 134, 0, 0) else none) else (bif Nat.beq pc 130 then some (.iastore, 131, 0, 0) else none)) else (bif Nat.beq pc 129 then some (.iaload, 130, 0, 0) else none))) else (bif Nat.ble 123 pc then (bif Nat.ble 124 pc then (bif Nat.ble 127 pc then (bif Nat.beq pc 127 then some (.iload 4, 129, 0, 0) else none) else (bif Nat.beq pc 124 then some (.fload 7, 127, 48, 20) else none)) else (bif Nat.beq pc 123 then some (.aload_n 0, 124, 0, 0) else none)) else (bif Nat.ble 122 pc then (bif Nat.beq pc 122 then some (.iadd, 123, 0, 0) else none) else (bif Nat.beq pc 120 then some (.iload 4, 122, 0, 0) else none))))) else (bif Nat.ble 97 pc then (bif Nat.ble 108 pc then (bif Nat.ble 115 pc then (bif Nat.ble 116 pc then (bif Nat.ble 119 pc then (bif Nat.beq pc 119 then some (.iload_n 3, 120, 0, 0) else none) else (bif Nat.beq pc 116 then some (.fload 7, 119, 51, 26) else none)) else (bif Nat.beq pc 115 then some (.aload_n 0, 116, 0, 0) else none)) else (bif Nat.ble 109 pc then (bif Nat.ble 112 pc then (bif Nat.beq pc 112 then some (.if_icmp .ne 0, 115, 137, 0) else none) else (bif Nat.beq pc 109 then some (.getfield 7, 112, 179, 25) else none)) else (bif Nat.beq pc 108 then some (.aload_n 0, 109, 0, 0) else none))) else (bif Nat.ble 101 pc then (bif Nat.ble 104 pc then (bif Nat.ble 105 pc then (bif Nat.beq pc 105 then some (.getfield 7, 108, 167, 22) else none) else (bif Nat.beq pc 104 then some (.aload_n 0, 105, 0, 0) else none)) else (bif Nat.beq pc 101 then some (.if_icmp .ne 0, 104, 137, 0) else none)) else (bif Nat.ble 98 pc then (bif Nat.beq pc 98 then some (.getfield 7, 101, 176, 24) else none) else (bif Nat.beq pc 97 then some (.aload_n 0, 98, 0, 0) else none)))) else (bif Nat.ble 84 pc then (bif Nat.ble 90 pc then (bif Nat.ble 93 pc then (bif Nat.ble 94 pc then (bif Nat.beq pc 94 then some (.getfield 7, 97, 170, 21) else none) else (bif Nat.beq pc 93 then some (.aload_n 0, 94, 0, 0) else none)) else (bif Nat.beq pc 90 then some (.if_icmp .ge 0, 93, 137, 0) else none)) else (bif Nat.ble 86 pc then (bif Nat.ble 87 pc then (bif Nat.beq pc 87 then some (.getfield 7, 90, 173, 19) else none) else (bif Nat.beq pc 86 then some (.aload_n 0, 87, 0, 0) else none)) else (bif Nat.beq pc 84 then some (.iload 4, 86, 0, 0) else none))) else (bif Nat.ble 80 pc then (bif Nat.ble 81 pc then (bif Nat.ble 82 pc then (bif Nat.beq pc 82 then some (.istore 4, 84, 0, 0) else none) else (bif Nat.beq pc 81 then some (.dload 0, 82, 0, 0) else none)) else (bif Nat.beq pc 80 then some (.istore_n 3, 81, 0, 0) else none)) else (bif Nat.ble 79 pc then (bif Nat.beq pc 79 then some (.iload_n 2, 80, 0, 0) else none) else (bif Nat.beq pc 76 then some (.goto 0, 79, 80, 0) else none)))))) else (bif Nat.ble 38 pc then (bif Nat.ble 56 pc then (bif Nat.ble 66 pc then (bif Nat.ble 73 pc then (bif Nat.ble 74 pc then (bif Nat.ble 75 pc then (bif Nat.beq pc 75 then some (.idiv, 76, 0, 0) else none) else (bif Nat.beq pc 74 then some (.dload 2, 75, 0, 0) else none)) else (bif Nat.beq pc 73 then some (.isub, 74, 0, 0) else none)) else (bif Nat.ble 69 pc then (bif Nat.ble 70 pc then (bif Nat.beq pc 70 then some (.getfield 7, 73, 173, 19) else none) else (bif Nat.beq pc 69 then some (.aload_n 0, 70, 0, 0) else none)) else (bif Nat.beq pc 66 then some (.getfield 7, 69, 57, 1) else none))) else (bif Nat.ble 61 pc then (bif Nat.ble 62 pc then (bif Nat.ble 65 pc then (bif Nat.beq pc 65 then some (.aload_n 0, 66, 0, 0) else none) else (bif Nat.beq pc 62 then some (.if_icmp .ne 0, 65, 79, 0) else none)) else (bif Nat.beq pc 61 then some (.dload 1, 62, 0, 0) else none)) else (bif Nat.ble 59 pc then (bif Nat.ble 60 pc then (bif Nat.beq pc 60 then some (.iaload, 61, 0, 0) else none) else (bif Nat.beq pc 59 then some (.iload_n 1, 60, 0, 0) else none)) else (bif Nat.beq pc 56 then some (.fload 7, 59, 33, 13) else none)))) else (bif Nat.ble 48 pc then (bif Nat.ble 53 pc then (bif Nat.ble 54 pc then (bif Nat.ble 55 pc then (bif Nat.beq pc 55 then some (.aload_n 0, 56, 0, 0) else none) else (bif Nat.beq pc 54 then some (.iastore, 55, 0, 0) else none)) else (bif Nat.beq pc 53 then some (.iadd, 54, 0, 0) else none)) else (bif Nat.ble 49 pc then (bif Nat.ble 50 pc then (bif Nat.beq pc 50 then some (.getfield 7, 53, 167, 22) else none) else (bif Nat.beq pc 49 then some (.aload_n 0, 50, 0, 0) else none)) else (bif Nat.beq pc 48 then some (.imul, 49, 0, 0) else none))) else (bif Nat.ble 42 pc then (bif Nat.ble 44 pc then (bif Nat.ble 45 pc then (bif Nat.beq pc 45 then some (.getfield 7, 48, 170, 21) else none) else (bif Nat.beq pc 44 then some (.aload_n 0, 45, 0, 0) else none)) else (bif Nat.beq pc 42 then some (.dload 32, 44, 0, 0) else none)) else (bif Nat.ble 41 pc then (bif Nat.beq pc 41 then some (.iload_n 1, 42, 0, 0) else none) else (bif Nat.beq pc 38 then some (.fload 7, 41, 54, 27) else none))))) else (bif Nat.ble 19 pc then (bif Nat.ble 28 pc then (bif Nat.ble 33 pc then (bif Nat.ble 34 pc then (bif Nat.ble 37 pc then (bif Nat.beq pc 37 then some (.aload_n 0, 38, 0, 0) else none) else (bif Nat.beq pc 34 then some (.ifCond .ge 0, 37, 55, 0) else none)) else (bif Nat.beq pc 33 then some (.iaload, 34, 0, 0) else none)) else (bif Nat.ble 29 pc then (bif Nat.ble 32 pc then (bif Nat.beq pc 32 then some (.iload_n 1, 33, 0, 0) else none) else (bif Nat.beq pc 29 then some (.fload 7, 32, 54, 27) else none)) else (bif Nat.beq pc 28 then some (.aload_n 0, 29, 0, 0) else none))) else (bif Nat.ble 23 pc then (bif Nat.ble 24 pc then (bif Nat.ble 25 pc then (bif Nat.beq pc 25 then some (.putfield 7, 28, 167, 22) else none) else (bif Nat.beq pc 24 then some (.dload 0, 25, 0, 0) else none)) else (bif Nat.beq pc 23 then some (.aload_n 0, 24, 0, 0) else none)) else (bif Nat.ble 20 pc then (bif Nat.beq pc 20 then some (.putfield 7, 23, 170, 21) else none) else (bif Nat.beq pc 19 then some (.iadd, 20, 0, 0) else none)))) else (bif Nat.ble 9 pc then (bif Nat.ble 14 pc then (bif Nat.ble 15 pc then (bif Nat.ble 18 pc then (bif Nat.beq pc 18 then some (.dload 1, 19, 0, 0) else none) else (bif Nat.beq pc 15 then some (.getfield 7, 18, 170, 21) else none)) else (bif Nat.beq pc 14 then some (.dup, 15, 0, 0) else none)) else (bif Nat.ble 10 pc then (bif Nat.ble 13 pc then (bif Nat.beq pc 13 then some (.aload_n 0, 14, 0, 0) else none) else (bif Nat.beq pc 10 then some (.if_icmp .ne 0, 13, 28, 0) else none)) else (bif Nat.beq pc 9 then some (.isub, 10, 0, 0) else none))) else (bif Nat.ble 4 pc then (bif Nat.ble 5 pc then (bif Nat.ble 8 pc then (bif Nat.beq pc 8 then some (.dload 1, 9, 0, 0) else none) else (bif Nat.beq pc 5 then some (.getfield 7, 8, 60, 2) else none)) else (bif Nat.beq pc 4 then some (.aload_n 0, 5, 0, 0) else none)) else (bif Nat.ble 1 pc then (bif Nat.beq pc 1 then some (.getfield 7, 4, 167, 22) else none) else (bif Nat.beq pc 0 then some (.aload_n 0, 1, 0, 0) else none))))))
def mc_152 (pc : Nat) : Option (Instr × Nat × Nat × Nat) := bif Nat.ble 12 pc then (bif Nat.ble 20 pc then (bif Nat.ble 22 pc then (bif Nat.ble 25 pc then (bif Nat.beq pc 25 then some (.return_, 26, 0, 0) else none) else (bif Nat.beq pc 22 then some (.putfield 7, 25, 173, 19) else none)) else (bif Nat.ble 21 pc then (bif Nat.beq pc 21 then some (.dload 0, 22, 0, 0) else none) else (bif Nat.beq pc 20 then some (.aload_n 0, 21, 0, 0) else none))) else (bif Nat.ble 14 pc then (bif Nat.ble 17 pc then (bif Nat.beq pc 17 then some (.invokevirtual 151, 20, 193, 0) else none) else (bif Nat.beq pc 14 then some (.invokevirtual 150, 17, 185, 0) else none)) else (bif Nat.ble 13 pc then (bif Nat.beq pc 13 then some (.iload_n 2, 14, 0, 0) else none) else (bif Nat.beq pc 12 then some (.iaload, 13, 0, 0) else none)))) else (bif Nat.ble 6 pc then (bif Nat.ble 8 pc then (bif Nat.ble 11 pc then (bif Nat.beq pc 11 then some (.iload_n 1, 12, 0, 0) else none) else (bif Nat.beq pc 8 then some (.fload 7, 11, 33, 13) else none)) else (bif Nat.ble 7 pc then (bif Nat.beq pc 7 then some (.aload_n 0, 8, 0, 0) else none) else (bif Nat.beq pc 6 then some (.aload_n 0, 7, 0, 0) else none))) else (bif Nat.ble 4 pc then (bif Nat.ble 5 pc then (bif Nat.beq pc 5 then some (.iload_n 1, 6, 0, 0) else none) else (bif Nat.beq pc 4 then some (.aload_n 0, 5, 0, 0) else none)) else (bif Nat.ble 1 pc then (bif Nat.beq pc 1 then some (.ifCond .eq 0, 4, 20, 0) else none) else (bif Nat.beq pc 0 then some (.iload_n 3, 1, 0, 0) else none))))
def mc_153 (pc : Nat) : Option (Instr × Nat × Nat × Nat) := bif Nat.ble 128 pc then (bif Nat.ble 195 pc then (bif Nat.ble 225 pc then (bif Nat.ble 245 pc then (bif Nat.ble 251 pc then (bif Nat.ble 255 pc then (bif Nat.ble 258 pc then (bif Nat.ble 259 pc then (bif Nat.beq pc 259 then some (.ireturn, 260, 0, 0) else none) else (bif Nat.beq pc 258 then some (.iload_n 3, 259, 0, 0) else none)) else (bif Nat.beq pc 255 then some (.multianewarray 3 1, 258, 0, 0) else none)) else (bif Nat.ble 252 pc then (bif Nat.beq pc 252 then some (.invokevirtual 152, 255, 189, 0) else none) else (bif Nat.beq pc 251 then some (.iload_n 2, 252, 0, 0) else none))) else (bif Nat.ble 249 pc then (bif Nat.ble 250 pc then (bif Nat.beq pc 250 then some (.iload_n 3, 251, 0, 0) else none) else (bif Nat.beq pc 249 then some (.iload_n 1, 250, 0, 0) else none)) else (bif Nat.ble 248 pc then (bif Nat.beq pc 248 then some (.aload_n 0, 249, 0, 0) else none) else (bif Nat.beq pc 245 then some (.ifCond .le 0, 248, 258, 0) else none)))) else (bif Nat.ble 235 pc then (bif Nat.ble 241 pc then (bif Nat.ble 242 pc then (bif Nat.beq pc 242 then some (.getfield 7, 245, 173, 19) else none) else (bif Nat.beq pc 241 then some (.aload_n 0, 242, 0, 0) else none)) else (bif Nat.ble 238 pc then (bif Nat.beq pc 238 then some (.goto 0, 241, 25, 0) else none) else (bif Nat.beq pc 235 then some (.multianewarray 4 1, 238, 0, 0) else none))) else (bif Nat.ble 229 pc then (bif Nat.ble 232 pc then (bif Nat.beq pc 232 then some (.goto 0, 235, 59, 0) else none) else (bif Nat.beq pc 229 then some (.multianewarray 3 1, 232, 0, 0) else none)) else (bif Nat.ble 226 pc then (bif Nat.beq pc 226 then some (.invokevirtual 152, 229, 189, 0) else none) else (bif Nat.beq pc 225 then some (.iload_n 2, 226, 0, 0) else none))))) else (bif Nat.ble 206 pc then (bif Nat.ble 217 pc then (bif Nat.ble 222 pc then (bif Nat.ble 223 pc then (bif Nat.ble 224 pc then (bif Nat.beq pc 224 then some (.iload_n 3, 225, 0, 0) else none) else (bif Nat.beq pc 223 then some (.iload_n 1, 224, 0, 0) else none)) else (bif Nat.beq pc 222 then some (.aload_n 0, 223, 0, 0) else none)) else (bif Nat.ble 219 pc then (bif Nat.beq pc 219 then some (.if_icmp .ge 0, 222, 232, 0) else none) else (bif Nat.beq pc 217 then some (.iload 6, 219, 0, 0) else none))) else (bif Nat.ble 212 pc then (bif Nat.ble 215 pc then (bif Nat.beq pc 215 then some (.iload 4, 217, 0, 0) else none) else (bif Nat.beq pc 212 then some (.goto 0, 215, 167, 0) else none)) else (bif Nat.ble 209 pc then (bif Nat.beq pc 209 then some (.multianewarray 4 1, 212, 0, 0) else none) else (bif Nat.beq pc 206 then some (.putfield 7, 209, 173, 19) else none)))) else (bif Nat.ble 200 pc then (bif Nat.ble 204 pc then (bif Nat.ble 205 pc then (bif Nat.beq pc 205 then some (.iadd, 206, 0, 0) else none) else (bif Nat.beq pc 204 then some (.dload 1, 205, 0, 0) else none)) else (bif Nat.ble 201 pc then (bif Nat.beq pc 201 then some (.getfield 7, 204, 173, 19) else none) else (bif Nat.beq pc 200 then some (.dup, 201, 0, 0) else none))) else (bif Nat.ble 198 pc then (bif Nat.ble 199 pc then (bif Nat.beq pc 199 then some (.aload_n 0, 200, 0, 0) else none) else (bif Nat.beq pc 198 then some (.iastore, 199, 0, 0) else none)) else (bif Nat.ble 197 pc then (bif Nat.beq pc 197 then some (.iaload, 198, 0, 0) else none) else (bif Nat.beq pc 195 then some (.iload 4, 197, 0, 0) else none)))))) else (bif Nat.ble 159 pc then (bif Nat.ble 175 pc then (bif Nat.ble 184 pc then (bif Nat.ble 188 pc then (bif Nat.ble 191 pc then (bif Nat.ble 192 pc then (bif Nat.beq pc 192 then some (.fload 7, 195, 39, 15) else none) else (bif Nat.beq pc 191 then some (.aload_n 0, 192, 0, 0) else none)) else (bif Nat.beq pc 188 then some (.getfield 7, 191, 173, 19) else none)) else (bif Nat.ble 187 pc then (bif Nat.beq pc 187 then some (.aload_n 0, 188, 0, 0) else none) else (bif Nat.beq pc 184 then some (.fload 7, 187, 48, 20) else none))) else (bif Nat.ble 180 pc then (bif Nat.ble 183 pc then (bif Nat.beq pc 183 then some (.aload_n 0, 184, 0, 0) else none) else (bif Nat.beq pc 180 then some (.if_icmp .ge 0, 183, 215, 0) else none)) else (bif Nat.ble 178 pc then (bif Nat.beq pc 178 then some (.iload 7, 180, 0, 0) else none) else (bif Nat.beq pc 175 then some (.getfield 7, 178, 173, 19) else none)))) else (bif Nat.ble 167 pc then (bif Nat.ble 171 pc then (bif Nat.ble 174 pc then (bif Nat.beq pc 174 then some (.aload_n 0, 175, 0, 0) else none) else (bif Nat.beq pc 171 then some (.if_icmp .ge 0, 174, 215, 0) else none)) else (bif Nat.ble 169 pc then (bif Nat.beq pc 169 then some (.iload 6, 171, 0, 0) else none) else (bif Nat.beq pc 167 then some (.iload 4, 169, 0, 0) else none))) else (bif Nat.ble 163 pc then (bif Nat.ble 164 pc then (bif Nat.beq pc 164 then some (.putfield 7, 167, 173, 19) else none) else (bif Nat.beq pc 163 then some (.iadd, 164, 0, 0) else none)) else (bif Nat.ble 162 pc then (bif Nat.beq pc 162 then some (.dload 1, 163, 0, 0) else none) else (bif Nat.beq pc 159 then some (.getfield 7, 162, 173, 19) else none))))) else (bif Nat.ble 144 pc then (bif Nat.ble 152 pc then (bif Nat.ble 156 pc then (bif Nat.ble 157 pc then (bif Nat.ble 158 pc then (bif Nat.beq pc 158 then some (.dup, 159, 0, 0) else none) else (bif Nat.beq pc 157 then some (.aload_n 0, 158, 0, 0) else none)) else (bif Nat.beq pc 156 then some (.iastore, 157, 0, 0) else none)) else (bif Nat.ble 155 pc then (bif Nat.beq pc 155 then some (.dload 0, 156, 0, 0) else none) else (bif Nat.beq pc 152 then some (.getfield 7, 155, 173, 19) else none))) else (bif Nat.ble 148 pc then (bif Nat.ble 151 pc then (bif Nat.beq pc 151 then some (.aload_n 0, 152, 0, 0) else none) else (bif Nat.beq pc 148 then some (.fload 7, 151, 48, 20) else none)) else (bif Nat.ble 147 pc then (bif Nat.beq pc 147 then some (.aload_n 0, 148, 0, 0) else none) else (bif Nat.beq pc 144 then some (.ifCond .le 0, 147, 167, 0) else none)))) else (bif Nat.ble 134 pc then (bif Nat.ble 140 pc then (bif Nat.ble 141 pc then (bif Nat.beq pc 141 then some (.getfield 7, 144, 173, 19) else none) else (bif Nat.beq pc 140 then some (.aload_n 0, 141, 0, 0) else none)) else (bif Nat.ble 137 pc then (bif Nat.beq pc 137 then some (.goto 0, 140, 232, 0) else none) else (bif Nat.beq pc 134 then some (.multianewarray 3 1, 137, 0, 0) else none))) else (bif Nat.ble 130 pc then (bif Nat.ble 131 pc then (bif Nat.beq pc 131 then some (.invokevirtual 152, 134, 189, 0) else none) else (bif Nat.beq pc 130 then some (.iload_n 2, 131, 0, 0) else none)) else (bif Nat.ble 129 pc then (bif Nat.beq pc 129 then some (.iload_n 3, 130, 0, 0) else none) else (bif Nat.beq pc 128 then some (.iload_n 1, 129, 0, 0) else none))))))) else (bif Nat.ble 66 pc then (bif Nat.ble 96 pc then (bif Nat.ble 110 pc then (bif Nat.ble 117 pc then (bif Nat.ble 122 pc then (bif Nat.ble 124 pc then (bif Nat.ble 127 pc then (bif Nat.beq pc 127 then some (.aload_n 0, 128, 0, 0) else none) else (bif Nat.beq pc 124 then some (.if_icmp .le 0, 127, 140, 0) else none)) else (bif Nat.beq pc 122 then some (.iload 7, 124, 0, 0) else none)) else (bif Nat.ble 120 pc then (bif Nat.beq pc 120 then some (.iload 8, 122, 0, 0) else none) else (bif Nat.beq pc 117 then some (.ifCond .le 0, 120, 140, 0) else none))) else (bif Nat.ble 113 pc then (bif Nat.ble 114 pc then (bif Nat.beq pc 114 then some (.getfield 7, 117, 173, 19) else none) else (bif Nat.beq pc 113 then some (.aload_n 0, 114, 0, 0) else none)) else (bif Nat.ble 111 pc then (bif Nat.beq pc 111 then some (.istore 8, 113, 0, 0) else none) else (bif Nat.beq pc 110 then some (.isub, 111, 0, 0) else none)))) else (bif Nat.ble 104 pc then (bif Nat.ble 107 pc then (bif Nat.ble 108 pc then (bif Nat.beq pc 108 then some (.iload 4, 110, 0, 0) else none) else (bif Nat.beq pc 107 then some (.iadd, 108, 0, 0) else none)) else (bif Nat.ble 105 pc then (bif Nat.beq pc 105 then some (.iload 6, 107, 0, 0) else none) else (bif Nat.beq pc 104 then some (.iadd, 105, 0, 0) else none))) else (bif Nat.ble 100 pc then (bif Nat.ble 103 pc then (bif Nat.beq pc 103 then some (.dload 1, 104, 0, 0) else none) else (bif Nat.beq pc 100 then some (.getfield 7, 103, 173, 19) else none)) else (bif Nat.ble 99 pc then (bif Nat.beq pc 99 then some (.aload_n 0, 100, 0, 0) else none) else (bif Nat.beq pc 96 then some (.goto 0, 99, 111, 0) else none))))) else (bif Nat.ble 78 pc then (bif Nat.ble 85 pc then (bif Nat.ble 91 pc then (bif Nat.ble 93 pc then (bif Nat.ble 95 pc then (bif Nat.beq pc 95 then some (.isub, 96, 0, 0) else none) else (bif Nat.beq pc 93 then some (.iload 4, 95, 0, 0) else none)) else (bif Nat.beq pc 91 then some (.iload 6, 93, 0, 0) else none)) else (bif Nat.ble 88 pc then (bif Nat.beq pc 88 then some (.ifCond .ne 0, 91, 99, 0) else none) else (bif Nat.beq pc 85 then some (.getfield 7, 88, 173, 19) else none))) else (bif Nat.ble 82 pc then (bif Nat.ble 84 pc then (bif Nat.beq pc 84 then some (.aload_n 0, 85, 0, 0) else none) else (bif Nat.beq pc 82 then some (.istore 7, 84, 0, 0) else none)) else (bif Nat.ble 81 pc then (bif Nat.beq pc 81 then some (.isub, 82, 0, 0) else none) else (bif Nat.beq pc 78 then some (.invokevirtual 150, 81, 185, 0) else none)))) else (bif Nat.ble 72 pc then (bif Nat.ble 76 pc then (bif Nat.ble 77 pc then (bif Nat.beq pc 77 then some (.iload_n 3, 78, 0, 0) else none) else (bif Nat.beq pc 76 then some (.iaload, 77, 0, 0) else none)) else (bif Nat.ble 75 pc then (bif Nat.beq pc 75 then some (.iload_n 1, 76, 0, 0) else none) else (bif Nat.beq pc 72 then some (.fload 7, 75, 33, 13) else none))) else (bif Nat.ble 70 pc then (bif Nat.ble 71 pc then (bif Nat.beq pc 71 then some (.aload_n 0, 72, 0, 0) else none) else (bif Nat.beq pc 70 then some (.aload_n 0, 71, 0, 0) else none)) else (bif Nat.ble 67 pc then (bif Nat.beq pc 67 then some (.getfield 7, 70, 57, 1) else none) else (bif Nat.beq pc 66 then some (.aload_n 0, 67, 0, 0) else none)))))) else (bif Nat.ble 27 pc then (bif Nat.ble 44 pc then (bif Nat.ble 53 pc then (bif Nat.ble 59 pc then (bif Nat.ble 61 pc then (bif Nat.ble 63 pc then (bif Nat.beq pc 63 then some (.if_icmp .ge 0, 66, 235, 0) else none) else (bif Nat.beq pc 61 then some (.iload 6, 63, 0, 0) else none)) else (bif Nat.beq pc 59 then some (.iload 4, 61, 0, 0) else none)) else (bif Nat.ble 56 pc then (bif Nat.beq pc 56 then some (.goto 0, 59, 36, 0) else none) else (bif Nat.beq pc 53 then some (.multianewarray 6 1, 56, 0, 0) else none))) else (bif Nat.ble 49 pc then (bif Nat.ble 50 pc then (bif Nat.beq pc 50 then some (.ifCond .eq 0, 53, 59, 0) else none) else (bif Nat.beq pc 49 then some (.iaload, 50, 0, 0) else none)) else (bif Nat.ble 47 pc then (bif Nat.beq pc 47 then some (.iload 6, 49, 0, 0) else none) else (bif Nat.beq pc 44 then some (.fload 7, 47, 39, 15) else none)))) else (bif Nat.ble 36 pc then (bif Nat.ble 40 pc then (bif Nat.ble 43 pc then (bif Nat.beq pc 43 then some (.aload_n 0, 44, 0, 0) else none) else (bif Nat.beq pc 40 then some (.if_icmp .ge 0, 43, 59, 0) else none)) else (bif Nat.ble 38 pc then (bif Nat.beq pc 38 then some (.iload 5, 40, 0, 0) else none) else (bif Nat.beq pc 36 then some (.iload 6, 38, 0, 0) else none))) else (bif Nat.ble 32 pc then (bif Nat.ble 34 pc then (bif Nat.beq pc 34 then some (.istore 6, 36, 0, 0) else none) else (bif Nat.beq pc 32 then some (.iload 4, 34, 0, 0) else none)) else (bif Nat.ble 29 pc then (bif Nat.beq pc 29 then some (.if_icmp .ge 0, 32, 241, 0) else none) else (bif Nat.beq pc 27 then some (.iload 5, 29, 0, 0) else none))))) else (bif Nat.ble 12 pc then (bif Nat.ble 20 pc then (bif Nat.ble 22 pc then (bif Nat.ble 23 pc then (bif Nat.ble 25 pc then (bif Nat.beq pc 25 then some (.iload 4, 27, 0, 0) else none) else (bif Nat.beq pc 23 then some (.istore 5, 25, 0, 0) else none)) else (bif Nat.beq pc 22 then some (.iadd, 23, 0, 0) else none)) else (bif Nat.ble 21 pc then (bif Nat.beq pc 21 then some (.iaload, 22, 0, 0) else none) else (bif Nat.beq pc 20 then some (.iload_n 1, 21, 0, 0) else none))) else (bif Nat.ble 16 pc then (bif Nat.ble 17 pc then (bif Nat.beq pc 17 then some (.fload 7, 20, 36, 14) else none) else (bif Nat.beq pc 16 then some (.aload_n 0, 17, 0, 0) else none)) else (bif Nat.ble 14 pc then (bif Nat.beq pc 14 then some (.iload 4, 16, 0, 0) else none) else (bif Nat.beq pc 12 then some (.istore 4, 14, 0, 0) else none)))) else (bif Nat.ble 4 pc then (bif Nat.ble 10 pc then (bif Nat.ble 11 pc then (bif Nat.beq pc 11 then some (.imul, 12, 0, 0) else none) else (bif Nat.beq pc 10 then some (.iload_n 1, 11, 0, 0) else none)) else (bif Nat.ble 7 pc then (bif Nat.beq pc 7 then some (.dload 240, 10, 0, 0) else none) else (bif Nat.beq pc 4 then some (.putfield 7, 7, 173, 19) else none))) else (bif Nat.ble 2 pc then (bif Nat.ble 3 pc then (bif Nat.beq pc 3 then some (.dload 0, 4, 0, 0) else none) else (bif Nat.beq pc 2 then some (.aload_n 0, 3, 0, 0) else none)) else (bif Nat.ble 1 pc then (bif Nat.beq pc 1 then some (.istore_n 3, 2, 0, 0) else none) else (bif Nat.beq pc 0 then some (.dload 0, 1, 0, 0) else none)))))))
def mc_154 (pc : Nat) : Option (Instr × Nat × Nat × Nat) := bif Nat.ble 109 pc then (bif Nat.ble 163 pc then (bif Nat.ble 191 pc then (bif Nat.ble 207 pc then (bif Nat.ble 213 pc then (bif Nat.ble 218 pc then (bif Nat.ble 221 pc then (bif Nat.beq pc 221 then some (.return_, 222, 0, 0) else none) else (bif Nat.beq pc 218 then some (.goto 0, 221, 48, 0) else none)) else (bif Nat.ble 215 pc then (bif Nat.beq pc 215 then some (.multianewarray 3 1, 218, 0, 0) else none) else (bif Nat.beq pc 213 then some (.istore 4, 215, 0, 0) else none))) else (bif Nat.ble 209 pc then (bif Nat.ble 210 pc then (bif Nat.beq pc 210 then some (.invokevirtual 153, 213, 196, 0) else none) else (bif Nat.beq pc 209 then some (.dload 1, 210, 0, 0) else none)) else (bif Nat.ble 208 pc then (bif Nat.beq pc 208 then some (.iload_n 3, 209, 0, 0) else none) else (bif Nat.beq pc 207 then some (.aload_n 0, 208, 0, 0) else none)))) else (bif Nat.ble 199 pc then (bif Nat.ble 203 pc then (bif Nat.ble 204 pc then (bif Nat.beq pc 204 then some (.putfield 7, 207, 167, 22) else none) else (bif Nat.beq pc 203 then some (.dload 0, 204, 0, 0) else none)) else (bif Nat.ble 200 pc then (bif Nat.beq pc 200 then some (.goto 0, 203, 204, 0) else none) else (bif Nat.beq pc 199 then some (.iadd, 200, 0, 0) else none))) else (bif Nat.ble 195 pc then (bif Nat.ble 198 pc then (bif Nat.beq pc 198 then some (.dload 1, 199, 0, 0) else none) else (bif Nat.beq pc 195 then some (.getfield 7, 198, 167, 22) else none)) else (bif Nat.ble 194 pc then (bif Nat.beq pc 194 then some (.aload_n 0, 195, 0, 0) else none) else (bif Nat.beq pc 191 then some (.ifCond .eq 0, 194, 203, 0) else none))))) else (bif Nat.ble 176 pc then (bif Nat.ble 184 pc then (bif Nat.ble 188 pc then (bif Nat.ble 189 pc then (bif Nat.beq pc 189 then some (.iload 5, 191, 0, 0) else none) else (bif Nat.beq pc 188 then some (.aload_n 0, 189, 0, 0) else none)) else (bif Nat.ble 185 pc then (bif Nat.beq pc 185 then some (.putfield 7, 188, 170, 21) else none) else (bif Nat.beq pc 184 then some (.iadd, 185, 0, 0) else none))) else (bif Nat.ble 180 pc then (bif Nat.ble 183 pc then (bif Nat.beq pc 183 then some (.dload 1, 184, 0, 0) else none) else (bif Nat.beq pc 180 then some (.getfield 7, 183, 170, 21) else none)) else (bif Nat.ble 179 pc then (bif Nat.beq pc 179 then some (.aload_n 0, 180, 0, 0) else none) else (bif Nat.beq pc 176 then some (.goto 0, 179, 185, 0) else none)))) else (bif Nat.ble 167 pc then (bif Nat.ble 172 pc then (bif Nat.ble 173 pc then (bif Nat.beq pc 173 then some (.getfield 7, 176, 170, 21) else none) else (bif Nat.beq pc 172 then some (.aload_n 0, 173, 0, 0) else none)) else (bif Nat.ble 169 pc then (bif Nat.beq pc 169 then some (.ifCond .eq 0, 172, 179, 0) else none) else (bif Nat.beq pc 167 then some (.iload 5, 169, 0, 0) else none))) else (bif Nat.ble 164 pc then (bif Nat.ble 166 pc then (bif Nat.beq pc 166 then some (.aload_n 0, 167, 0, 0) else none) else (bif Nat.beq pc 164 then some (.istore 5, 166, 0, 0) else none)) else (bif Nat.beq pc 163 then some (.dload 0, 164, 0, 0) else none))))) else (bif Nat.ble 136 pc then (bif Nat.ble 150 pc then (bif Nat.ble 155 pc then (bif Nat.ble 159 pc then (bif Nat.ble 160 pc then (bif Nat.beq pc 160 then some (.goto 0, 163, 164, 0) else none) else (bif Nat.beq pc 159 then some (.dload 1, 160, 0, 0) else none)) else (bif Nat.ble 156 pc then (bif Nat.beq pc 156 then some (.if_icmp .lt 0, 159, 163, 0) else none) else (bif Nat.beq pc 155 then some (.iadd, 156, 0, 0) else none))) else (bif Nat.ble 152 pc then (bif Nat.ble 154 pc then (bif Nat.beq pc 154 then some (.dload 1, 155, 0, 0) else none) else (bif Nat.beq pc 152 then some (.iload 4, 154, 0, 0) else none)) else (bif Nat.ble 151 pc then (bif Nat.beq pc 151 then some (.isub, 152, 0, 0) else none) else (bif Nat.beq pc 150 then some (.dload 1, 151, 0, 0) else none)))) else (bif Nat.ble 144 pc then (bif Nat.ble 146 pc then (bif Nat.ble 149 pc then (bif Nat.beq pc 149 then some (.isub, 150, 0, 0) else none) else (bif Nat.beq pc 146 then some (.getfield 7, 149, 167, 22) else none)) else (bif Nat.ble 145 pc then (bif Nat.beq pc 145 then some (.aload_n 0, 146, 0, 0) else none) else (bif Nat.beq pc 144 then some (.isub, 145, 0, 0) else none))) else (bif Nat.ble 140 pc then (bif Nat.ble 143 pc then (bif Nat.beq pc 143 then some (.dload 1, 144, 0, 0) else none) else (bif Nat.beq pc 140 then some (.getfield 7, 143, 60, 2) else none)) else (bif Nat.ble 139 pc then (bif Nat.beq pc 139 then some (.aload_n 0, 140, 0, 0) else none) else (bif Nat.beq pc 136 then some (.ifCond .le 0, 139, 207, 0) else none))))) else (bif Nat.ble 118 pc then (bif Nat.ble 127 pc then (bif Nat.ble 132 pc then (bif Nat.ble 133 pc then (bif Nat.beq pc 133 then some (.getfield 7, 136, 167, 22) else none) else (bif Nat.beq pc 132 then some (.aload_n 0, 133, 0, 0) else none)) else (bif Nat.ble 129 pc then (bif Nat.beq pc 129 then some (.ifCond .le 0, 132, 207, 0) else none) else (bif Nat.beq pc 127 then some (.iload 4, 129, 0, 0) else none))) else (bif Nat.ble 124 pc then (bif Nat.ble 125 pc then (bif Nat.beq pc 125 then some (.istore 4, 127, 0, 0) else none) else (bif Nat.beq pc 124 then some (.dload 0, 125, 0, 0) else none)) else (bif Nat.ble 121 pc then (bif Nat.beq pc 121 then some (.goto 0, 124, 125, 0) else none) else (bif Nat.beq pc 118 then some (.invokevirtual 153, 121, 196, 0) else none)))) else (bif Nat.ble 112 pc then (bif Nat.ble 116 pc then (bif Nat.ble 117 pc then (bif Nat.beq pc 117 then some (.dload 0, 118, 0, 0) else none) else (bif Nat.beq pc 116 then some (.iload_n 3, 117, 0, 0) else none)) else (bif Nat.ble 115 pc then (bif Nat.beq pc 115 then some (.aload_n 0, 116, 0, 0) else none) else (bif Nat.beq pc 112 then some (.if_icmp .ne 0, 115, 124, 0) else none))) else (bif Nat.ble 110 pc then (bif Nat.ble 111 pc then (bif Nat.beq pc 111 then some (.dload 1, 112, 0, 0) else none) else (bif Nat.beq pc 110 then some (.iaload, 111, 0, 0) else none)) else (bif Nat.beq pc 109 then some (.iload_n 3, 110, 0, 0) else none)))))) else (bif Nat.ble 50 pc then (bif Nat.ble 75 pc then (bif Nat.ble 91 pc then (bif Nat.ble 99 pc then (bif Nat.ble 105 pc then (bif Nat.ble 106 pc then (bif Nat.beq pc 106 then some (.fload 7, 109, 33, 13) else none) else (bif Nat.beq pc 105 then some (.aload_n 0, 106, 0, 0) else none)) else (bif Nat.ble 102 pc then (bif Nat.beq pc 102 then some (.goto 0, 105, 215, 0) else none) else (bif Nat.beq pc 99 then some (.putfield 7, 102, 167, 22) else none))) else (bif Nat.ble 97 pc then (bif Nat.ble 98 pc then (bif Nat.beq pc 98 then some (.dload 0, 99, 0, 0) else none) else (bif Nat.beq pc 97 then some (.aload_n 0, 98, 0, 0) else none)) else (bif Nat.ble 94 pc then (bif Nat.beq pc 94 then some (.putfield 7, 97, 170, 21) else none) else (bif Nat.beq pc 91 then some (.getfield 7, 94, 170, 21) else none)))) else (bif Nat.ble 85 pc then (bif Nat.ble 87 pc then (bif Nat.ble 90 pc then (bif Nat.beq pc 90 then some (.aload_n 0, 91, 0, 0) else none) else (bif Nat.beq pc 87 then some (.goto 0, 90, 94, 0) else none)) else (bif Nat.ble 86 pc then (bif Nat.beq pc 86 then some (.iadd, 87, 0, 0) else none) else (bif Nat.beq pc 85 then some (.dload 1, 86, 0, 0) else none))) else (bif Nat.ble 81 pc then (bif Nat.ble 82 pc then (bif Nat.beq pc 82 then some (.getfield 7, 85, 170, 21) else none) else (bif Nat.beq pc 81 then some (.aload_n 0, 82, 0, 0) else none)) else (bif Nat.ble 78 pc then (bif Nat.beq pc 78 then some (.ifCond .le 0, 81, 90, 0) else none) else (bif Nat.beq pc 75 then some (.getfield 7, 78, 167, 22) else none))))) else (bif Nat.ble 63 pc then (bif Nat.ble 69 pc then (bif Nat.ble 73 pc then (bif Nat.ble 74 pc then (bif Nat.beq pc 74 then some (.aload_n 0, 75, 0, 0) else none) else (bif Nat.beq pc 73 then some (.aload_n 0, 74, 0, 0) else none)) else (bif Nat.ble 70 pc then (bif Nat.beq pc 70 then some (.if_icmp .ne 0, 73, 105, 0) else none) else (bif Nat.beq pc 69 then some (.dload 3, 70, 0, 0) else none))) else (bif Nat.ble 67 pc then (bif Nat.ble 68 pc then (bif Nat.beq pc 68 then some (.iaload, 69, 0, 0) else none) else (bif Nat.beq pc 67 then some (.iload_n 3, 68, 0, 0) else none)) else (bif Nat.ble 64 pc then (bif Nat.beq pc 64 then some (.fload 7, 67, 33, 13) else none) else (bif Nat.beq pc 63 then some (.aload_n 0, 64, 0, 0) else none)))) else (bif Nat.ble 57 pc then (bif Nat.ble 61 pc then (bif Nat.ble 62 pc then (bif Nat.beq pc 62 then some (.iastore, 63, 0, 0) else none) else (bif Nat.beq pc 61 then some (.dstore 1, 62, 0, 0) else none)) else (bif Nat.ble 60 pc then (bif Nat.beq pc 60 then some (.iload_n 3, 61, 0, 0) else none) else (bif Nat.beq pc 57 then some (.fload 7, 60, 54, 27) else none))) else (bif Nat.ble 53 pc then (bif Nat.ble 56 pc then (bif Nat.beq pc 56 then some (.aload_n 0, 57, 0, 0) else none) else (bif Nat.beq pc 53 then some (.if_icmp .ge 0, 56, 221, 0) else none)) else (bif Nat.beq pc 50 then some (.getfield 7, 53, 100, 12) else none))))) else (bif Nat.ble 25 pc then (bif Nat.ble 38 pc then (bif Nat.ble 46 pc then (bif Nat.ble 48 pc then (bif Nat.ble 49 pc then (bif Nat.beq pc 49 then some (.aload_n 0, 50, 0, 0) else none) else (bif Nat.beq pc 48 then some (.iload_n 3, 49, 0, 0) else none)) else (bif Nat.ble 47 pc then (bif Nat.beq pc 47 then some (.istore_n 3, 48, 0, 0) else none) else (bif Nat.beq pc 46 then some (.dload 0, 47, 0, 0) else none))) else (bif Nat.ble 40 pc then (bif Nat.ble 43 pc then (bif Nat.beq pc 43 then some (.goto 0, 46, 27, 0) else none) else (bif Nat.beq pc 40 then some (.multianewarray 3 1, 43, 0, 0) else none)) else (bif Nat.ble 39 pc then (bif Nat.beq pc 39 then some (.iastore, 40, 0, 0) else none) else (bif Nat.beq pc 38 then some (.dload 0, 39, 0, 0) else none)))) else (bif Nat.ble 30 pc then (bif Nat.ble 34 pc then (bif Nat.ble 37 pc then (bif Nat.beq pc 37 then some (.iload_n 3, 38, 0, 0) else none) else (bif Nat.beq pc 34 then some (.fload 7, 37, 51, 26) else none)) else (bif Nat.ble 33 pc then (bif Nat.beq pc 33 then some (.aload_n 0, 34, 0, 0) else none) else (bif Nat.beq pc 30 then some (.if_icmp .ge 0, 33, 46, 0) else none))) else (bif Nat.ble 27 pc then (bif Nat.ble 28 pc then (bif Nat.beq pc 28 then some (.dload 40, 30, 0, 0) else none) else (bif Nat.beq pc 27 then some (.iload_n 3, 28, 0, 0) else none)) else (bif Nat.ble 26 pc then (bif Nat.beq pc 26 then some (.istore_n 3, 27, 0, 0) else none) else (bif Nat.beq pc 25 then some (.dload 0, 26, 0, 0) else none))))) else (bif Nat.ble 11 pc then (bif Nat.ble 17 pc then (bif Nat.ble 21 pc then (bif Nat.ble 22 pc then (bif Nat.beq pc 22 then some (.putfield 7, 25, 179, 25) else none) else (bif Nat.beq pc 21 then some (.iload_n 2, 22, 0, 0) else none)) else (bif Nat.ble 20 pc then (bif Nat.beq pc 20 then some (.aload_n 0, 21, 0, 0) else none) else (bif Nat.beq pc 17 then some (.putfield 7, 20, 176, 24) else none))) else (bif Nat.ble 15 pc then (bif Nat.ble 16 pc then (bif Nat.beq pc 16 then some (.iload_n 1, 17, 0, 0) else none) else (bif Nat.beq pc 15 then some (.aload_n 0, 16, 0, 0) else none)) else (bif Nat.ble 12 pc then (bif Nat.beq pc 12 then some (.putfield 7, 15, 182, 23) else none) else (bif Nat.beq pc 11 then some (.dload 1, 12, 0, 0) else none)))) else (bif Nat.ble 5 pc then (bif Nat.ble 7 pc then (bif Nat.ble 10 pc then (bif Nat.beq pc 10 then some (.aload_n 0, 11, 0, 0) else none) else (bif Nat.beq pc 7 then some (.putfield 7, 10, 167, 22) else none)) else (bif Nat.ble 6 pc then (bif Nat.beq pc 6 then some (.dload 0, 7, 0, 0) else none) else (bif Nat.beq pc 5 then some (.aload_n 0, 6, 0, 0) else none))) else (bif Nat.ble 1 pc then (bif Nat.ble 2 pc then (bif Nat.beq pc 2 then some (.putfield 7, 5, 170, 21) else none) else (bif Nat.beq pc 1 then some (.dload 1, 2, 0, 0) else none)) else (bif Nat.beq pc 0 then some (.aload_n 0, 1, 0, 0) else none))))))
def mc_155 (pc : Nat) : Option (Instr × Nat × Nat × Nat) := bif Nat.ble 7 pc then (bif Nat.ble 11 pc then (bif Nat.ble 12 pc then (bif Nat.ble 15 pc then (bif Nat.beq pc 15 then some (.ireturn, 16, 0, 0) else none) else (bif Nat.beq pc 12 then some (.getfield 7, 15, 182, 23) else none)) else (bif Nat.beq pc 11 then some (.aload_n 0, 12, 0, 0) else none)) else (bif Nat.ble 8 pc then (bif Nat.beq pc 8 then some (.invokevirtual 154, 11, 200, 0) else none) else (bif Nat.beq pc 7 then some (.dload 0, 8, 0, 0) else none))) else (bif Nat.ble 2 pc then (bif Nat.ble 5 pc then (bif Nat.ble 6 pc then (bif Nat.beq pc 6 then some (.dload 0, 7, 0, 0) else none) else (bif Nat.beq pc 5 then some (.aload_n 0, 6, 0, 0) else none)) else (bif Nat.beq pc 2 then some (.putfield 7, 5, 63, 0) else none)) else (bif Nat.ble 1 pc then (bif Nat.beq pc 1 then some (.dload 0, 2, 0, 0) else none) else (bif Nat.beq pc 0 then some (.aload_n 0, 1, 0, 0) else none)))
def mc_156 (pc : Nat) : Option (Instr × Nat × Nat × Nat) := bif Nat.ble 18 pc then (bif Nat.ble 29 pc then (bif Nat.ble 34 pc then (bif Nat.ble 35 pc then (bif Nat.ble 36 pc then (bif Nat.beq pc 36 then some (.ireturn, 37, 0, 0) else none) else (bif Nat.beq pc 35 then some (.baload, 36, 0, 0) else none)) else (bif Nat.beq pc 34 then some (.isub, 35, 0, 0) else none)) else (bif Nat.ble 30 pc then (bif Nat.ble 31 pc then (bif Nat.beq pc 31 then some (.getfield 4, 34, 17, 2) else none) else (bif Nat.beq pc 30 then some (.aload_n 0, 31, 0, 0) else none)) else (bif Nat.beq pc 29 then some (.iload_n 1, 30, 0, 0) else none))) else (bif Nat.ble 22 pc then (bif Nat.ble 25 pc then (bif Nat.ble 26 pc then (bif Nat.beq pc 26 then some (.fload 4, 29, 7, 0) else none) else (bif Nat.beq pc 25 then some (.aload_n 0, 26, 0, 0) else none)) else (bif Nat.beq pc 22 then some (.goto 0, 25, 36, 0) else none)) else (bif Nat.ble 21 pc then (bif Nat.beq pc 21 then some (.dload 0, 22, 0, 0) else none) else (bif Nat.beq pc 18 then some (.if_icmp .lt 0, 21, 25, 0) else none)))) else (bif Nat.ble 9 pc then (bif Nat.ble 13 pc then (bif Nat.ble 14 pc then (bif Nat.ble 17 pc then (bif Nat.beq pc 17 then some (.iadd, 18, 0, 0) else none) else (bif Nat.beq pc 14 then some (.getfield 4, 17, 13, 1) else none)) else (bif Nat.beq pc 13 then some (.aload_n 0, 14, 0, 0) else none)) else (bif Nat.ble 10 pc then (bif Nat.beq pc 10 then some (.getfield 4, 13, 17, 2) else none) else (bif Nat.beq pc 9 then some (.aload_n 0, 10, 0, 0) else none))) else (bif Nat.ble 2 pc then (bif Nat.ble 5 pc then (bif Nat.ble 8 pc then (bif Nat.beq pc 8 then some (.iload_n 1, 9, 0, 0) else none) else (bif Nat.beq pc 5 then some (.if_icmp .lt 0, 8, 21, 0) else none)) else (bif Nat.beq pc 2 then some (.getfield 4, 5, 17, 2) else none)) else (bif Nat.ble 1 pc then (bif Nat.beq pc 1 then some (.aload_n 0, 2, 0, 0) else none) else (bif Nat.beq pc 0 then some (.iload_n 1, 1, 0, 0) else none))))
def mc_157 (pc : Nat) : Option (Instr × Nat × Nat × Nat) := bif Nat.ble 87 pc then (bif Nat.ble 130 pc then (bif Nat.ble 155 pc then (bif Nat.ble 165 pc then (bif Nat.ble 172 pc then (bif Nat.ble 175 pc then (bif Nat.ble 176 pc then (bif Nat.beq pc 176 then some (.ireturn, 177, 0, 0) else none) else (bif Nat.beq pc 175 then some (.dload 0, 176, 0, 0) else none)) else (bif Nat.beq pc 172 then some (.goto 0, 175, 121, 0) else none)) else (bif Nat.ble 168 pc then (bif Nat.ble 169 pc then (bif Nat.beq pc 169 then some (.multianewarray 4 1, 172, 0, 0) else none) else (bif Nat.beq pc 168 then some (.ireturn, 169, 0, 0) else none)) else (bif Nat.beq pc 165 then some (.invokevirtual 156, 168, 330, 0) else none))) else (bif Nat.ble 159 pc then (bif Nat.ble 162 pc then (bif Nat.ble 164 pc then (bif Nat.beq pc 164 then some (.iload_n 3, 165, 0, 0) else none) else (bif Nat.beq pc 162 then some (.aload 5, 164, 0, 0) else none)) else (bif Nat.beq pc 159 then some (.if_icmp .ne 0, 162, 169, 0) else none)) else (bif Nat.ble 158 pc then (bif Nat.beq pc 158 then some (.iload_n 2, 159, 0, 0) else none) else (bif Nat.beq pc 155 then some (.getfield 4, 158, 308, 4) else none)))) else (bif Nat.ble 142 pc then (bif Nat.ble 149 pc then (bif Nat.ble 150 pc then (bif Nat.ble 153 pc then (bif Nat.beq pc 153 then some (.aload 5, 155, 0, 0) else none) else (bif Nat.beq pc 150 then some (.if_icmp .ne 0, 153, 169, 0) else none)) else (bif Nat.beq pc 149 then some (.iload_n 1, 150, 0, 0) else none)) else (bif Nat.ble 144 pc then (bif Nat.ble 146 pc then (bif Nat.beq pc 146 then some (.getfield 4, 149, 307, 3) else none) else (bif Nat.beq pc 144 then some (.aload 5, 146, 0, 0) else none)) else (bif Nat.beq pc 142 then some (.astore 5, 144, 0, 0) else none))) else (bif Nat.ble 134 pc then (bif Nat.ble 136 pc then (bif Nat.ble 139 pc then (bif Nat.beq pc 139 then some (.checkcast 4, 142, 88, 0) else none) else (bif Nat.beq pc 136 then some (.invokevirtual 144, 139, 275, 0) else none)) else (bif Nat.beq pc 134 then some (.iload 4, 136, 0, 0) else none)) else (bif Nat.ble 131 pc then (bif Nat.beq pc 131 then some (.fload 0, 134, 84, 11) else none) else (bif Nat.beq pc 130 then some (.aload_n 0, 131, 0, 0) else none))))) else (bif Nat.ble 109 pc then (bif Nat.ble 118 pc then (bif Nat.ble 123 pc then (bif Nat.ble 124 pc then (bif Nat.ble 127 pc then (bif Nat.beq pc 127 then some (.if_icmp .ge 0, 130, 175, 0) else none) else (bif Nat.beq pc 124 then some (.getfield 0, 127, 301, 12) else none)) else (bif Nat.beq pc 123 then some (.aload_n 0, 124, 0, 0) else none)) else (bif Nat.ble 119 pc then (bif Nat.ble 121 pc then (bif Nat.beq pc 121 then some (.iload 4, 123, 0, 0) else none) else (bif Nat.beq pc 119 then some (.istore 4, 121, 0, 0) else none)) else (bif Nat.beq pc 118 then some (.dload 0, 119, 0, 0) else none))) else (bif Nat.ble 113 pc then (bif Nat.ble 114 pc then (bif Nat.ble 117 pc then (bif Nat.beq pc 117 then some (.ireturn, 118, 0, 0) else none) else (bif Nat.beq pc 114 then some (.invokevirtual 156, 117, 330, 0) else none)) else (bif Nat.beq pc 113 then some (.iload_n 3, 114, 0, 0) else none)) else (bif Nat.ble 110 pc then (bif Nat.beq pc 110 then some (.fload 0, 113, 91, 15) else none) else (bif Nat.beq pc 109 then some (.aload_n 0, 110, 0, 0) else none)))) else (bif Nat.ble 98 pc then (bif Nat.ble 102 pc then (bif Nat.ble 105 pc then (bif Nat.ble 106 pc then (bif Nat.beq pc 106 then some (.putfield 4, 109, 288, 2) else none) else (bif Nat.beq pc 105 then some (.isub, 106, 0, 0) else none)) else (bif Nat.beq pc 102 then some (.getfield 4, 105, 279, 1) else none)) else (bif Nat.ble 99 pc then (bif Nat.beq pc 99 then some (.fload 0, 102, 91, 15) else none) else (bif Nat.beq pc 98 then some (.aload_n 0, 99, 0, 0) else none))) else (bif Nat.ble 91 pc then (bif Nat.ble 94 pc then (bif Nat.ble 95 pc then (bif Nat.beq pc 95 then some (.getfield 0, 98, 104, 0) else none) else (bif Nat.beq pc 94 then some (.aload_n 0, 95, 0, 0) else none)) else (bif Nat.beq pc 91 then some (.fload 0, 94, 91, 15) else none)) else (bif Nat.ble 90 pc then (bif Nat.beq pc 90 then some (.aload_n 0, 91, 0, 0) else none) else (bif Nat.beq pc 87 then some (.invokevirtual 90, 90, 200, 0) else none)))))) else (bif Nat.ble 45 pc then (bif Nat.ble 66 pc then (bif Nat.ble 75 pc then (bif Nat.ble 82 pc then (bif Nat.ble 83 pc then (bif Nat.ble 84 pc then (bif Nat.beq pc 84 then some (.fload 0, 87, 91, 15) else none) else (bif Nat.beq pc 83 then some (.aload_n 0, 84, 0, 0) else none)) else (bif Nat.beq pc 82 then some (.dload 0, 83, 0, 0) else none)) else (bif Nat.ble 76 pc then (bif Nat.ble 79 pc then (bif Nat.beq pc 79 then some (.invokevirtual 69, 82, 203, 0) else none) else (bif Nat.beq pc 76 then some (.invokevirtual 63, 79, 327, 0) else none)) else (bif Nat.beq pc 75 then some (.iload_n 1, 76, 0, 0) else none))) else (bif Nat.ble 70 pc then (bif Nat.ble 72 pc then (bif Nat.ble 73 pc then (bif Nat.beq pc 73 then some (.aload 4, 75, 0, 0) else none) else (bif Nat.beq pc 72 then some (.aload_n 0, 73, 0, 0) else none)) else (bif Nat.beq pc 70 then some (.astore 4, 72, 0, 0) else none)) else (bif Nat.ble 67 pc then (bif Nat.beq pc 67 then some (.invokespecial 3, 70, 57, 0) else none) else (bif Nat.beq pc 66 then some (.dup, 67, 0, 0) else none)))) else (bif Nat.ble 52 pc then (bif Nat.ble 59 pc then (bif Nat.ble 60 pc then (bif Nat.ble 63 pc then (bif Nat.beq pc 63 then some (.new 1, 66, 55, 0) else none) else (bif Nat.beq pc 60 then some (.putfield 4, 63, 279, 1) else none)) else (bif Nat.beq pc 59 then some (.dload 0, 60, 0, 0) else none)) else (bif Nat.ble 55 pc then (bif Nat.ble 56 pc then (bif Nat.beq pc 56 then some (.fload 0, 59, 91, 15) else none) else (bif Nat.beq pc 55 then some (.aload_n 0, 56, 0, 0) else none)) else (bif Nat.beq pc 52 then some (.if_icmp .ne 0, 55, 118, 0) else none))) else (bif Nat.ble 47 pc then (bif Nat.ble 50 pc then (bif Nat.ble 51 pc then (bif Nat.beq pc 51 then some (.isub, 52, 0, 0) else none) else (bif Nat.beq pc 50 then some (.dload 1, 51, 0, 0) else none)) else (bif Nat.beq pc 47 then some (.getfield 0, 50, 107, 1) else none)) else (bif Nat.ble 46 pc then (bif Nat.beq pc 46 then some (.aload_n 0, 47, 0, 0) else none) else (bif Nat.beq pc 45 then some (.iload_n 2, 46, 0, 0) else none))))) else (bif Nat.ble 18 pc then (bif Nat.ble 29 pc then (bif Nat.ble 34 pc then (bif Nat.ble 37 pc then (bif Nat.ble 40 pc then (bif Nat.beq pc 40 then some (.dup, 41, 0, 0) else none) else (bif Nat.beq pc 37 then some (.jsr 655593, 40, 231, 0) else none)) else (bif Nat.beq pc 34 then some (.if_icmp .lt 0, 37, 45, 0) else none)) else (bif Nat.ble 30 pc then (bif Nat.ble 31 pc then (bif Nat.beq pc 31 then some (.getfield 0, 34, 104, 0) else none) else (bif Nat.beq pc 30 then some (.aload_n 0, 31, 0, 0) else none)) else (bif Nat.beq pc 29 then some (.iload_n 3, 30, 0, 0) else none))) else (bif Nat.ble 22 pc then (bif Nat.ble 25 pc then (bif Nat.ble 26 pc then (bif Nat.beq pc 26 then some (.ifCond .lt 0, 29, 37, 0) else none) else (bif Nat.beq pc 25 then some (.iload_n 3, 26, 0, 0) else none)) else (bif Nat.beq pc 22 then some (.if_icmp .ge 0, 25, 37, 0) else none)) else (bif Nat.ble 19 pc then (bif Nat.beq pc 19 then some (.getfield 0, 22, 107, 1) else none) else (bif Nat.beq pc 18 then some (.aload_n 0, 19, 0, 0) else none)))) else (bif Nat.ble 7 pc then (bif Nat.ble 13 pc then (bif Nat.ble 14 pc then (bif Nat.ble 17 pc then (bif Nat.beq pc 17 then some (.iload_n 2, 18, 0, 0) else none) else (bif Nat.beq pc 14 then some (.ifCond .lt 0, 17, 37, 0) else none)) else (bif Nat.beq pc 13 then some (.iload_n 2, 14, 0, 0) else none)) else (bif Nat.ble 10 pc then (bif Nat.beq pc 10 then some (.if_icmp .gt 0, 13, 37, 0) else none) else (bif Nat.beq pc 7 then some (.invokevirtual 149, 10, 324, 0) else none))) else (bif Nat.ble 2 pc then (bif Nat.ble 5 pc then (bif Nat.ble 6 pc then (bif Nat.beq pc 6 then some (.aload_n 0, 7, 0, 0) else none) else (bif Nat.beq pc 5 then some (.iload_n 1, 6, 0, 0) else none)) else (bif Nat.beq pc 2 then some (.if_icmp .lt 0, 5, 37, 0) else none)) else (bif Nat.ble 1 pc then (bif Nat.beq pc 1 then some (.dload 1, 2, 0, 0) else none) else (bif Nat.beq pc 0 then some (.iload_n 1, 1, 0, 0) else none))))))
def mc_158 (pc : Nat) : Option (Instr × Nat × Nat × Nat) := bif Nat.ble 10 pc then (bif Nat.ble 17 pc then (bif Nat.ble 19 pc then (bif Nat.ble 20 pc then (bif Nat.beq pc 20 then some (.ireturn, 21, 0, 0) else none) else (bif Nat.beq pc 19 then some (.dload 0, 20, 0, 0) else none)) else (bif Nat.ble 18 pc then (bif Nat.beq pc 18 then some (.ireturn, 19, 0, 0) else none) else (bif Nat.beq pc 17 then some (.dload 1, 18, 0, 0) else none))) else (bif Nat.ble 12 pc then (bif Nat.ble 15 pc then (bif Nat.beq pc 15 then some (.astore 5, 17, 0, 0) else none) else (bif Nat.beq pc 12 then some (.goto 0, 15, 19, 0) else none)) else (bif Nat.ble 11 pc then (bif Nat.beq pc 11 then some (.lastore, 12, 0, 0) else none) else (bif Nat.beq pc 10 then some (.i2l, 11, 0, 0) else none)))) else (bif Nat.ble 4 pc then (bif Nat.ble 6 pc then (bif Nat.ble 7 pc then (bif Nat.beq pc 7 then some (.invokevirtual 157, 10, 37, 0) else none) else (bif Nat.beq pc 6 then some (.iload_n 3, 7, 0, 0) else none)) else (bif Nat.ble 5 pc then (bif Nat.beq pc 5 then some (.iload_n 2, 6, 0, 0) else none) else (bif Nat.beq pc 4 then some (.iload_n 1, 5, 0, 0) else none))) else (bif Nat.ble 2 pc then (bif Nat.ble 3 pc then (bif Nat.beq pc 3 then some (.aload_n 0, 4, 0, 0) else none) else (bif Nat.beq pc 2 then some (.dload 0, 3, 0, 0) else none)) else (bif Nat.beq pc 0 then some (.aload 4, 2, 0, 0) else none)))
def mc_159 (pc : Nat) : Option (Instr × Nat × Nat × Nat) := bif Nat.ble 22 pc then (bif Nat.ble 32 pc then (bif Nat.ble 42 pc then (bif Nat.ble 45 pc then (bif Nat.ble 46 pc then (bif Nat.beq pc 46 then some (.return_, 47, 0, 0) else none) else (bif Nat.beq pc 45 then some (.iastore, 46, 0, 0) else none)) else (bif Nat.ble 43 pc then (bif Nat.beq pc 43 then some (.dload 60, 45, 0, 0) else none) else (bif Nat.beq pc 42 then some (.iload_n 2, 43, 0, 0) else none))) else (bif Nat.ble 38 pc then (bif Nat.ble 39 pc then (bif Nat.beq pc 39 then some (.fload 7, 42, 51, 26) else none) else (bif Nat.beq pc 38 then some (.aload_n 0, 39, 0, 0) else none)) else (bif Nat.ble 35 pc then (bif Nat.beq pc 35 then some (.goto 0, 38, 9, 0) else none) else (bif Nat.beq pc 32 then some (.iinc 2 (-1), 35, 0, 0) else none)))) else (bif Nat.ble 27 pc then (bif Nat.ble 30 pc then (bif Nat.ble 31 pc then (bif Nat.beq pc 31 then some (.istore_n 3, 32, 0, 0) else none) else (bif Nat.beq pc 30 then some (.idiv, 31, 0, 0) else none)) else (bif Nat.ble 28 pc then (bif Nat.beq pc 28 then some (.dload 10, 30, 0, 0) else none) else (bif Nat.beq pc 27 then some (.iload_n 3, 28, 0, 0) else none))) else (bif Nat.ble 23 pc then (bif Nat.ble 26 pc then (bif Nat.beq pc 26 then some (.iastore, 27, 0, 0) else none) else (bif Nat.beq pc 23 then some (.invokevirtual 104, 26, 128, 0) else none)) else (bif Nat.beq pc 22 then some (.irem, 23, 0, 0) else none)))) else (bif Nat.ble 9 pc then (bif Nat.ble 17 pc then (bif Nat.ble 19 pc then (bif Nat.ble 20 pc then (bif Nat.beq pc 20 then some (.dload 10, 22, 0, 0) else none) else (bif Nat.beq pc 19 then some (.iload_n 3, 20, 0, 0) else none)) else (bif Nat.ble 18 pc then (bif Nat.beq pc 18 then some (.aload_n 0, 19, 0, 0) else none) else (bif Nat.beq pc 17 then some (.iload_n 2, 18, 0, 0) else none))) else (bif Nat.ble 13 pc then (bif Nat.ble 14 pc then (bif Nat.beq pc 14 then some (.fload 7, 17, 51, 26) else none) else (bif Nat.beq pc 13 then some (.aload_n 0, 14, 0, 0) else none)) else (bif Nat.ble 10 pc then (bif Nat.beq pc 10 then some (.ifCond .le 0, 13, 38, 0) else none) else (bif Nat.beq pc 9 then some (.iload_n 3, 10, 0, 0) else none)))) else (bif Nat.ble 5 pc then (bif Nat.ble 7 pc then (bif Nat.ble 8 pc then (bif Nat.beq pc 8 then some (.istore_n 3, 9, 0, 0) else none) else (bif Nat.beq pc 7 then some (.iload_n 1, 8, 0, 0) else none)) else (bif Nat.ble 6 pc then (bif Nat.beq pc 6 then some (.istore_n 2, 7, 0, 0) else none) else (bif Nat.beq pc 5 then some (.isub, 6, 0, 0) else none))) else (bif Nat.ble 1 pc then (bif Nat.ble 4 pc then (bif Nat.beq pc 4 then some (.dload 1, 5, 0, 0) else none) else (bif Nat.beq pc 1 then some (.getfield 7, 4, 57, 1) else none)) else (bif Nat.beq pc 0 then some (.aload_n 0, 1, 0, 0) else none))))
def mc_160 (pc : Nat) : Option (Instr × Nat × Nat × Nat) := bif Nat.ble 41 pc then (bif Nat.ble 63 pc then (bif Nat.ble 73 pc then (bif Nat.ble 80 pc then (bif Nat.ble 81 pc then (bif Nat.ble 82 pc then (bif Nat.beq pc 82 then some (.ireturn, 83, 0, 0) else none) else (bif Nat.beq pc 81 then some (.iaload, 82, 0, 0) else none)) else (bif Nat.beq pc 80 then some (.iload_n 3, 81, 0, 0) else none)) else (bif Nat.ble 76 pc then (bif Nat.ble 77 pc then (bif Nat.beq pc 77 then some (.fload 7, 80, 51, 26) else none) else (bif Nat.beq pc 76 then some (.aload_n 0, 77, 0, 0) else none)) else (bif Nat.beq pc 73 then some (.invokevirtual 159, 76, 203, 0) else none))) else (bif Nat.ble 68 pc then (bif Nat.ble 71 pc then (bif Nat.ble 72 pc then (bif Nat.beq pc 72 then some (.iload_n 1, 73, 0, 0) else none) else (bif Nat.beq pc 71 then some (.aload_n 0, 72, 0, 0) else none)) else (bif Nat.beq pc 68 then some (.if_icmp .ne 0, 71, 76, 0) else none)) else (bif Nat.ble 66 pc then (bif Nat.ble 67 pc then (bif Nat.beq pc 67 then some (.isub, 68, 0, 0) else none) else (bif Nat.beq pc 66 then some (.dload 1, 67, 0, 0) else none)) else (bif Nat.beq pc 63 then some (.getfield 7, 66, 60, 2) else none)))) else (bif Nat.ble 53 pc then (bif Nat.ble 60 pc then (bif Nat.ble 61 pc then (bif Nat.ble 62 pc then (bif Nat.beq pc 62 then some (.aload_n 0, 63, 0, 0) else none) else (bif Nat.beq pc 61 then some (.iload_n 2, 62, 0, 0) else none)) else (bif Nat.beq pc 60 then some (.ireturn, 61, 0, 0) else none)) else (bif Nat.ble 56 pc then (bif Nat.ble 59 pc then (bif Nat.beq pc 59 then some (.dload 0, 60, 0, 0) else none) else (bif Nat.beq pc 56 then some (.ifCond .eq 0, 59, 61, 0) else none)) else (bif Nat.beq pc 53 then some (.getfield 7, 56, 63, 0) else none))) else (bif Nat.ble 48 pc then (bif Nat.ble 49 pc then (bif Nat.ble 52 pc then (bif Nat.beq pc 52 then some (.aload_n 0, 53, 0, 0) else none) else (bif Nat.beq pc 49 then some (.putfield 7, 52, 63, 0) else none)) else (bif Nat.beq pc 48 then some (.dload 0, 49, 0, 0) else none)) else (bif Nat.ble 44 pc then (bif Nat.ble 45 pc then (bif Nat.beq pc 45 then some (.goto 0, 48, 49, 0) else none) else (bif Nat.beq pc 44 then some (.dload 1, 45, 0, 0) else none)) else (bif Nat.beq pc 41 then some (.if_icmp .lt 0, 44, 48, 0) else none))))) else (bif Nat.ble 17 pc then (bif Nat.ble 29 pc then (bif Nat.ble 36 pc then (bif Nat.ble 37 pc then (bif Nat.ble 38 pc then (bif Nat.beq pc 38 then some (.getfield 7, 41, 57, 1) else none) else (bif Nat.beq pc 37 then some (.aload_n 0, 38, 0, 0) else none)) else (bif Nat.beq pc 36 then some (.iload_n 3, 37, 0, 0) else none)) else (bif Nat.ble 32 pc then (bif Nat.ble 33 pc then (bif Nat.beq pc 33 then some (.ifCond .lt 0, 36, 44, 0) else none) else (bif Nat.beq pc 32 then some (.iload_n 3, 33, 0, 0) else none)) else (bif Nat.beq pc 29 then some (.if_icmp .ge 0, 32, 44, 0) else none))) else (bif Nat.ble 24 pc then (bif Nat.ble 25 pc then (bif Nat.ble 26 pc then (bif Nat.beq pc 26 then some (.getfield 7, 29, 60, 2) else none) else (bif Nat.beq pc 25 then some (.aload_n 0, 26, 0, 0) else none)) else (bif Nat.beq pc 24 then some (.iload_n 2, 25, 0, 0) else none)) else (bif Nat.ble 20 pc then (bif Nat.ble 21 pc then (bif Nat.beq pc 21 then some (.ifCond .lt 0, 24, 44, 0) else none) else (bif Nat.beq pc 20 then some (.iload_n 2, 21, 0, 0) else none)) else (bif Nat.beq pc 17 then some (.if_icmp .gt 0, 20, 44, 0) else none)))) else (bif Nat.ble 7 pc then (bif Nat.ble 12 pc then (bif Nat.ble 13 pc then (bif Nat.ble 14 pc then (bif Nat.beq pc 14 then some (.getfield 7, 17, 182, 23) else none) else (bif Nat.beq pc 13 then some (.aload_n 0, 14, 0, 0) else none)) else (bif Nat.beq pc 12 then some (.iload_n 1, 13, 0, 0) else none)) else (bif Nat.ble 8 pc then (bif Nat.ble 9 pc then (bif Nat.beq pc 9 then some (.if_icmp .lt 0, 12, 44, 0) else none) else (bif Nat.beq pc 8 then some (.dload 1, 9, 0, 0) else none)) else (bif Nat.beq pc 7 then some (.iload_n 1, 8, 0, 0) else none))) else (bif Nat.ble 2 pc then (bif Nat.ble 3 pc then (bif Nat.ble 6 pc then (bif Nat.beq pc 6 then some (.aload_n 0, 7, 0, 0) else none) else (bif Nat.beq pc 3 then some (.invokevirtual 154, 6, 200, 0) else none)) else (bif Nat.beq pc 2 then some (.iload_n 2, 3, 0, 0) else none)) else (bif Nat.ble 1 pc then (bif Nat.beq pc 1 then some (.iload_n 1, 2, 0, 0) else none) else (bif Nat.beq pc 0 then some (.aload_n 0, 1, 0, 0) else none)))))
def mc_161 (pc : Nat) : Option (Instr × Nat × Nat × Nat) := bif Nat.ble 18 pc then (bif Nat.ble 30 pc then (bif Nat.ble 35 pc then (bif Nat.ble 38 pc then (bif Nat.ble 39 pc then (bif Nat.beq pc 39 then some (.ireturn, 40, 0, 0) else none) else (bif Nat.beq pc 38 then some (.iadd, 39, 0, 0) else none)) else (bif Nat.beq pc 35 then some (.getfield 4, 38, 308, 4) else none)) else (bif Nat.ble 31 pc then (bif Nat.ble 32 pc then (bif Nat.beq pc 32 then some (.fload 6, 35, 311, 4) else none) else (bif Nat.beq pc 31 then some (.aload_n 2, 32, 0, 0) else none)) else (bif Nat.beq pc 30 then some (.imul, 31, 0, 0) else none))) else (bif Nat.ble 22 pc then (bif Nat.ble 25 pc then (bif Nat.ble 28 pc then (bif Nat.beq pc 28 then some (.dload 32, 30, 0, 0) else none) else (bif Nat.beq pc 25 then some (.getfield 4, 28, 307, 3) else none)) else (bif Nat.beq pc 22 then some (.fload 6, 25, 311, 4) else none)) else (bif Nat.ble 21 pc then (bif Nat.beq pc 21 then some (.aload_n 2, 22, 0, 0) else none) else (bif Nat.beq pc 18 then some (.goto 0, 21, 39, 0) else none)))) else (bif Nat.ble 7 pc then (bif Nat.ble 11 pc then (bif Nat.ble 14 pc then (bif Nat.ble 17 pc then (bif Nat.beq pc 17 then some (.dstore 1, 18, 0, 0) else none) else (bif Nat.beq pc 14 then some (.ifnonnull 0, 17, 21, 0) else none)) else (bif Nat.beq pc 11 then some (.fload 6, 14, 311, 4) else none)) else (bif Nat.ble 10 pc then (bif Nat.beq pc 10 then some (.aload_n 2, 11, 0, 0) else none) else (bif Nat.beq pc 7 then some (.invokevirtual 148, 10, 321, 0) else none))) else (bif Nat.ble 2 pc then (bif Nat.ble 5 pc then (bif Nat.ble 6 pc then (bif Nat.beq pc 6 then some (.aload_n 0, 7, 0, 0) else none) else (bif Nat.beq pc 5 then some (.astore_n 2, 6, 0, 0) else none)) else (bif Nat.beq pc 2 then some (.invokevirtual 107, 5, 234, 0) else none)) else (bif Nat.ble 1 pc then (bif Nat.beq pc 1 then some (.iload_n 1, 2, 0, 0) else none) else (bif Nat.beq pc 0 then some (.aload_n 0, 1, 0, 0) else none))))
def mc_162 (pc : Nat) : Option (Instr × Nat × Nat × Nat) := bif Nat.ble 8 pc then (bif Nat.ble 13 pc then (bif Nat.ble 15 pc then (bif Nat.ble 16 pc then (bif Nat.beq pc 16 then some (.ireturn, 17, 0, 0) else none) else (bif Nat.beq pc 15 then some (.dload 0, 16, 0, 0) else none)) else (bif Nat.ble 14 pc then (bif Nat.beq pc 14 then some (.ireturn, 15, 0, 0) else none) else (bif Nat.beq pc 13 then some (.dload 1, 14, 0, 0) else none))) else (bif Nat.ble 9 pc then (bif Nat.ble 12 pc then (bif Nat.beq pc 12 then some (.astore_n 3, 13, 0, 0) else none) else (bif Nat.beq pc 9 then some (.goto 0, 12, 15, 0) else none)) else (bif Nat.beq pc 8 then some (.lastore, 9, 0, 0) else none))) else (bif Nat.ble 3 pc then (bif Nat.ble 4 pc then (bif Nat.ble 7 pc then (bif Nat.beq pc 7 then some (.i2l, 8, 0, 0) else none) else (bif Nat.beq pc 4 then some (.invokevirtual 161, 7, 41, 0) else none)) else (bif Nat.beq pc 3 then some (.iload_n 1, 4, 0, 0) else none)) else (bif Nat.ble 1 pc then (bif Nat.ble 2 pc then (bif Nat.beq pc 2 then some (.aload_n 0, 3, 0, 0) else none) else (bif Nat.beq pc 1 then some (.dload 0, 2, 0, 0) else none)) else (bif Nat.beq pc 0 then some (.aload_n 2, 1, 0, 0) else none)))
def mc_163 (pc : Nat) : Option (Instr × Nat × Nat × Nat) := bif Nat.ble 21 pc then (bif Nat.ble 29 pc then (bif Nat.ble 36 pc then (bif Nat.ble 37 pc then (bif Nat.ble 38 pc then (bif Nat.beq pc 38 then some (.ireturn, 39, 0, 0) else none) else (bif Nat.beq pc 37 then some (.iaload, 38, 0, 0) else none)) else (bif Nat.beq pc 36 then some (.iload_n 1, 37, 0, 0) else none)) else (bif Nat.ble 32 pc then (bif Nat.ble 33 pc then (bif Nat.beq pc 33 then some (.fload 7, 36, 54, 27) else none) else (bif Nat.beq pc 32 then some (.aload_n 0, 33, 0, 0) else none)) else (bif Nat.beq pc 29 then some (.invokevirtual 154, 32, 200, 0) else none))) else (bif Nat.ble 26 pc then (bif Nat.ble 27 pc then (bif Nat.ble 28 pc then (bif Nat.beq pc 28 then some (.dload 0, 29, 0, 0) else none) else (bif Nat.beq pc 27 then some (.dload 0, 28, 0, 0) else none)) else (bif Nat.beq pc 26 then some (.aload_n 0, 27, 0, 0) else none)) else (bif Nat.ble 24 pc then (bif Nat.ble 25 pc then (bif Nat.beq pc 25 then some (.ireturn, 26, 0, 0) else none) else (bif Nat.beq pc 24 then some (.dload 0, 25, 0, 0) else none)) else (bif Nat.beq pc 21 then some (.ifCond .eq 0, 24, 26, 0) else none)))) else (bif Nat.ble 9 pc then (bif Nat.ble 14 pc then (bif Nat.ble 17 pc then (bif Nat.ble 18 pc then (bif Nat.beq pc 18 then some (.getfield 7, 21, 63, 0) else none) else (bif Nat.beq pc 17 then some (.aload_n 0, 18, 0, 0) else none)) else (bif Nat.beq pc 14 then some (.putfield 7, 17, 63, 0) else none)) else (bif Nat.ble 10 pc then (bif Nat.ble 13 pc then (bif Nat.beq pc 13 then some (.dload 0, 14, 0, 0) else none) else (bif Nat.beq pc 10 then some (.goto 0, 13, 14, 0) else none)) else (bif Nat.beq pc 9 then some (.dload 1, 10, 0, 0) else none))) else (bif Nat.ble 2 pc then (bif Nat.ble 3 pc then (bif Nat.ble 6 pc then (bif Nat.beq pc 6 then some (.ifCond .eq 0, 9, 13, 0) else none) else (bif Nat.beq pc 3 then some (.invokevirtual 110, 6, 135, 0) else none)) else (bif Nat.beq pc 2 then some (.iload_n 1, 3, 0, 0) else none)) else (bif Nat.ble 1 pc then (bif Nat.beq pc 1 then some (.aload_n 0, 2, 0, 0) else none) else (bif Nat.beq pc 0 then some (.aload_n 0, 1, 0, 0) else none))))
def mc_164 (pc : Nat) : Option (Instr × Nat × Nat × Nat) := bif Nat.ble 29 pc then (bif Nat.ble 47 pc then (bif Nat.ble 55 pc then (bif Nat.ble 59 pc then (bif Nat.ble 62 pc then (bif Nat.ble 63 pc then (bif Nat.beq pc 63 then some (.ireturn, 64, 0, 0) else none) else (bif Nat.beq pc 62 then some (.dstore 1, 63, 0, 0) else none)) else (bif Nat.beq pc 59 then some (.goto 0, 62, 8, 0) else none)) else (bif Nat.ble 56 pc then (bif Nat.beq pc 56 then some (.multianewarray 3 1, 59, 0, 0) else none) else (bif Nat.beq pc 55 then some (.ireturn, 56, 0, 0) else none))) else (bif Nat.ble 51 pc then (bif Nat.ble 54 pc then (bif Nat.beq pc 54 then some (.iload_n 3, 55, 0, 0) else none) else (bif Nat.beq pc 51 then some (.ifCond .ne 0, 54, 56, 0) else none)) else (bif Nat.ble 48 pc then (bif Nat.beq pc 48 then some (.iinc 2 (-1), 51, 0, 0) else none) else (bif Nat.beq pc 47 then some (.iload_n 2, 48, 0, 0) else none)))) else (bif Nat.ble 39 pc then (bif Nat.ble 41 pc then (bif Nat.ble 44 pc then (bif Nat.beq pc 44 then some (.ifnull 0, 47, 56, 0) else none) else (bif Nat.beq pc 41 then some (.fload 6, 44, 311, 4) else none)) else (bif Nat.ble 40 pc then (bif Nat.beq pc 40 then some (.aaload, 41, 0, 0) else none) else (bif Nat.beq pc 39 then some (.iload_n 3, 40, 0, 0) else none))) else (bif Nat.ble 35 pc then (bif Nat.ble 36 pc then (bif Nat.beq pc 36 then some (.fload 0, 39, 74, 7) else none) else (bif Nat.beq pc 35 then some (.aload_n 0, 36, 0, 0) else none)) else (bif Nat.ble 32 pc then (bif Nat.beq pc 32 then some (.if_acmp .ne 0, 35, 56, 0) else none) else (bif Nat.beq pc 29 then some (.getstatic 5, 32, 298, 0) else none))))) else (bif Nat.ble 10 pc then (bif Nat.ble 20 pc then (bif Nat.ble 24 pc then (bif Nat.ble 25 pc then (bif Nat.ble 26 pc then (bif Nat.beq pc 26 then some (.fload 6, 29, 217, 0) else none) else (bif Nat.beq pc 25 then some (.aaload, 26, 0, 0) else none)) else (bif Nat.beq pc 24 then some (.iload_n 3, 25, 0, 0) else none)) else (bif Nat.ble 21 pc then (bif Nat.beq pc 21 then some (.fload 0, 24, 74, 7) else none) else (bif Nat.beq pc 20 then some (.aload_n 0, 21, 0, 0) else none))) else (bif Nat.ble 16 pc then (bif Nat.ble 17 pc then (bif Nat.beq pc 17 then some (.ifCond .lt 0, 20, 62, 0) else none) else (bif Nat.beq pc 16 then some (.iload_n 1, 17, 0, 0) else none)) else (bif Nat.ble 13 pc then (bif Nat.beq pc 13 then some (.if_icmp .ge 0, 16, 62, 0) else none) else (bif Nat.beq pc 10 then some (.getfield 0, 13, 211, 8) else none)))) else (bif Nat.ble 6 pc then (bif Nat.ble 8 pc then (bif Nat.ble 9 pc then (bif Nat.beq pc 9 then some (.aload_n 0, 10, 0, 0) else none) else (bif Nat.beq pc 8 then some (.iload_n 3, 9, 0, 0) else none)) else (bif Nat.ble 7 pc then (bif Nat.beq pc 7 then some (.istore_n 3, 8, 0, 0) else none) else (bif Nat.beq pc 6 then some (.dload 0, 7, 0, 0) else none))) else (bif Nat.ble 4 pc then (bif Nat.ble 5 pc then (bif Nat.beq pc 5 then some (.istore_n 2, 6, 0, 0) else none) else (bif Nat.beq pc 4 then some (.iload_n 1, 5, 0, 0) else none)) else (bif Nat.ble 1 pc then (bif Nat.beq pc 1 then some (.invokevirtual 148, 4, 321, 0) else none) else (bif Nat.beq pc 0 then some (.aload_n 0, 1, 0, 0) else none)))))
def mc_165 (pc : Nat) : Option (Instr × Nat × Nat × Nat) := bif Nat.ble 28 pc then (bif Nat.ble 43 pc then (bif Nat.ble 52 pc then (bif Nat.ble 58 pc then (bif Nat.ble 61 pc then (bif Nat.ble 62 pc then (bif Nat.beq pc 62 then some (.ireturn, 63, 0, 0) else none) else (bif Nat.beq pc 61 then some (.dstore 1, 62, 0, 0) else none)) else (bif Nat.beq pc 58 then some (.goto 0, 61, 15, 0) else none)) else (bif Nat.ble 55 pc then (bif Nat.beq pc 55 then some (.multianewarray 3 1, 58, 0, 0) else none) else (bif Nat.beq pc 52 then some (.iinc 2 (-1), 55, 0, 0) else none))) else (bif Nat.ble 47 pc then (bif Nat.ble 50 pc then (bif Nat.ble 51 pc then (bif Nat.beq pc 51 then some (.ireturn, 52, 0, 0) else none) else (bif Nat.beq pc 50 then some (.iload_n 3, 51, 0, 0) else none)) else (bif Nat.beq pc 47 then some (.ifCond .ne 0, 50, 52, 0) else none)) else (bif Nat.ble 46 pc then (bif Nat.beq pc 46 then some (.iload_n 2, 47, 0, 0) else none) else (bif Nat.beq pc 43 then some (.ifCond .lt 0, 46, 55, 0) else none)))) else (bif Nat.ble 34 pc then (bif Nat.ble 38 pc then (bif Nat.ble 41 pc then (bif Nat.ble 42 pc then (bif Nat.beq pc 42 then some (.iaload, 43, 0, 0) else none) else (bif Nat.beq pc 41 then some (.iload_n 3, 42, 0, 0) else none)) else (bif Nat.beq pc 38 then some (.fload 7, 41, 54, 27) else none)) else (bif Nat.ble 37 pc then (bif Nat.beq pc 37 then some (.aload_n 0, 38, 0, 0) else none) else (bif Nat.beq pc 34 then some (.if_icmp .ne 0, 37, 55, 0) else none))) else (bif Nat.ble 32 pc then (bif Nat.ble 33 pc then (bif Nat.beq pc 33 then some (.dload 1, 34, 0, 0) else none) else (bif Nat.beq pc 32 then some (.iaload, 33, 0, 0) else none)) else (bif Nat.ble 31 pc then (bif Nat.beq pc 31 then some (.iload_n 3, 32, 0, 0) else none) else (bif Nat.beq pc 28 then some (.fload 7, 31, 33, 13) else none))))) else (bif Nat.ble 13 pc then (bif Nat.ble 17 pc then (bif Nat.ble 23 pc then (bif Nat.ble 24 pc then (bif Nat.ble 27 pc then (bif Nat.beq pc 27 then some (.aload_n 0, 28, 0, 0) else none) else (bif Nat.beq pc 24 then some (.ifCond .lt 0, 27, 61, 0) else none)) else (bif Nat.beq pc 23 then some (.iload_n 1, 24, 0, 0) else none)) else (bif Nat.ble 20 pc then (bif Nat.beq pc 20 then some (.if_icmp .ge 0, 23, 61, 0) else none) else (bif Nat.beq pc 17 then some (.getfield 7, 20, 100, 12) else none))) else (bif Nat.ble 15 pc then (bif Nat.ble 16 pc then (bif Nat.beq pc 16 then some (.aload_n 0, 17, 0, 0) else none) else (bif Nat.beq pc 15 then some (.iload_n 3, 16, 0, 0) else none)) else (bif Nat.ble 14 pc then (bif Nat.beq pc 14 then some (.istore_n 3, 15, 0, 0) else none) else (bif Nat.beq pc 13 then some (.dload 0, 14, 0, 0) else none)))) else (bif Nat.ble 6 pc then (bif Nat.ble 8 pc then (bif Nat.ble 11 pc then (bif Nat.ble 12 pc then (bif Nat.beq pc 12 then some (.istore_n 2, 13, 0, 0) else none) else (bif Nat.beq pc 11 then some (.iload_n 1, 12, 0, 0) else none)) else (bif Nat.beq pc 8 then some (.invokevirtual 154, 11, 200, 0) else none)) else (bif Nat.ble 7 pc then (bif Nat.beq pc 7 then some (.dload 0, 8, 0, 0) else none) else (bif Nat.beq pc 6 then some (.dload 0, 7, 0, 0) else none))) else (bif Nat.ble 2 pc then (bif Nat.ble 5 pc then (bif Nat.beq pc 5 then some (.aload_n 0, 6, 0, 0) else none) else (bif Nat.beq pc 2 then some (.putfield 7, 5, 63, 0) else none)) else (bif Nat.ble 1 pc then (bif Nat.beq pc 1 then some (.dload 0, 2, 0, 0) else none) else (bif Nat.beq pc 0 then some (.aload_n 0, 1, 0, 0) else none)))))
def mc_166 (pc : Nat) : Option (Instr × Nat × Nat × Nat) := bif Nat.ble 5 pc then (bif Nat.ble 7 pc then (bif Nat.ble 10 pc then (bif Nat.beq pc 10 then some (.return_, 11, 0, 0) else none) else (bif Nat.beq pc 7 then some (.lstore 0, 10, 227, 10) else none)) else (bif Nat.ble 6 pc then (bif Nat.beq pc 6 then some (.dload 0, 7, 0, 0) else none) else (bif Nat.beq pc 5 then some (.aload_n 0, 6, 0, 0) else none))) else (bif Nat.ble 1 pc then (bif Nat.ble 2 pc then (bif Nat.beq pc 2 then some (.putfield 0, 5, 211, 8) else none) else (bif Nat.beq pc 1 then some (.dload 0, 2, 0, 0) else none)) else (bif Nat.beq pc 0 then some (.aload_n 0, 1, 0, 0) else none))
def mc_167 (pc : Nat) : Option (Instr × Nat × Nat × Nat) := bif Nat.ble 5 pc then (bif Nat.ble 7 pc then (bif Nat.ble 10 pc then (bif Nat.beq pc 10 then some (.return_, 11, 0, 0) else none) else (bif Nat.beq pc 7 then some (.putfield 7, 10, 100, 12) else none)) else (bif Nat.ble 6 pc then (bif Nat.beq pc 6 then some (.dload 0, 7, 0, 0) else none) else (bif Nat.beq pc 5 then some (.aload_n 0, 6, 0, 0) else none))) else (bif Nat.ble 1 pc then (bif Nat.ble 2 pc then (bif Nat.beq pc 2 then some (.putfield 7, 5, 63, 0) else none) else (bif Nat.beq pc 1 then some (.dload 0, 2, 0, 0) else none)) else (bif Nat.beq pc 0 then some (.aload_n 0, 1, 0, 0) else none))
def mc_168 (pc : Nat) : Option (Instr × Nat × Nat × Nat) := bif Nat.ble 406 pc then (bif Nat.ble 569 pc then (bif Nat.ble 647 pc then (bif Nat.ble 689 pc then (bif Nat.ble 708 pc then (bif Nat.ble 721 pc then (bif Nat.ble 728 pc then (bif Nat.ble 734 pc then (bif Nat.ble 735 pc then (bif Nat.beq pc 735 then some (.ireturn, 736, 0, 0) else none) else (bif Nat.beq pc 734 then some (.dload 1, 735, 0, 0) else none)) else (bif Nat.ble 731 pc then (bif Nat.beq pc 731 then some (.goto 0, 734, 43, 0) else none) else (bif Nat.beq pc 728 then some (.multianewarray 4 4, 731, 0, 0) else none))) else (bif Nat.ble 722 pc then (bif Nat.ble 725 pc then (bif Nat.beq pc 725 then some (.goto 0, 728, 728, 0) else none) else (bif Nat.beq pc 722 then some (.invokevirtual 167, 725, 112, 0) else none)) else (bif Nat.beq pc 721 then some (.aload_n 2, 722, 0, 0) else none))) else (bif Nat.ble 715 pc then (bif Nat.ble 717 pc then (bif Nat.ble 718 pc then (bif Nat.beq pc 718 then some (.invokevirtual 166, 721, 109, 0) else none) else (bif Nat.beq pc 717 then some (.aload_n 1, 718, 0, 0) else none)) else (bif Nat.ble 716 pc then (bif Nat.beq pc 716 then some (.ireturn, 717, 0, 0) else none) else (bif Nat.beq pc 715 then some (.dload 0, 716, 0, 0) else none))) else (bif Nat.ble 709 pc then (bif Nat.ble 712 pc then (bif Nat.beq pc 712 then some (.if_icmp .eq 0, 715, 728, 0) else none) else (bif Nat.beq pc 709 then some (.invokevirtual 165, 712, 108, 0) else none)) else (bif Nat.beq pc 708 then some (.iaload, 709, 0, 0) else none)))) else (bif Nat.ble 698 pc then (bif Nat.ble 703 pc then (bif Nat.ble 706 pc then (bif Nat.ble 707 pc then (bif Nat.beq pc 707 then some (.iadd, 708, 0, 0) else none) else (bif Nat.beq pc 706 then some (.dload 1, 707, 0, 0) else none)) else (bif Nat.ble 704 pc then (bif Nat.beq pc 704 then some (.iload 4, 706, 0, 0) else none) else (bif Nat.beq pc 703 then some (.aload_n 0, 704, 0, 0) else none))) else (bif Nat.ble 699 pc then (bif Nat.ble 702 pc then (bif Nat.beq pc 702 then some (.aload_n 2, 703, 0, 0) else none) else (bif Nat.beq pc 699 then some (.invokevirtual 164, 702, 105, 0) else none)) else (bif Nat.beq pc 698 then some (.iaload, 699, 0, 0) else none))) else (bif Nat.ble 694 pc then (bif Nat.ble 696 pc then (bif Nat.ble 697 pc then (bif Nat.beq pc 697 then some (.iadd, 698, 0, 0) else none) else (bif Nat.beq pc 696 then some (.dload 1, 697, 0, 0) else none)) else (bif Nat.beq pc 694 then some (.iload 4, 696, 0, 0) else none)) else (bif Nat.ble 692 pc then (bif Nat.ble 693 pc then (bif Nat.beq pc 693 then some (.aload_n 0, 694, 0, 0) else none) else (bif Nat.beq pc 692 then some (.aload_n 1, 693, 0, 0) else none)) else (bif Nat.beq pc 689 then some (.goto 0, 692, 728, 0) else none))))) else (bif Nat.ble 670 pc then (bif Nat.ble 679 pc then (bif Nat.ble 683 pc then (bif Nat.ble 687 pc then (bif Nat.ble 688 pc then (bif Nat.beq pc 688 then some (.ireturn, 689, 0, 0) else none) else (bif Nat.beq pc 687 then some (.dload 0, 688, 0, 0) else none)) else (bif Nat.ble 684 pc then (bif Nat.beq pc 684 then some (.ifCond .eq 0, 687, 689, 0) else none) else (bif Nat.beq pc 683 then some (.lcmp, 684, 0, 0) else none))) else (bif Nat.ble 680 pc then (bif Nat.ble 682 pc then (bif Nat.beq pc 682 then some (.i2l, 683, 0, 0) else none) else (bif Nat.beq pc 680 then some (.iload 6, 682, 0, 0) else none)) else (bif Nat.beq pc 679 then some (.laload, 680, 0, 0) else none))) else (bif Nat.ble 674 pc then (bif Nat.ble 677 pc then (bif Nat.ble 678 pc then (bif Nat.beq pc 678 then some (.dload 0, 679, 0, 0) else none) else (bif Nat.beq pc 677 then some (.aload_n 3, 678, 0, 0) else none)) else (bif Nat.beq pc 674 then some (.ifCond .ne 0, 677, 689, 0) else none)) else (bif Nat.ble 671 pc then (bif Nat.ble 672 pc then (bif Nat.beq pc 672 then some (.iload 5, 674, 0, 0) else none) else (bif Nat.beq pc 671 then some (.ireturn, 672, 0, 0) else none)) else (bif Nat.beq pc 670 then some (.dload 0, 671, 0, 0) else none)))) else (bif Nat.ble 655 pc then (bif Nat.ble 661 pc then (bif Nat.ble 665 pc then (bif Nat.ble 667 pc then (bif Nat.beq pc 667 then some (.if_icmp .eq 0, 670, 672, 0) else none) else (bif Nat.beq pc 665 then some (.iload 5, 667, 0, 0) else none)) else (bif Nat.ble 662 pc then (bif Nat.beq pc 662 then some (.invokevirtual 25, 665, 59, 0) else none) else (bif Nat.beq pc 661 then some (.aload_n 2, 662, 0, 0) else none))) else (bif Nat.ble 656 pc then (bif Nat.ble 659 pc then (bif Nat.beq pc 659 then some (.istore 6, 661, 0, 0) else none) else (bif Nat.beq pc 656 then some (.invokevirtual 163, 659, 104, 0) else none)) else (bif Nat.beq pc 655 then some (.iaload, 656, 0, 0) else none))) else (bif Nat.ble 651 pc then (bif Nat.ble 653 pc then (bif Nat.ble 654 pc then (bif Nat.beq pc 654 then some (.iadd, 655, 0, 0) else none) else (bif Nat.beq pc 653 then some (.dload 1, 654, 0, 0) else none)) else (bif Nat.beq pc 651 then some (.iload 4, 653, 0, 0) else none)) else (bif Nat.ble 649 pc then (bif Nat.ble 650 pc then (bif Nat.beq pc 650 then some (.aload_n 0, 651, 0, 0) else none) else (bif Nat.beq pc 649 then some (.aload_n 2, 650, 0, 0) else none)) else (bif Nat.beq pc 647 then some (.istore 5, 649, 0, 0) else none)))))) else (bif Nat.ble 605 pc then (bif Nat.ble 627 pc then (bif Nat.ble 637 pc then (bif Nat.ble 641 pc then (bif Nat.ble 643 pc then (bif Nat.ble 644 pc then (bif Nat.beq pc 644 then some (.invokestatic 162, 647, 102, 0) else none) else (bif Nat.beq pc 643 then some (.aload_n 3, 644, 0, 0) else none)) else (bif Nat.ble 642 pc then (bif Nat.beq pc 642 then some (.iaload, 643, 0, 0) else none) else (bif Nat.beq pc 641 then some (.iadd, 642, 0, 0) else none))) else (bif Nat.ble 638 pc then (bif Nat.ble 640 pc then (bif Nat.beq pc 640 then some (.dload 1, 641, 0, 0) else none) else (bif Nat.beq pc 638 then some (.iload 4, 640, 0, 0) else none)) else (bif Nat.beq pc 637 then some (.aload_n 0, 638, 0, 0) else none))) else (bif Nat.ble 632 pc then (bif Nat.ble 633 pc then (bif Nat.ble 636 pc then (bif Nat.beq pc 636 then some (.aload_n 1, 637, 0, 0) else none) else (bif Nat.beq pc 633 then some (.goto 0, 636, 728, 0) else none)) else (bif Nat.beq pc 632 then some (.ireturn, 633, 0, 0) else none)) else (bif Nat.ble 628 pc then (bif Nat.ble 631 pc then (bif Nat.beq pc 631 then some (.dload 0, 632, 0, 0) else none) else (bif Nat.beq pc 628 then some (.ifCond .eq 0, 631, 633, 0) else none)) else (bif Nat.beq pc 627 then some (.lcmp, 628, 0, 0) else none)))) else (bif Nat.ble 616 pc then (bif Nat.ble 622 pc then (bif Nat.ble 624 pc then (bif Nat.ble 626 pc then (bif Nat.beq pc 626 then some (.i2l, 627, 0, 0) else none) else (bif Nat.beq pc 624 then some (.iload 6, 626, 0, 0) else none)) else (bif Nat.ble 623 pc then (bif Nat.beq pc 623 then some (.laload, 624, 0, 0) else none) else (bif Nat.beq pc 622 then some (.dload 0, 623, 0, 0) else none))) else (bif Nat.ble 618 pc then (bif Nat.ble 621 pc then (bif Nat.beq pc 621 then some (.aload_n 3, 622, 0, 0) else none) else (bif Nat.beq pc 618 then some (.ifCond .ne 0, 621, 633, 0) else none)) else (bif Nat.beq pc 616 then some (.iload 5, 618, 0, 0) else none))) else (bif Nat.ble 611 pc then (bif Nat.ble 614 pc then (bif Nat.ble 615 pc then (bif Nat.beq pc 615 then some (.ireturn, 616, 0, 0) else none) else (bif Nat.beq pc 614 then some (.dload 0, 615, 0, 0) else none)) else (bif Nat.beq pc 611 then some (.if_icmp .eq 0, 614, 616, 0) else none)) else (bif Nat.ble 606 pc then (bif Nat.ble 609 pc then (bif Nat.beq pc 609 then some (.iload 5, 611, 0, 0) else none) else (bif Nat.beq pc 606 then some (.invokevirtual 25, 609, 59, 0) else none)) else (bif Nat.beq pc 605 then some (.aload_n 2, 606, 0, 0) else none))))) else (bif Nat.ble 587 pc then (bif Nat.ble 594 pc then (bif Nat.ble 598 pc then (bif Nat.ble 600 pc then (bif Nat.ble 603 pc then (bif Nat.beq pc 603 then some (.istore 6, 605, 0, 0) else none) else (bif Nat.beq pc 600 then some (.invokevirtual 160, 603, 101, 0) else none)) else (bif Nat.ble 599 pc then (bif Nat.beq pc 599 then some (.iaload, 600, 0, 0) else none) else (bif Nat.beq pc 598 then some (.iadd, 599, 0, 0) else none))) else (bif Nat.ble 595 pc then (bif Nat.ble 597 pc then (bif Nat.beq pc 597 then some (.dload 3, 598, 0, 0) else none) else (bif Nat.beq pc 595 then some (.iload 4, 597, 0, 0) else none)) else (bif Nat.beq pc 594 then some (.aload_n 0, 595, 0, 0) else none))) else (bif Nat.ble 591 pc then (bif Nat.ble 592 pc then (bif Nat.ble 593 pc then (bif Nat.beq pc 593 then some (.iaload, 594, 0, 0) else none) else (bif Nat.beq pc 592 then some (.iadd, 593, 0, 0) else none)) else (bif Nat.beq pc 591 then some (.dload 2, 592, 0, 0) else none)) else (bif Nat.ble 588 pc then (bif Nat.ble 589 pc then (bif Nat.beq pc 589 then some (.iload 4, 591, 0, 0) else none) else (bif Nat.beq pc 588 then some (.aload_n 0, 589, 0, 0) else none)) else (bif Nat.beq pc 587 then some (.iaload, 588, 0, 0) else none)))) else (bif Nat.ble 576 pc then (bif Nat.ble 582 pc then (bif Nat.ble 585 pc then (bif Nat.ble 586 pc then (bif Nat.beq pc 586 then some (.iadd, 587, 0, 0) else none) else (bif Nat.beq pc 585 then some (.dload 1, 586, 0, 0) else none)) else (bif Nat.ble 583 pc then (bif Nat.beq pc 583 then some (.iload 4, 585, 0, 0) else none) else (bif Nat.beq pc 582 then some (.aload_n 0, 583, 0, 0) else none))) else (bif Nat.ble 579 pc then (bif Nat.ble 581 pc then (bif Nat.beq pc 581 then some (.aload_n 2, 582, 0, 0) else none) else (bif Nat.beq pc 579 then some (.istore 5, 581, 0, 0) else none)) else (bif Nat.beq pc 576 then some (.invokestatic 158, 579, 98, 0) else none))) else (bif Nat.ble 573 pc then (bif Nat.ble 574 pc then (bif Nat.ble 575 pc then (bif Nat.beq pc 575 then some (.aload_n 3, 576, 0, 0) else none) else (bif Nat.beq pc 574 then some (.iaload, 575, 0, 0) else none)) else (bif Nat.beq pc 573 then some (.iadd, 574, 0, 0) else none)) else (bif Nat.ble 570 pc then (bif Nat.ble 572 pc then (bif Nat.beq pc 572 then some (.dload 3, 573, 0, 0) else none) else (bif Nat.beq pc 570 then some (.iload 4, 572, 0, 0) else none)) else (bif Nat.beq pc 569 then some (.aload_n 0, 570, 0, 0) else none))))))) else (bif Nat.ble 487 pc then (bif Nat.ble 529 pc then (bif Nat.ble 551 pc then (bif Nat.ble 561 pc then (bif Nat.ble 564 pc then (bif Nat.ble 567 pc then (bif Nat.ble 568 pc then (bif Nat.beq pc 568 then some (.iaload, 569, 0, 0) else none) else (bif Nat.beq pc 567 then some (.iadd, 568, 0, 0) else none)) else (bif Nat.ble 566 pc then (bif Nat.beq pc 566 then some (.dload 2, 567, 0, 0) else none) else (bif Nat.beq pc 564 then some (.iload 4, 566, 0, 0) else none))) else (bif Nat.ble 562 pc then (bif Nat.ble 563 pc then (bif Nat.beq pc 563 then some (.aload_n 0, 564, 0, 0) else none) else (bif Nat.beq pc 562 then some (.iaload, 563, 0, 0) else none)) else (bif Nat.beq pc 561 then some (.iadd, 562, 0, 0) else none))) else (bif Nat.ble 556 pc then (bif Nat.ble 558 pc then (bif Nat.ble 560 pc then (bif Nat.beq pc 560 then some (.dload 1, 561, 0, 0) else none) else (bif Nat.beq pc 558 then some (.iload 4, 560, 0, 0) else none)) else (bif Nat.ble 557 pc then (bif Nat.beq pc 557 then some (.aload_n 0, 558, 0, 0) else none) else (bif Nat.beq pc 556 then some (.aload_n 1, 557, 0, 0) else none))) else (bif Nat.ble 554 pc then (bif Nat.ble 555 pc then (bif Nat.beq pc 555 then some (.ireturn, 556, 0, 0) else none) else (bif Nat.beq pc 554 then some (.dload 0, 555, 0, 0) else none)) else (bif Nat.beq pc 551 then some (.if_icmp .eq 0, 554, 728, 0) else none)))) else (bif Nat.ble 538 pc then (bif Nat.ble 543 pc then (bif Nat.ble 547 pc then (bif Nat.ble 548 pc then (bif Nat.beq pc 548 then some (.invokevirtual 155, 551, 97, 0) else none) else (bif Nat.beq pc 547 then some (.aload_n 2, 548, 0, 0) else none)) else (bif Nat.ble 544 pc then (bif Nat.beq pc 544 then some (.invokevirtual 149, 547, 94, 0) else none) else (bif Nat.beq pc 543 then some (.aload_n 1, 544, 0, 0) else none))) else (bif Nat.ble 541 pc then (bif Nat.ble 542 pc then (bif Nat.beq pc 542 then some (.ireturn, 543, 0, 0) else none) else (bif Nat.beq pc 541 then some (.dload 0, 542, 0, 0) else none)) else (bif Nat.beq pc 538 then some (.if_icmp .eq 0, 541, 728, 0) else none))) else (bif Nat.ble 533 pc then (bif Nat.ble 534 pc then (bif Nat.ble 535 pc then (bif Nat.beq pc 535 then some (.invokevirtual 132, 538, 93, 0) else none) else (bif Nat.beq pc 534 then some (.iaload, 535, 0, 0) else none)) else (bif Nat.beq pc 533 then some (.iadd, 534, 0, 0) else none)) else (bif Nat.ble 530 pc then (bif Nat.ble 532 pc then (bif Nat.beq pc 532 then some (.dload 1, 533, 0, 0) else none) else (bif Nat.beq pc 530 then some (.iload 4, 532, 0, 0) else none)) else (bif Nat.beq pc 529 then some (.aload_n 0, 530, 0, 0) else none))))) else (bif Nat.ble 509 pc then (bif Nat.ble 519 pc then (bif Nat.ble 523 pc then (bif Nat.ble 525 pc then (bif Nat.ble 528 pc then (bif Nat.beq pc 528 then some (.aload_n 2, 529, 0, 0) else none) else (bif Nat.beq pc 525 then some (.invokevirtual 131, 528, 89, 0) else none)) else (bif Nat.ble 524 pc then (bif Nat.beq pc 524 then some (.iaload, 525, 0, 0) else none) else (bif Nat.beq pc 523 then some (.iadd, 524, 0, 0) else none))) else (bif Nat.ble 520 pc then (bif Nat.ble 522 pc then (bif Nat.beq pc 522 then some (.dload 1, 523, 0, 0) else none) else (bif Nat.beq pc 520 then some (.iload 4, 522, 0, 0) else none)) else (bif Nat.beq pc 519 then some (.aload_n 0, 520, 0, 0) else none))) else (bif Nat.ble 514 pc then (bif Nat.ble 515 pc then (bif Nat.ble 518 pc then (bif Nat.beq pc 518 then some (.aload_n 1, 519, 0, 0) else none) else (bif Nat.beq pc 515 then some (.goto 0, 518, 728, 0) else none)) else (bif Nat.beq pc 514 then some (.ireturn, 515, 0, 0) else none)) else (bif Nat.ble 510 pc then (bif Nat.ble 513 pc then (bif Nat.beq pc 513 then some (.dload 0, 514, 0, 0) else none) else (bif Nat.beq pc 510 then some (.ifCond .eq 0, 513, 515, 0) else none)) else (bif Nat.beq pc 509 then some (.lcmp, 510, 0, 0) else none)))) else (bif Nat.ble 498 pc then (bif Nat.ble 504 pc then (bif Nat.ble 506 pc then (bif Nat.ble 508 pc then (bif Nat.beq pc 508 then some (.i2l, 509, 0, 0) else none) else (bif Nat.beq pc 506 then some (.iload 6, 508, 0, 0) else none)) else (bif Nat.ble 505 pc then (bif Nat.beq pc 505 then some (.laload, 506, 0, 0) else none) else (bif Nat.beq pc 504 then some (.dload 0, 505, 0, 0) else none))) else (bif Nat.ble 500 pc then (bif Nat.ble 503 pc then (bif Nat.beq pc 503 then some (.aload_n 3, 504, 0, 0) else none) else (bif Nat.beq pc 500 then some (.ifCond .ne 0, 503, 515, 0) else none)) else (bif Nat.beq pc 498 then some (.iload 5, 500, 0, 0) else none))) else (bif Nat.ble 493 pc then (bif Nat.ble 496 pc then (bif Nat.ble 497 pc then (bif Nat.beq pc 497 then some (.ireturn, 498, 0, 0) else none) else (bif Nat.beq pc 496 then some (.dload 0, 497, 0, 0) else none)) else (bif Nat.beq pc 493 then some (.if_icmp .eq 0, 496, 498, 0) else none)) else (bif Nat.ble 488 pc then (bif Nat.ble 491 pc then (bif Nat.beq pc 491 then some (.iload 5, 493, 0, 0) else none) else (bif Nat.beq pc 488 then some (.invokevirtual 25, 491, 59, 0) else none)) else (bif Nat.beq pc 487 then some (.aload_n 2, 488, 0, 0) else none)))))) else (bif Nat.ble 448 pc then (bif Nat.ble 467 pc then (bif Nat.ble 476 pc then (bif Nat.ble 480 pc then (bif Nat.ble 482 pc then (bif Nat.ble 485 pc then (bif Nat.beq pc 485 then some (.istore 6, 487, 0, 0) else none) else (bif Nat.beq pc 482 then some (.invokevirtual 130, 485, 88, 0) else none)) else (bif Nat.ble 481 pc then (bif Nat.beq pc 481 then some (.iaload, 482, 0, 0) else none) else (bif Nat.beq pc 480 then some (.iadd, 481, 0, 0) else none))) else (bif Nat.ble 477 pc then (bif Nat.ble 479 pc then (bif Nat.beq pc 479 then some (.dload 1, 480, 0, 0) else none) else (bif Nat.beq pc 477 then some (.iload 4, 479, 0, 0) else none)) else (bif Nat.beq pc 476 then some (.aload_n 0, 477, 0, 0) else none))) else (bif Nat.ble 470 pc then (bif Nat.ble 473 pc then (bif Nat.ble 475 pc then (bif Nat.beq pc 475 then some (.aload_n 2, 476, 0, 0) else none) else (bif Nat.beq pc 473 then some (.istore 5, 475, 0, 0) else none)) else (bif Nat.beq pc 470 then some (.invokestatic 123, 473, 86, 0) else none)) else (bif Nat.ble 468 pc then (bif Nat.ble 469 pc then (bif Nat.beq pc 469 then some (.aload_n 3, 470, 0, 0) else none) else (bif Nat.beq pc 468 then some (.iaload, 469, 0, 0) else none)) else (bif Nat.beq pc 467 then some (.iadd, 468, 0, 0) else none)))) else (bif Nat.ble 457 pc then (bif Nat.ble 462 pc then (bif Nat.ble 464 pc then (bif Nat.ble 466 pc then (bif Nat.beq pc 466 then some (.dload 1, 467, 0, 0) else none) else (bif Nat.beq pc 464 then some (.iload 4, 466, 0, 0) else none)) else (bif Nat.ble 463 pc then (bif Nat.beq pc 463 then some (.aload_n 0, 464, 0, 0) else none) else (bif Nat.beq pc 462 then some (.aload_n 1, 463, 0, 0) else none))) else (bif Nat.ble 458 pc then (bif Nat.ble 459 pc then (bif Nat.beq pc 459 then some (.goto 0, 462, 728, 0) else none) else (bif Nat.beq pc 458 then some (.ireturn, 459, 0, 0) else none)) else (bif Nat.beq pc 457 then some (.dload 0, 458, 0, 0) else none))) else (bif Nat.ble 452 pc then (bif Nat.ble 453 pc then (bif Nat.ble 454 pc then (bif Nat.beq pc 454 then some (.ifCond .eq 0, 457, 459, 0) else none) else (bif Nat.beq pc 453 then some (.lcmp, 454, 0, 0) else none)) else (bif Nat.beq pc 452 then some (.i2l, 453, 0, 0) else none)) else (bif Nat.ble 449 pc then (bif Nat.ble 450 pc then (bif Nat.beq pc 450 then some (.iload 6, 452, 0, 0) else none) else (bif Nat.beq pc 449 then some (.laload, 450, 0, 0) else none)) else (bif Nat.beq pc 448 then some (.dload 0, 449, 0, 0) else none))))) else (bif Nat.ble 424 pc then (bif Nat.ble 435 pc then (bif Nat.ble 441 pc then (bif Nat.ble 444 pc then (bif Nat.ble 447 pc then (bif Nat.beq pc 447 then some (.aload_n 3, 448, 0, 0) else none) else (bif Nat.beq pc 444 then some (.ifCond .ne 0, 447, 459, 0) else none)) else (bif Nat.ble 442 pc then (bif Nat.beq pc 442 then some (.iload 5, 444, 0, 0) else none) else (bif Nat.beq pc 441 then some (.ireturn, 442, 0, 0) else none))) else (bif Nat.ble 437 pc then (bif Nat.ble 440 pc then (bif Nat.beq pc 440 then some (.dload 0, 441, 0, 0) else none) else (bif Nat.beq pc 437 then some (.if_icmp .eq 0, 440, 442, 0) else none)) else (bif Nat.beq pc 435 then some (.iload 5, 437, 0, 0) else none))) else (bif Nat.ble 429 pc then (bif Nat.ble 431 pc then (bif Nat.ble 432 pc then (bif Nat.beq pc 432 then some (.invokevirtual 25, 435, 59, 0) else none) else (bif Nat.beq pc 431 then some (.aload_n 2, 432, 0, 0) else none)) else (bif Nat.beq pc 429 then some (.istore 6, 431, 0, 0) else none)) else (bif Nat.ble 425 pc then (bif Nat.ble 426 pc then (bif Nat.beq pc 426 then some (.invokevirtual 114, 429, 85, 0) else none) else (bif Nat.beq pc 425 then some (.iaload, 426, 0, 0) else none)) else (bif Nat.beq pc 424 then some (.iadd, 425, 0, 0) else none)))) else (bif Nat.ble 415 pc then (bif Nat.ble 419 pc then (bif Nat.ble 421 pc then (bif Nat.ble 423 pc then (bif Nat.beq pc 423 then some (.dload 2, 424, 0, 0) else none) else (bif Nat.beq pc 421 then some (.iload 4, 423, 0, 0) else none)) else (bif Nat.ble 420 pc then (bif Nat.beq pc 420 then some (.aload_n 0, 421, 0, 0) else none) else (bif Nat.beq pc 419 then some (.iaload, 420, 0, 0) else none))) else (bif Nat.ble 417 pc then (bif Nat.ble 418 pc then (bif Nat.beq pc 418 then some (.iadd, 419, 0, 0) else none) else (bif Nat.beq pc 417 then some (.dload 1, 418, 0, 0) else none)) else (bif Nat.beq pc 415 then some (.iload 4, 417, 0, 0) else none))) else (bif Nat.ble 411 pc then (bif Nat.ble 413 pc then (bif Nat.ble 414 pc then (bif Nat.beq pc 414 then some (.aload_n 0, 415, 0, 0) else none) else (bif Nat.beq pc 413 then some (.aload_n 2, 414, 0, 0) else none)) else (bif Nat.beq pc 411 then some (.istore 5, 413, 0, 0) else none)) else (bif Nat.ble 407 pc then (bif Nat.ble 408 pc then (bif Nat.beq pc 408 then some (.invokestatic 113, 411, 82, 0) else none) else (bif Nat.beq pc 407 then some (.aload_n 3, 408, 0, 0) else none)) else (bif Nat.beq pc 406 then some (.iaload, 407, 0, 0) else none)))))))) else (bif Nat.ble 238 pc then (bif Nat.ble 325 pc then (bif Nat.ble 364 pc then (bif Nat.ble 386 pc then (bif Nat.ble 398 pc then (bif Nat.ble 401 pc then (bif Nat.ble 404 pc then (bif Nat.ble 405 pc then (bif Nat.beq pc 405 then some (.iadd, 406, 0, 0) else none) else (bif Nat.beq pc 404 then some (.dload 2, 405, 0, 0) else none)) else (bif Nat.ble 402 pc then (bif Nat.beq pc 402 then some (.iload 4, 404, 0, 0) else none) else (bif Nat.beq pc 401 then some (.aload_n 0, 402, 0, 0) else none))) else (bif Nat.ble 399 pc then (bif Nat.ble 400 pc then (bif Nat.beq pc 400 then some (.iaload, 401, 0, 0) else none) else (bif Nat.beq pc 399 then some (.iadd, 400, 0, 0) else none)) else (bif Nat.beq pc 398 then some (.dload 1, 399, 0, 0) else none))) else (bif Nat.ble 391 pc then (bif Nat.ble 395 pc then (bif Nat.ble 396 pc then (bif Nat.beq pc 396 then some (.iload 4, 398, 0, 0) else none) else (bif Nat.beq pc 395 then some (.aload_n 0, 396, 0, 0) else none)) else (bif Nat.ble 394 pc then (bif Nat.beq pc 394 then some (.aload_n 1, 395, 0, 0) else none) else (bif Nat.beq pc 391 then some (.goto 0, 394, 728, 0) else none))) else (bif Nat.ble 389 pc then (bif Nat.ble 390 pc then (bif Nat.beq pc 390 then some (.ireturn, 391, 0, 0) else none) else (bif Nat.beq pc 389 then some (.dload 0, 390, 0, 0) else none)) else (bif Nat.beq pc 386 then some (.ifCond .eq 0, 389, 391, 0) else none)))) else (bif Nat.ble 376 pc then (bif Nat.ble 381 pc then (bif Nat.ble 384 pc then (bif Nat.ble 385 pc then (bif Nat.beq pc 385 then some (.lcmp, 386, 0, 0) else none) else (bif Nat.beq pc 384 then some (.i2l, 385, 0, 0) else none)) else (bif Nat.ble 382 pc then (bif Nat.beq pc 382 then some (.iload 6, 384, 0, 0) else none) else (bif Nat.beq pc 381 then some (.laload, 382, 0, 0) else none))) else (bif Nat.ble 379 pc then (bif Nat.ble 380 pc then (bif Nat.beq pc 380 then some (.dload 0, 381, 0, 0) else none) else (bif Nat.beq pc 379 then some (.aload_n 3, 380, 0, 0) else none)) else (bif Nat.beq pc 376 then some (.ifCond .ne 0, 379, 391, 0) else none))) else (bif Nat.ble 372 pc then (bif Nat.ble 373 pc then (bif Nat.ble 374 pc then (bif Nat.beq pc 374 then some (.iload 5, 376, 0, 0) else none) else (bif Nat.beq pc 373 then some (.ireturn, 374, 0, 0) else none)) else (bif Nat.beq pc 372 then some (.dload 0, 373, 0, 0) else none)) else (bif Nat.ble 367 pc then (bif Nat.ble 369 pc then (bif Nat.beq pc 369 then some (.if_icmp .eq 0, 372, 374, 0) else none) else (bif Nat.beq pc 367 then some (.iload 5, 369, 0, 0) else none)) else (bif Nat.beq pc 364 then some (.invokevirtual 25, 367, 59, 0) else none))))) else (bif Nat.ble 344 pc then (bif Nat.ble 353 pc then (bif Nat.ble 357 pc then (bif Nat.ble 361 pc then (bif Nat.ble 363 pc then (bif Nat.beq pc 363 then some (.aload_n 2, 364, 0, 0) else none) else (bif Nat.beq pc 361 then some (.istore 6, 363, 0, 0) else none)) else (bif Nat.ble 358 pc then (bif Nat.beq pc 358 then some (.invokevirtual 111, 361, 81, 0) else none) else (bif Nat.beq pc 357 then some (.iaload, 358, 0, 0) else none))) else (bif Nat.ble 355 pc then (bif Nat.ble 356 pc then (bif Nat.beq pc 356 then some (.iadd, 357, 0, 0) else none) else (bif Nat.beq pc 355 then some (.dload 1, 356, 0, 0) else none)) else (bif Nat.beq pc 353 then some (.iload 4, 355, 0, 0) else none))) else (bif Nat.ble 349 pc then (bif Nat.ble 351 pc then (bif Nat.ble 352 pc then (bif Nat.beq pc 352 then some (.aload_n 0, 353, 0, 0) else none) else (bif Nat.beq pc 351 then some (.aload_n 2, 352, 0, 0) else none)) else (bif Nat.beq pc 349 then some (.istore 5, 351, 0, 0) else none)) else (bif Nat.ble 345 pc then (bif Nat.ble 346 pc then (bif Nat.beq pc 346 then some (.invokestatic 109, 349, 79, 0) else none) else (bif Nat.beq pc 345 then some (.aload_n 3, 346, 0, 0) else none)) else (bif Nat.beq pc 344 then some (.iaload, 345, 0, 0) else none)))) else (bif Nat.ble 334 pc then (bif Nat.ble 339 pc then (bif Nat.ble 342 pc then (bif Nat.ble 343 pc then (bif Nat.beq pc 343 then some (.iadd, 344, 0, 0) else none) else (bif Nat.beq pc 342 then some (.dload 1, 343, 0, 0) else none)) else (bif Nat.ble 340 pc then (bif Nat.beq pc 340 then some (.iload 4, 342, 0, 0) else none) else (bif Nat.beq pc 339 then some (.aload_n 0, 340, 0, 0) else none))) else (bif Nat.ble 335 pc then (bif Nat.ble 338 pc then (bif Nat.beq pc 338 then some (.aload_n 1, 339, 0, 0) else none) else (bif Nat.beq pc 335 then some (.goto 0, 338, 728, 0) else none)) else (bif Nat.beq pc 334 then some (.ireturn, 335, 0, 0) else none))) else (bif Nat.ble 329 pc then (bif Nat.ble 330 pc then (bif Nat.ble 333 pc then (bif Nat.beq pc 333 then some (.dload 0, 334, 0, 0) else none) else (bif Nat.beq pc 330 then some (.ifCond .eq 0, 333, 335, 0) else none)) else (bif Nat.beq pc 329 then some (.lcmp, 330, 0, 0) else none)) else (bif Nat.ble 326 pc then (bif Nat.ble 328 pc then (bif Nat.beq pc 328 then some (.i2l, 329, 0, 0) else none) else (bif Nat.beq pc 326 then some (.iload 6, 328, 0, 0) else none)) else (bif Nat.beq pc 325 then some (.laload, 326, 0, 0) else none)))))) else (bif Nat.ble 283 pc then (bif Nat.ble 301 pc then (bif Nat.ble 313 pc then (bif Nat.ble 318 pc then (bif Nat.ble 323 pc then (bif Nat.ble 324 pc then (bif Nat.beq pc 324 then some (.dload 0, 325, 0, 0) else none) else (bif Nat.beq pc 323 then some (.aload_n 3, 324, 0, 0) else none)) else (bif Nat.ble 320 pc then (bif Nat.beq pc 320 then some (.ifCond .ne 0, 323, 335, 0) else none) else (bif Nat.beq pc 318 then some (.iload 5, 320, 0, 0) else none))) else (bif Nat.ble 316 pc then (bif Nat.ble 317 pc then (bif Nat.beq pc 317 then some (.ireturn, 318, 0, 0) else none) else (bif Nat.beq pc 316 then some (.dload 0, 317, 0, 0) else none)) else (bif Nat.beq pc 313 then some (.if_icmp .eq 0, 316, 318, 0) else none))) else (bif Nat.ble 307 pc then (bif Nat.ble 308 pc then (bif Nat.ble 311 pc then (bif Nat.beq pc 311 then some (.iload 5, 313, 0, 0) else none) else (bif Nat.beq pc 308 then some (.invokevirtual 25, 311, 59, 0) else none)) else (bif Nat.beq pc 307 then some (.aload_n 2, 308, 0, 0) else none)) else (bif Nat.ble 302 pc then (bif Nat.ble 305 pc then (bif Nat.beq pc 305 then some (.istore 6, 307, 0, 0) else none) else (bif Nat.beq pc 302 then some (.invokevirtual 106, 305, 78, 0) else none)) else (bif Nat.beq pc 301 then some (.iaload, 302, 0, 0) else none)))) else (bif Nat.ble 290 pc then (bif Nat.ble 296 pc then (bif Nat.ble 299 pc then (bif Nat.ble 300 pc then (bif Nat.beq pc 300 then some (.iadd, 301, 0, 0) else none) else (bif Nat.beq pc 299 then some (.dload 1, 300, 0, 0) else none)) else (bif Nat.ble 297 pc then (bif Nat.beq pc 297 then some (.iload 4, 299, 0, 0) else none) else (bif Nat.beq pc 296 then some (.aload_n 0, 297, 0, 0) else none))) else (bif Nat.ble 293 pc then (bif Nat.ble 295 pc then (bif Nat.beq pc 295 then some (.aload_n 2, 296, 0, 0) else none) else (bif Nat.beq pc 293 then some (.istore 5, 295, 0, 0) else none)) else (bif Nat.beq pc 290 then some (.invokestatic 93, 293, 75, 0) else none))) else (bif Nat.ble 287 pc then (bif Nat.ble 288 pc then (bif Nat.ble 289 pc then (bif Nat.beq pc 289 then some (.aload_n 3, 290, 0, 0) else none) else (bif Nat.beq pc 288 then some (.iaload, 289, 0, 0) else none)) else (bif Nat.beq pc 287 then some (.iadd, 288, 0, 0) else none)) else (bif Nat.ble 284 pc then (bif Nat.ble 286 pc then (bif Nat.beq pc 286 then some (.dload 1, 287, 0, 0) else none) else (bif Nat.beq pc 284 then some (.iload 4, 286, 0, 0) else none)) else (bif Nat.beq pc 283 then some (.aload_n 0, 284, 0, 0) else none))))) else (bif Nat.ble 260 pc then (bif Nat.ble 270 pc then (bif Nat.ble 277 pc then (bif Nat.ble 281 pc then (bif Nat.ble 282 pc then (bif Nat.beq pc 282 then some (.aload_n 1, 283, 0, 0) else none) else (bif Nat.beq pc 281 then some (.ireturn, 282, 0, 0) else none)) else (bif Nat.ble 280 pc then (bif Nat.beq pc 280 then some (.dload 0, 281, 0, 0) else none) else (bif Nat.beq pc 277 then some (.if_icmp .eq 0, 280, 728, 0) else none))) else (bif Nat.ble 273 pc then (bif Nat.ble 274 pc then (bif Nat.beq pc 274 then some (.invokevirtual 58, 277, 74, 0) else none) else (bif Nat.beq pc 273 then some (.aload_n 2, 274, 0, 0) else none)) else (bif Nat.beq pc 270 then some (.invokevirtual 57, 273, 71, 0) else none))) else (bif Nat.ble 265 pc then (bif Nat.ble 266 pc then (bif Nat.ble 269 pc then (bif Nat.beq pc 269 then some (.aload_n 1, 270, 0, 0) else none) else (bif Nat.beq pc 266 then some (.goto 0, 269, 728, 0) else none)) else (bif Nat.beq pc 265 then some (.ireturn, 266, 0, 0) else none)) else (bif Nat.ble 261 pc then (bif Nat.ble 264 pc then (bif Nat.beq pc 264 then some (.dload 0, 265, 0, 0) else none) else (bif Nat.beq pc 261 then some (.ifCond .eq 0, 264, 266, 0) else none)) else (bif Nat.beq pc 260 then some (.lcmp, 261, 0, 0) else none)))) else (bif Nat.ble 249 pc then (bif Nat.ble 255 pc then (bif Nat.ble 257 pc then (bif Nat.ble 259 pc then (bif Nat.beq pc 259 then some (.i2l, 260, 0, 0) else none) else (bif Nat.beq pc 257 then some (.iload 6, 259, 0, 0) else none)) else (bif Nat.ble 256 pc then (bif Nat.beq pc 256 then some (.laload, 257, 0, 0) else none) else (bif Nat.beq pc 255 then some (.dload 0, 256, 0, 0) else none))) else (bif Nat.ble 251 pc then (bif Nat.ble 254 pc then (bif Nat.beq pc 254 then some (.aload_n 3, 255, 0, 0) else none) else (bif Nat.beq pc 251 then some (.ifCond .ne 0, 254, 266, 0) else none)) else (bif Nat.beq pc 249 then some (.iload 5, 251, 0, 0) else none))) else (bif Nat.ble 244 pc then (bif Nat.ble 247 pc then (bif Nat.ble 248 pc then (bif Nat.beq pc 248 then some (.ireturn, 249, 0, 0) else none) else (bif Nat.beq pc 247 then some (.dload 0, 248, 0, 0) else none)) else (bif Nat.beq pc 244 then some (.if_icmp .eq 0, 247, 249, 0) else none)) else (bif Nat.ble 239 pc then (bif Nat.ble 242 pc then (bif Nat.beq pc 242 then some (.iload 5, 244, 0, 0) else none) else (bif Nat.beq pc 239 then some (.invokevirtual 25, 242, 59, 0) else none)) else (bif Nat.beq pc 238 then some (.aload_n 2, 239, 0, 0) else none))))))) else (bif Nat.ble 148 pc then (bif Nat.ble 194 pc then (bif Nat.ble 216 pc then (bif Nat.ble 224 pc then (bif Nat.ble 229 pc then (bif Nat.ble 233 pc then (bif Nat.ble 236 pc then (bif Nat.beq pc 236 then some (.istore 6, 238, 0, 0) else none) else (bif Nat.beq pc 233 then some (.invokevirtual 56, 236, 70, 0) else none)) else (bif Nat.ble 232 pc then (bif Nat.beq pc 232 then some (.dload 0, 233, 0, 0) else none) else (bif Nat.beq pc 229 then some (.goto 0, 232, 233, 0) else none))) else (bif Nat.ble 225 pc then (bif Nat.ble 228 pc then (bif Nat.beq pc 228 then some (.dload 1, 229, 0, 0) else none) else (bif Nat.beq pc 225 then some (.ifCond .eq 0, 228, 232, 0) else none)) else (bif Nat.beq pc 224 then some (.iaload, 225, 0, 0) else none))) else (bif Nat.ble 220 pc then (bif Nat.ble 222 pc then (bif Nat.ble 223 pc then (bif Nat.beq pc 223 then some (.iadd, 224, 0, 0) else none) else (bif Nat.beq pc 222 then some (.dload 1, 223, 0, 0) else none)) else (bif Nat.beq pc 220 then some (.iload 4, 222, 0, 0) else none)) else (bif Nat.ble 218 pc then (bif Nat.ble 219 pc then (bif Nat.beq pc 219 then some (.aload_n 0, 220, 0, 0) else none) else (bif Nat.beq pc 218 then some (.aload_n 2, 219, 0, 0) else none)) else (bif Nat.beq pc 216 then some (.istore 5, 218, 0, 0) else none)))) else (bif Nat.ble 203 pc then (bif Nat.ble 208 pc then (bif Nat.ble 212 pc then (bif Nat.ble 213 pc then (bif Nat.beq pc 213 then some (.invokestatic 50, 216, 67, 0) else none) else (bif Nat.beq pc 212 then some (.aload_n 3, 213, 0, 0) else none)) else (bif Nat.ble 211 pc then (bif Nat.beq pc 211 then some (.dload 0, 212, 0, 0) else none) else (bif Nat.beq pc 208 then some (.goto 0, 211, 212, 0) else none))) else (bif Nat.ble 204 pc then (bif Nat.ble 207 pc then (bif Nat.beq pc 207 then some (.dload 1, 208, 0, 0) else none) else (bif Nat.beq pc 204 then some (.ifCond .eq 0, 207, 211, 0) else none)) else (bif Nat.beq pc 203 then some (.iaload, 204, 0, 0) else none))) else (bif Nat.ble 199 pc then (bif Nat.ble 201 pc then (bif Nat.ble 202 pc then (bif Nat.beq pc 202 then some (.iadd, 203, 0, 0) else none) else (bif Nat.beq pc 201 then some (.dload 1, 202, 0, 0) else none)) else (bif Nat.beq pc 199 then some (.iload 4, 201, 0, 0) else none)) else (bif Nat.ble 197 pc then (bif Nat.ble 198 pc then (bif Nat.beq pc 198 then some (.aload_n 0, 199, 0, 0) else none) else (bif Nat.beq pc 197 then some (.aload_n 1, 198, 0, 0) else none)) else (bif Nat.beq pc 194 then some (.goto 0, 197, 728, 0) else none))))) else (bif Nat.ble 172 pc then (bif Nat.ble 181 pc then (bif Nat.ble 186 pc then (bif Nat.ble 190 pc then (bif Nat.ble 191 pc then (bif Nat.beq pc 191 then some (.invokevirtual 29, 194, 66, 0) else none) else (bif Nat.beq pc 190 then some (.aload_n 2, 191, 0, 0) else none)) else (bif Nat.ble 187 pc then (bif Nat.beq pc 187 then some (.invokevirtual 28, 190, 63, 0) else none) else (bif Nat.beq pc 186 then some (.aload_n 1, 187, 0, 0) else none))) else (bif Nat.ble 182 pc then (bif Nat.ble 183 pc then (bif Nat.beq pc 183 then some (.goto 0, 186, 728, 0) else none) else (bif Nat.beq pc 182 then some (.ireturn, 183, 0, 0) else none)) else (bif Nat.beq pc 181 then some (.dload 0, 182, 0, 0) else none))) else (bif Nat.ble 176 pc then (bif Nat.ble 177 pc then (bif Nat.ble 178 pc then (bif Nat.beq pc 178 then some (.ifCond .eq 0, 181, 183, 0) else none) else (bif Nat.beq pc 177 then some (.lcmp, 178, 0, 0) else none)) else (bif Nat.beq pc 176 then some (.i2l, 177, 0, 0) else none)) else (bif Nat.ble 173 pc then (bif Nat.ble 174 pc then (bif Nat.beq pc 174 then some (.iload 6, 176, 0, 0) else none) else (bif Nat.beq pc 173 then some (.laload, 174, 0, 0) else none)) else (bif Nat.beq pc 172 then some (.dload 0, 173, 0, 0) else none)))) else (bif Nat.ble 159 pc then (bif Nat.ble 165 pc then (bif Nat.ble 168 pc then (bif Nat.ble 171 pc then (bif Nat.beq pc 171 then some (.aload_n 3, 172, 0, 0) else none) else (bif Nat.beq pc 168 then some (.ifCond .ne 0, 171, 183, 0) else none)) else (bif Nat.ble 166 pc then (bif Nat.beq pc 166 then some (.iload 5, 168, 0, 0) else none) else (bif Nat.beq pc 165 then some (.ireturn, 166, 0, 0) else none))) else (bif Nat.ble 161 pc then (bif Nat.ble 164 pc then (bif Nat.beq pc 164 then some (.dload 0, 165, 0, 0) else none) else (bif Nat.beq pc 161 then some (.if_icmp .eq 0, 164, 166, 0) else none)) else (bif Nat.beq pc 159 then some (.iload 5, 161, 0, 0) else none))) else (bif Nat.ble 153 pc then (bif Nat.ble 155 pc then (bif Nat.ble 156 pc then (bif Nat.beq pc 156 then some (.invokevirtual 25, 159, 59, 0) else none) else (bif Nat.beq pc 155 then some (.aload_n 2, 156, 0, 0) else none)) else (bif Nat.beq pc 153 then some (.istore 6, 155, 0, 0) else none)) else (bif Nat.ble 149 pc then (bif Nat.ble 150 pc then (bif Nat.beq pc 150 then some (.invokevirtual 24, 153, 58, 0) else none) else (bif Nat.beq pc 149 then some (.i2c, 150, 0, 0) else none)) else (bif Nat.beq pc 148 then some (.iaload, 149, 0, 0) else none)))))) else (bif Nat.ble 45 pc then (bif Nat.ble 130 pc then (bif Nat.ble 137 pc then (bif Nat.ble 143 pc then (bif Nat.ble 146 pc then (bif Nat.ble 147 pc then (bif Nat.beq pc 147 then some (.iadd, 148, 0, 0) else none) else (bif Nat.beq pc 146 then some (.dload 1, 147, 0, 0) else none)) else (bif Nat.ble 144 pc then (bif Nat.beq pc 144 then some (.iload 4, 146, 0, 0) else none) else (bif Nat.beq pc 143 then some (.aload_n 0, 144, 0, 0) else none))) else (bif Nat.ble 140 pc then (bif Nat.ble 142 pc then (bif Nat.beq pc 142 then some (.aload_n 2, 143, 0, 0) else none) else (bif Nat.beq pc 140 then some (.istore 5, 142, 0, 0) else none)) else (bif Nat.beq pc 137 then some (.invokestatic 23, 140, 55, 0) else none))) else (bif Nat.ble 134 pc then (bif Nat.ble 135 pc then (bif Nat.ble 136 pc then (bif Nat.beq pc 136 then some (.aload_n 3, 137, 0, 0) else none) else (bif Nat.beq pc 135 then some (.i2c, 136, 0, 0) else none)) else (bif Nat.beq pc 134 then some (.iaload, 135, 0, 0) else none)) else (bif Nat.ble 132 pc then (bif Nat.ble 133 pc then (bif Nat.beq pc 133 then some (.iadd, 134, 0, 0) else none) else (bif Nat.beq pc 132 then some (.dload 1, 133, 0, 0) else none)) else (bif Nat.beq pc 130 then some (.iload 4, 132, 0, 0) else none)))) else (bif Nat.ble 53 pc then (bif Nat.ble 58 pc then (bif Nat.ble 128 pc then (bif Nat.ble 129 pc then (bif Nat.beq pc 129 then some (.aload_n 0, 130, 0, 0) else none) else (bif Nat.beq pc 128 then some (.aload_n 1, 129, 0, 0) else none)) else (bif Nat.ble 59 pc then (bif Nat.beq pc 59 then some (.tableswitch 728 0 13 #[128, 186, 197, 269, 282, 338, 394, 462, 518, 543, 556, 636, 692, 717], 128, 0, 0) else none) else (bif Nat.beq pc 58 then some (.iand, 59, 0, 0) else none))) else (bif Nat.ble 55 pc then (bif Nat.ble 56 pc then (bif Nat.beq pc 56 then some (.dload 15, 58, 0, 0) else none) else (bif Nat.beq pc 55 then some (.iaload, 56, 0, 0) else none)) else (bif Nat.beq pc 53 then some (.iload 4, 55, 0, 0) else none))) else (bif Nat.ble 48 pc then (bif Nat.ble 49 pc then (bif Nat.ble 52 pc then (bif Nat.beq pc 52 then some (.aload_n 0, 53, 0, 0) else none) else (bif Nat.beq pc 49 then some (.if_icmp .gt 0, 52, 734, 0) else none)) else (bif Nat.beq pc 48 then some (.isub, 49, 0, 0) else none)) else (bif Nat.ble 46 pc then (bif Nat.ble 47 pc then (bif Nat.beq pc 47 then some (.dload 4, 48, 0, 0) else none) else (bif Nat.beq pc 46 then some (.arraylength, 47, 0, 0) else none)) else (bif Nat.beq pc 45 then some (.aload_n 0, 46, 0, 0) else none))))) else (bif Nat.ble 23 pc then (bif Nat.ble 35 pc then (bif Nat.ble 39 pc then (bif Nat.ble 41 pc then (bif Nat.ble 43 pc then (bif Nat.beq pc 43 then some (.iload 4, 45, 0, 0) else none) else (bif Nat.beq pc 41 then some (.istore 4, 43, 0, 0) else none)) else (bif Nat.ble 40 pc then (bif Nat.beq pc 40 then some (.dload 2, 41, 0, 0) else none) else (bif Nat.beq pc 39 then some (.astore_n 3, 40, 0, 0) else none))) else (bif Nat.ble 36 pc then (bif Nat.ble 37 pc then (bif Nat.beq pc 37 then some (.newarray .long, 39, 0, 0) else none) else (bif Nat.beq pc 36 then some (.dload 1, 37, 0, 0) else none)) else (bif Nat.beq pc 35 then some (.astore_n 2, 36, 0, 0) else none))) else (bif Nat.ble 28 pc then (bif Nat.ble 29 pc then (bif Nat.ble 32 pc then (bif Nat.beq pc 32 then some (.invokespecial 11, 35, 54, 0) else none) else (bif Nat.beq pc 29 then some (.invokestatic 0, 32, 44, 0) else none)) else (bif Nat.beq pc 28 then some (.dload 1, 29, 0, 0) else none)) else (bif Nat.ble 24 pc then (bif Nat.ble 27 pc then (bif Nat.beq pc 27 then some (.aload_n 0, 28, 0, 0) else none) else (bif Nat.beq pc 24 then some (.invokestatic 0, 27, 44, 0) else none)) else (bif Nat.beq pc 23 then some (.dload 0, 24, 0, 0) else none)))) else (bif Nat.ble 10 pc then (bif Nat.ble 17 pc then (bif Nat.ble 21 pc then (bif Nat.ble 22 pc then (bif Nat.beq pc 22 then some (.aload_n 0, 23, 0, 0) else none) else (bif Nat.beq pc 21 then some (.dup, 22, 0, 0) else none)) else (bif Nat.ble 18 pc then (bif Nat.beq pc 18 then some (.new 7, 21, 52, 0) else none) else (bif Nat.beq pc 17 then some (.astore_n 1, 18, 0, 0) else none))) else (bif Nat.ble 11 pc then (bif Nat.ble 14 pc then (bif Nat.beq pc 14 then some (.invokespecial 10, 17, 49, 0) else none) else (bif Nat.beq pc 11 then some (.invokestatic 0, 14, 44, 0) else none)) else (bif Nat.beq pc 10 then some (.dload 1, 11, 0, 0) else none))) else (bif Nat.ble 5 pc then (bif Nat.ble 6 pc then (bif Nat.ble 9 pc then (bif Nat.beq pc 9 then some (.aload_n 0, 10, 0, 0) else none) else (bif Nat.beq pc 6 then some (.invokestatic 0, 9, 44, 0) else none)) else (bif Nat.beq pc 5 then some (.dload 0, 6, 0, 0) else none)) else (bif Nat.ble 3 pc then (bif Nat.ble 4 pc then (bif Nat.beq pc 4 then some (.aload_n 0, 5, 0, 0) else none) else (bif Nat.beq pc 3 then some (.dup, 4, 0, 0) else none)) else (bif Nat.beq pc 0 then some (.new 0, 3, 8, 0) else none))))))))
def mj_NM : Nat := 169
def mj_sz (y : Nat) : Nat := bif Nat.ble 169 y then 0 else (bif Nat.ble 84 y then (bif Nat.ble 126 y then (bif Nat.ble 147 y then (bif Nat.ble 158 y then (bif Nat.ble 163 y then (bif Nat.ble 166 y then (bif Nat.ble 167 y then (bif Nat.ble 168 y then (736) else (11)) else (11)) else (bif Nat.ble 164 y then (bif Nat.ble 165 y then (63) else (64)) else (39))) else (bif Nat.ble 160 y then (bif Nat.ble 161 y then (bif Nat.ble 162 y then (17) else (40)) else (83)) else (bif Nat.ble 159 y then (47) else (21)))) else (bif Nat.ble 152 y then (bif Nat.ble 155 y then (bif Nat.ble 156 y then (bif Nat.ble 157 y then (177) else (37)) else (16)) else (bif Nat.ble 153 y then (bif Nat.ble 154 y then (222) else (260)) else (26))) else (bif Nat.ble 149 y then (bif Nat.ble 150 y then (bif Nat.ble 151 y then (161) else (27)) else (35)) else (bif Nat.ble 148 y then (92) else (224))))) else (bif Nat.ble 136 y then (bif Nat.ble 141 y then (bif Nat.ble 144 y then (bif Nat.ble 145 y then (bif Nat.ble 146 y then (185) else (45)) else (15)) else (bif Nat.ble 142 y then (bif Nat.ble 143 y then (7) else (7)) else (25))) else (bif Nat.ble 138 y then (bif Nat.ble 139 y then (bif Nat.ble 140 y then (23) else (11)) else (60)) else (bif Nat.ble 137 y then (10) else (40)))) else (bif Nat.ble 131 y then (bif Nat.ble 133 y then (bif Nat.ble 134 y then (bif Nat.ble 135 y then (5) else (32)) else (27)) else (bif Nat.ble 132 y then (29) else (29))) else (bif Nat.ble 128 y then (bif Nat.ble 129 y then (bif Nat.ble 130 y then (115) else (196)) else (181)) else (bif Nat.ble 127 y then (63) else (97)))))) else (bif Nat.ble 105 y then (bif Nat.ble 115 y then (bif Nat.ble 120 y then (bif Nat.ble 123 y then (bif Nat.ble 124 y then (bif Nat.ble 125 y then (27) else (78)) else (17)) else (bif Nat.ble 121 y then (bif Nat.ble 122 y then (83) else (308)) else (29))) else (bif Nat.ble 117 y then (bif Nat.ble 118 y then (bif Nat.ble 119 y then (193) else (39)) else (76)) else (bif Nat.ble 116 y then (27) else (27)))) else (bif Nat.ble 110 y then (bif Nat.ble 112 y then (bif Nat.ble 113 y then (bif Nat.ble 114 y then (83) else (19)) else (43)) else (bif Nat.ble 111 y then (35) else (18))) else (bif Nat.ble 107 y then (bif Nat.ble 108 y then (bif Nat.ble 109 y then (17) else (9)) else (27)) else (bif Nat.ble 106 y then (167) else (204))))) else (bif Nat.ble 94 y then (bif Nat.ble 99 y then (bif Nat.ble 102 y then (bif Nat.ble 103 y then (bif Nat.ble 104 y then (21) else (304)) else (201)) else (bif Nat.ble 100 y then (bif Nat.ble 101 y then (125) else (18)) else (98))) else (bif Nat.ble 96 y then (bif Nat.ble 97 y then (bif Nat.ble 98 y then (62) else (100)) else (18)) else (bif Nat.ble 95 y then (22) else (18)))) else (bif Nat.ble 89 y then (bif Nat.ble 91 y then (bif Nat.ble 92 y then (bif Nat.ble 93 y then (20) else (114)) else (196)) else (bif Nat.ble 90 y then (47) else (211))) else (bif Nat.ble 86 y then (bif Nat.ble 87 y then (bif Nat.ble 88 y then (54) else (216)) else (17)) else (bif Nat.ble 85 y then (126) else (19))))))) else (bif Nat.ble 42 y then (bif Nat.ble 63 y then (bif Nat.ble 73 y then (bif Nat.ble 78 y then (bif Nat.ble 81 y then (bif Nat.ble 82 y then (bif Nat.ble 83 y then (64) else (18)) else (58)) else (bif Nat.ble 79 y then (bif Nat.ble 80 y then (24) else (15)) else (11))) else (bif Nat.ble 75 y then (bif Nat.ble 76 y then (bif Nat.ble 77 y then (24) else (26)) else (65)) else (bif Nat.ble 74 y then (18) else (20)))) else (bif Nat.ble 68 y then (bif Nat.ble 70 y then (bif Nat.ble 71 y then (bif Nat.ble 72 y then (18) else (25)) else (15)) else (bif Nat.ble 69 y then (9) else (7))) else (bif Nat.ble 65 y then (bif Nat.ble 66 y then (bif Nat.ble 67 y then (98) else (25)) else (33)) else (bif Nat.ble 64 y then (38) else (8))))) else (bif Nat.ble 52 y then (bif Nat.ble 57 y then (bif Nat.ble 60 y then (bif Nat.ble 61 y then (bif Nat.ble 62 y then (55) else (121)) else (47)) else (bif Nat.ble 58 y then (bif Nat.ble 59 y then (5) else (10)) else (5))) else (bif Nat.ble 54 y then (bif Nat.ble 55 y then (bif Nat.ble 56 y then (140) else (195)) else (125)) else (bif Nat.ble 53 y then (141) else (18)))) else (bif Nat.ble 47 y then (bif Nat.ble 49 y then (bif Nat.ble 50 y then (bif Nat.ble 51 y then (52) else (17)) else (139)) else (bif Nat.ble 48 y then (11) else (342))) else (bif Nat.ble 44 y then (bif Nat.ble 45 y then (bif Nat.ble 46 y then (71) else (108)) else (18)) else (bif Nat.ble 43 y then (7) else (37)))))) else (bif Nat.ble 21 y then (bif Nat.ble 31 y then (bif Nat.ble 36 y then (bif Nat.ble 39 y then (bif Nat.ble 40 y then (bif Nat.ble 41 y then (37) else (33)) else (17)) else (bif Nat.ble 37 y then (bif Nat.ble 38 y then (11) else (15)) else (19))) else (bif Nat.ble 33 y then (bif Nat.ble 34 y then (bif Nat.ble 35 y then (20) else (13)) else (6)) else (bif Nat.ble 32 y then (48) else (10)))) else (bif Nat.ble 26 y then (bif Nat.ble 28 y then (bif Nat.ble 29 y then (bif Nat.ble 30 y then (18) else (11)) else (9)) else (bif Nat.ble 27 y then (6) else (82))) else (bif Nat.ble 23 y then (bif Nat.ble 24 y then (bif Nat.ble 25 y then (5) else (68)) else (20)) else (bif Nat.ble 22 y then (57) else (8))))) else (bif Nat.ble 10 y then (bif Nat.ble 15 y then (bif Nat.ble 18 y then (bif Nat.ble 19 y then (bif Nat.ble 20 y then (77) else (13)) else (19)) else (bif Nat.ble 16 y then (bif Nat.ble 17 y then (39) else (33)) else (59))) else (bif Nat.ble 12 y then (bif Nat.ble 13 y then (bif Nat.ble 14 y then (27) else (5)) else (5)) else (bif Nat.ble 11 y then (178) else (108)))) else (bif Nat.ble 5 y then (bif Nat.ble 7 y then (bif Nat.ble 8 y then (bif Nat.ble 9 y then (11) else (11)) else (13)) else (bif Nat.ble 6 y then (12) else (10))) else (bif Nat.ble 2 y then (bif Nat.ble 3 y then (bif Nat.ble 4 y then (5) else (7)) else (39)) else (bif Nat.ble 1 y then (10) else (14))))))))
/-- instruction, where the next one stands, pool entry or target -/
def mj_ins (y pc : Nat) : Option (Instr × Nat × Nat × Nat) := bif Nat.ble (mj_sz y) pc then none else bif Nat.ble 84 y then (bif Nat.ble 126 y then (bif Nat.ble 147 y then (bif Nat.ble 158 y then (bif Nat.ble 163 y then (bif Nat.ble 166 y then (bif Nat.ble 167 y then (bif Nat.ble 168 y then (bif Nat.beq y 168 then mc_168 pc else none) else (bif Nat.beq y 167 then mc_167 pc else none)) else (bif Nat.beq y 166 then mc_166 pc else none)) else (bif Nat.ble 164 y then (bif Nat.ble 165 y then (bif Nat.beq y 165 then mc_165 pc else none) else (bif Nat.beq y 164 then mc_164 pc else none)) else (bif Nat.beq y 163 then mc_163 pc else none))) else (bif Nat.ble 160 y then (bif Nat.ble 161 y then (bif Nat.ble 162 y then (bif Nat.beq y 162 then mc_162 pc else none) else (bif Nat.beq y 161 then mc_161 pc else none)) else (bif Nat.beq y 160 then mc_160 pc else none)) else (bif Nat.ble 159 y then (bif Nat.beq y 159 then mc_159 pc else none) else (bif Nat.beq y 158 then mc_158 pc else none)))) else (bif Nat.ble 152 y then (bif Nat.ble 155 y then (bif Nat.ble 156 y then (bif Nat.ble 157 y then (bif Nat.beq y 157 then mc_157 pc else none) else (bif Nat.beq y 156 then mc_156 pc else none)) else (bif Nat.beq y 155 then mc_155 pc else none)) else (bif Nat.ble 153 y then (bif Nat.ble 154 y then (bif Nat.beq y 154 then mc_154 pc else none) else (bif Nat.beq y 153 then mc_153 pc else none)) else (bif Nat.beq y 152 then mc_152 pc else none))) else (bif Nat.ble 149 y then (bif Nat.ble 150 y then (bif Nat.ble 151 y then (bif Nat.beq y 151 then mc_151 pc else none) else (bif Nat.beq y 150 then mc_150 pc else none)) else (bif Nat.beq y 149 then mc_149 pc else none)) else (bif Nat.ble 148 y then (bif Nat.beq y 148 then mc_148 pc else none) else (bif Nat.beq y 147 then mc_147 pc else none))))) else (bif Nat.ble 136 y then (bif Nat.ble 141 y then (bif Nat.ble 144 y then (bif Nat.ble 145 y then (bif Nat.ble 146 y then (bif Nat.beq y 146 then mc_146 pc else none) else (bif Nat.beq y 145 then mc_145 pc else none)) else (bif Nat.beq y 144 then mc_144 pc else none)) else (bif Nat.ble 142 y then (bif Nat.ble 143 y then (bif Nat.beq y 143 then mc_143 pc else none) else (bif Nat.beq y 142 then mc_142 pc else none)) else (bif Nat.beq y 141 then mc_141 pc else none))) else (bif Nat.ble 138 y then (bif Nat.ble 139 y then (bif Nat.ble 140 y then (bif Nat.beq y 140 then mc_140 pc else none) else (bif Nat.beq y 139 then mc_139 pc else none)) else (bif Nat.beq y 138 then mc_138 pc else none)) else (bif Nat.ble 137 y then (bif Nat.beq y 137 then mc_137 pc else none) else (bif Nat.beq y 136 then mc_136 pc else none)))) else (bif Nat.ble 131 y then (bif Nat.ble 133 y then (bif Nat.ble 134 y then (bif Nat.ble 135 y then (bif Nat.beq y 135 then mc_135 pc else none) else (bif Nat.beq y 134 then mc_134 pc else none)) else (bif Nat.beq y 133 then mc_133 pc else none)) else (bif Nat.ble 132 y then (bif Nat.beq y 132 then mc_132 pc else none) else (bif Nat.beq y 131 then mc_131 pc else none))) else (bif Nat.ble 128 y then (bif Nat.ble 129 y then (bif Nat.ble 130 y then (bif Nat.beq y 130 then mc_130 pc else none) else (bif Nat.beq y 129 then mc_129 pc else none)) else (bif Nat.beq y 128 then mc_128 pc else none)) else (bif Nat.ble 127 y then (bif Nat.beq y 127 then mc_127 pc else none) else (bif Nat.beq y 126 then mc_126 pc else none)))))) else (bif Nat.ble 105 y then (bif Nat.ble 115 y then (bif Nat.ble 120 y then (bif Nat.ble 123 y then (bif Nat.ble 124 y then (bif Nat.ble 125 y then (bif Nat.beq y 125 then mc_125 pc else none) else (bif Nat.beq y 124 then mc_124 pc else none)) else (bif Nat.beq y 123 then mc_123 pc else none)) else (bif Nat.ble 121 y then (bif Nat.ble 122 y then (bif Nat.beq y 122 then mc_122 pc else none) else (bif Nat.beq y 121 then mc_121 pc else none)) else (bif Nat.beq y 120 then mc_120 pc else none))) else (bif Nat.ble 117 y then (bif Nat.ble 118 y then (bif Nat.ble 119 y then (bif Nat.beq y 119 then mc_119 pc else none) else (bif Nat.beq y 118 then mc_118 pc else none)) else (bif Nat.beq y 117 then mc_117 pc else none)) else (bif Nat.ble 116 y then (bif Nat.beq y 116 then mc_116 pc else none) else (bif Nat.beq y 115 then mc_115 pc else none)))) else (bif Nat.ble 110 y then (bif Nat.ble 112 y then (bif Nat.ble 113 y then (bif Nat.ble 114 y then (bif Nat.beq y 114 then mc_114 pc else none) else (bif Nat.beq y 113 then mc_113 pc else none)) else (bif Nat.beq y 112 then mc_112 pc else none)) else (bif Nat.ble 111 y then (bif Nat.beq y 111 then mc_111 pc else none) else (bif Nat.beq y 110 then mc_110 pc else none))) else (bif Nat.ble 107 y then (bif Nat.ble 108 y then (bif Nat.ble 109 y then (bif Nat.beq y 109 then mc_109 pc else none) else (bif Nat.beq y 108 then mc_108 pc else none)) else (bif Nat.beq y 107 then mc_107 pc else none)) else (bif Nat.ble 106 y then (bif Nat.beq y 106 then mc_106 pc else none) else (bif Nat.beq y 105 then mc_105 pc else none))))) else (bif Nat.ble 94 y then (bif Nat.ble 99 y then (bif Nat.ble 102 y then (bif Nat.ble 103 y then (bif Nat.ble 104 y then (bif Nat.beq y 104 then mc_104 pc else none) else (bif Nat.beq y 103 then mc_103 pc else none)) else (bif Nat.beq y 102 then mc_102 pc else none)) else (bif Nat.ble 100 y then (bif Nat.ble 101 y then (bif Nat.beq y 101 then mc_101 pc else none) else (bif Nat.beq y 100 then mc_100 pc else none)) else (bif Nat.beq y 99 then mc_99 pc else none))) else (bif Nat.ble 96 y then (bif Nat.ble 97 y then (bif Nat.ble 98 y then (bif Nat.beq y 98 then mc_98 pc else none) else (bif Nat.beq y 97 then mc_97 pc else none)) else (bif Nat.beq y 96 then mc_96 pc else none)) else (bif Nat.ble 95 y then (bif Nat.beq y 95 then mc_95 pc else none) else (bif Nat.beq y 94 then mc_94 pc else none)))) else (bif Nat.ble 89 y then (bif Nat.ble 91 y then (bif Nat.ble 92 y then (bif Nat.ble 93 y then (bif Nat.beq y 93 then mc_93 pc else none) else (bif Nat.beq y 92 then mc_92 pc else none)) else (bif Nat.beq y 91 then mc_91 pc else none)) else (bif Nat.ble 90 y then (bif Nat.beq y 90 then mc_90 pc else none) else (bif Nat.beq y 89 then mc_89 pc else none))) else (bif Nat.ble 86 y then (bif Nat.ble 87 y then (bif Nat.ble 88 y then (bif Nat.beq y 88 then mc_88 pc else none) else (bif Nat.beq y 87 then mc_87 pc else none)) else (bif Nat.beq y 86 then mc_86 pc else none)) else (bif Nat.ble 85 y then (bif Nat.beq y 85 then mc_85 pc else none) else (bif Nat.beq y 84 then mc_84 pc else none))))))) else (bif Nat.ble 42 y then (bif Nat.ble 63 y then (bif Nat.ble 73 y then (bif Nat.ble 78 y then (bif Nat.ble 81 y then (bif Nat.ble 82 y then (bif Nat.ble 83 y then (bif Nat.beq y 83 then mc_83 pc else none) else (bif Nat.beq y 82 then mc_82 pc else none)) else (bif Nat.beq y 81 then mc_81 pc else none)) else (bif Nat.ble 79 y then (bif Nat.ble 80 y then (bif Nat.beq y 80 then mc_80 pc else none) else (bif Nat.beq y 79 then mc_79 pc else none)) else (bif Nat.beq y 78 then mc_78 pc else none))) else (bif Nat.ble 75 y then (bif Nat.ble 76 y then (bif Nat.ble 77 y then (bif Nat.beq y 77 then mc_77 pc else none) else (bif Nat.beq y 76 then mc_76 pc else none)) else (bif Nat.beq y 75 then mc_75 pc else none)) else (bif Nat.ble 74 y then (bif Nat.beq y 74 then mc_74 pc else none) else (bif Nat.beq y 73 then mc_73 pc else none)))) else (bif Nat.ble 68 y then (bif Nat.ble 70 y then (bif Nat.ble 71 y then (bif Nat.ble 72 y then (bif Nat.beq y 72 then mc_72 pc else none) else (bif Nat.beq y 71 then mc_71 pc else none)) else (bif Nat.beq y 70 then mc_70 pc else none)) else (bif Nat.ble 69 y then (bif Nat.beq y 69 then mc_69 pc else none) else (bif Nat.beq y 68 then mc_68 pc else none))) else (bif Nat.ble 65 y then (bif Nat.ble 66 y then (bif Nat.ble 67 y then (bif Nat.beq y 67 then mc_67 pc else none) else (bif Nat.beq y 66 then mc_66 pc else none)) else (bif Nat.beq y 65 then mc_65 pc else none)) else (bif Nat.ble 64 y then (bif Nat.beq y 64 then mc_64 pc else none) else (bif Nat.beq y 63 then mc_63 pc else none))))) else (bif Nat.ble 52 y then (bif Nat.ble 57 y then (bif Nat.ble 60 y then (bif Nat.ble 61 y then (bif Nat.ble 62 y then (bif Nat.beq y 62 then mc_62 pc else none) else (bif Nat.beq y 61 then mc_61 pc else none)) else (bif Nat.beq y 60 then mc_60 pc else none)) else (bif Nat.ble 58 y then (bif Nat.ble 59 y then (bif Nat.beq y 59 then mc_59 pc else none) else (bif Nat.beq y 58 then mc_58 pc else none)) else (bif Nat.beq y 57 then mc_57 pc else none))) else (bif Nat.ble 54 y then (bif Nat.ble 55 y then (bif Nat.ble 56 y then (bif Nat.beq y 56 then mc_56 pc else none) else (bif Nat.beq y 55 then mc_55 pc else none)) else (bif Nat.beq y 54 then mc_54 pc else none)) else (bif Nat.ble 53 y then (bif Nat.beq y 53 then mc_53 pc else none) else (bif Nat.beq y 52 then mc_52 pc else none)))) else (bif Nat.ble 47 y then (bif Nat.ble 49 y then (bif Nat.ble 50 y then (bif Nat.ble 51 y then (bif Nat.beq y 51 then mc_51 pc else none) else (bif Nat.beq y 50 then mc_50 pc else none)) else (bif Nat.beq y 49 then mc_49 pc else none)) else (bif Nat.ble 48 y then (bif Nat.beq y 48 then mc_48 pc else none) else (bif Nat.beq y 47 then mc_47 pc else none))) else (bif Nat.ble 44 y then (bif Nat.ble 45 y then (bif Nat.ble 46 y then (bif Nat.beq y 46 then mc_46 pc else none) else (bif Nat.beq y 45 then mc_45 pc else none)) else (bif Nat.beq y 44 then mc_44 pc else none)) else (bif Nat.ble 43 y then (bif Nat.beq y 43 then mc_43 pc else none) else (bif Nat.beq y 42 then mc_42 pc else none)))))) else (bif Nat.ble 21 y then (bif Nat.ble 31 y then (bif Nat.ble 36 y then (bif Nat.ble 39 y then (bif Nat.ble 40 y then (bif Nat.ble 41 y then (bif Nat.beq y 41 then mc_41 pc else none) else (bif Nat.beq y 40 then mc_40 pc else none)) else (bif Nat.beq y 39 then mc_39 pc else none)) else (bif Nat.ble 37 y then (bif Nat.ble 38 y then (bif Nat.beq y 38 then mc_38 pc else none) else (bif Nat.beq y 37 then mc_37 pc else none)) else (bif Nat.beq y 36 then mc_36 pc else none))) else (bif Nat.ble 33 y then (bif Nat.ble 34 y then (bif Nat.ble 35 y then (bif Nat.beq y 35 then mc_35 pc else none) else (bif Nat.beq y 34 then mc_34 pc else none)) else (bif Nat.beq y 33 then mc_33 pc else none)) else (bif Nat.ble 32 y then (bif Nat.beq y 32 then mc_32 pc else none) else (bif Nat.beq y 31 then mc_31 pc else none)))) else (bif Nat.ble 26 y then (bif Nat.ble 28 y then (bif Nat.ble 29 y then (bif Nat.ble 30 y then (bif Nat.beq y 30 then mc_30 pc else none) else (bif Nat.beq y 29 then mc_29 pc else none)) else (bif Nat.beq y 28 then mc_28 pc else none)) else (bif Nat.ble 27 y then (bif Nat.beq y 27 then mc_27 pc else none) else (bif Nat.beq y 26 then mc_26 pc else none))) else (bif Nat.ble 23 y then (bif Nat.ble 24 y then (bif Nat.ble 25 y then (bif Nat.beq y 25 then mc_25 pc else none) else (bif Nat.beq y 24 then mc_24 pc else none)) else (bif Nat.beq y 23 then mc_23 pc else none)) else (bif Nat.ble 22 y then (bif Nat.beq y 22 then mc_22 pc else none) else (bif Nat.beq y 21 then mc_21 pc else none))))) else (bif Nat.ble 10 y then (bif Nat.ble 15 y then (bif Nat.ble 18 y then (bif Nat.ble 19 y then (bif Nat.ble 20 y then (bif Nat.beq y 20 then mc_20 pc else none) else (bif Nat.beq y 19 then mc_19 pc else none)) else (bif Nat.beq y 18 then mc_18 pc else none)) else (bif Nat.ble 16 y then (bif Nat.ble 17 y then (bif Nat.beq y 17 then mc_17 pc else none) else (bif Nat.beq y 16 then mc_16 pc else none)) else (bif Nat.beq y 15 then mc_15 pc else none))) else (bif Nat.ble 12 y then (bif Nat.ble 13 y then (bif Nat.ble 14 y then (bif Nat.beq y 14 then mc_14 pc else none) else (bif Nat.beq y 13 then mc_13 pc else none)) else (bif Nat.beq y 12 then mc_12 pc else none)) else (bif Nat.ble 11 y then (bif Nat.beq y 11 then mc_11 pc else none) else (bif Nat.beq y 10 then mc_10 pc else none)))) else (bif Nat.ble 5 y then (bif Nat.ble 7 y then (bif Nat.ble 8 y then (bif Nat.ble 9 y then (bif Nat.beq y 9 then mc_9 pc else none) else (bif Nat.beq y 8 then mc_8 pc else none)) else (bif Nat.beq y 7 then mc_7 pc else none)) else (bif Nat.ble 6 y then (bif Nat.beq y 6 then mc_6 pc else none) else (bif Nat.beq y 5 then mc_5 pc else none))) else (bif Nat.ble 2 y then (bif Nat.ble 3 y then (bif Nat.ble 4 y then (bif Nat.beq y 4 then mc_4 pc else none) else (bif Nat.beq y 3 then mc_3 pc else none)) else (bif Nat.beq y 2 then mc_2 pc else none)) else (bif Nat.ble 1 y then (bif Nat.beq y 1 then mc_1 pc else none) else (bif Nat.beq y 0 then mc_0 pc else none)))))))
def mj_na (y : Nat) : Nat := ([2, 0, 2, 1, 1, 1, 1, 1, 2, 2, 3, 3, 1, 1, 3, 2, 2, 2, 1, 1, 2, 2, 2, 3, 2, 1, 2, 2, 1, 1, 3, 2, 2, 2, 1, 1, 1, 1, 1, 1, 4, 4, 3, 2, 1, 4, 2, 3, 3, 2, 3, 2, 2, 3, 1, 3, 2, 1, 1, 1, 1, 3, 2, 2, 2, 3, 3, 3, 2, 1, 2, 2, 1, 1, 1, 1, 2, 4, 3, 3, 3, 3, 1, 3, 3, 4, 1, 4, 1, 4, 4, 3, 2, 3, 2, 2, 2, 2, 3, 6, 2, 6, 2, 3, 2, 1, 2, 2, 2, 3, 2, 2, 3, 4, 3, 2, 2, 1, 1, 5, 3, 4, 2, 3, 2, 2, 5, 2, 4, 3, 2, 2, 2, 2, 2, 1, 3, 2, 2, 1, 4, 2, 2, 2, 2, 2, 3, 3, 1, 1, 3, 3, 4, 3, 3, 1, 2, 4, 5, 2, 4, 2, 3, 2, 2, 2, 1, 1, 1] : List Nat).getD y 0
def mj_ml (y : Nat) : Nat := ([2, 0, 2, 1, 1, 1, 1, 1, 2, 2, 3, 3, 1, 1, 4, 6, 3, 3, 1, 1, 2, 2, 2, 4, 2, 1, 2, 2, 1, 1, 3, 2, 5, 2, 1, 1, 1, 1, 1, 1, 6, 4, 3, 2, 1, 7, 4, 6, 4, 7, 4, 2, 2, 8, 4, 5, 7, 1, 1, 1, 4, 7, 4, 2, 2, 5, 3, 5, 2, 1, 2, 2, 1, 1, 1, 4, 2, 4, 3, 3, 3, 5, 2, 3, 3, 6, 1, 10, 1, 8, 5, 6, 4, 4, 2, 2, 2, 2, 3, 8, 2, 10, 2, 8, 2, 4, 5, 2, 2, 4, 2, 2, 4, 5, 3, 3, 3, 3, 2, 10, 3, 13, 6, 4, 3, 3, 8, 3, 7, 7, 5, 2, 2, 2, 2, 1, 4, 2, 4, 1, 4, 2, 2, 2, 2, 3, 10, 7, 2, 1, 3, 5, 4, 9, 6, 1, 2, 6, 6, 4, 4, 3, 4, 2, 4, 4, 1, 1, 7] : List Nat).getD y 0
/-- the tag of the receiver (99: static) -/
def mj_rg (y : Nat) : Nat := ([99, 99, 1, 1, 3, 3, 3, 4, 99, 99, 0, 7, 1, 1, 99, 1, 99, 1, 1, 99, 1, 1, 0, 99, 7, 7, 1, 1, 0, 7, 99, 99, 1, 1, 99, 5, 2, 2, 2, 99, 99, 99, 2, 2, 99, 0, 5, 0, 0, 0, 99, 7, 7, 7, 7, 7, 7, 0, 7, 1, 99, 99, 1, 1, 99, 99, 99, 2, 2, 1, 99, 2, 99, 99, 99, 99, 6, 99, 99, 2, 99, 2, 99, 6, 4, 5, 99, 0, 99, 0, 0, 0, 0, 99, 7, 7, 7, 7, 7, 7, 7, 7, 7, 7, 7, 7, 7, 0, 0, 99, 7, 7, 0, 99, 7, 6, 6, 99, 99, 0, 0, 0, 0, 99, 7, 7, 7, 7, 7, 7, 7, 0, 7, 0, 11, 3, 99, 99, 3, 3, 3, 3, 99, 3, 3, 0, 0, 0, 0, 0, 7, 7, 7, 7, 7, 7, 4, 0, 99, 7, 7, 0, 99, 7, 0, 7, 0, 7, 99] : List Nat).getD y 99
def mj_rt (y : Nat) : Option FieldType := ([(some .int), (some ((.array (.object "DotBook$Kind")))), none, none, none, none, none, none, (some .int), (some .int), none, none, (some .int), (some .int), (some .int), (some .int), (some ((.array .byte))), none, (some .boolean), (some .boolean), (some ((.object "java/lang/AbstractStringBuilder"))), (some ((.object "java/lang/StringBuilder"))), (some .int), (some .int), (some .int), (some .int), none, none, none, none, (some .int), none, (some .char), (some .char), none, none, (some .boolean), (some .byte), (some .int), (some .boolean), (some .int), (some .int), (some .int), (some .int), (some .boolean), (some .int), (some .boolean), none, (some .boolean), (some .int), (some .int), (some .int), (some .boolean), (some .boolean), (some .boolean), (some .boolean), (some .int), (some .int), (some .int), (some ((.array .byte))), (some .int), (some .int), (some ((.object "java/lang/AbstractStringBuilder"))), (some ((.object "java/lang/StringBuilder"))), none, (some ((.array .byte))), (some ((.array .byte))), none, none, (some ((.object "java/lang/String"))), (some .char), (some .char), (some .boolean), (some .boolean), (some .boolean), (some .boolean), none, (some .int), none, none, (some ((.object "java/lang/String"))), (some ((.object "java/lang/String"))), (some ((.array .byte))), none, none, (some .boolean), (some .char), (some ((.object "DotBook$Rule"))), (some .int), none, none, none, (some .int), (some .int), (some .boolean), (some .boolean), (some .boolean), (some .int), none, (some .boolean), (some .char), (some .boolean), (some .int), none, (some .int), none, (some .int), (some ((.object "DotBook$Block"))), (some .int), (some .int), (some .boolean), (some .int), (some .int), (some .int), (some .int), (some .int), (some .int), (some .char), (some .char), (some ((.object "DotBook$Rule"))), none, none, (some .int), (some .int), none, (some .int), (some .boolean), (some .char), (some .int), none, (some .int), (some .char), (some .char), none, (some .int), (some .int), (some ((.array (.object "java/lang/Object")))), (some ((.array (.object "java/lang/Object")))), (some ((.array (.object "java/lang/Object")))), (some ((.array (.object "java/lang/Object")))), none, (some .boolean), (some .int), (some ((.object "java/lang/Object"))), (some ((.object "java/lang/Object"))), (some ((.object "DotBook$Line"))), (some .int), none, none, (some .int), (some .int), none, none, (some .int), none, (some .int), (some .int), (some .int), (some .int), none, (some .int), (some .int), (some .int), (some .int), (some .int), (some .int), none, none, (some .boolean)] : List (Option FieldType)).getD y none
def mj_mn (y : Nat) : MethodName := ([⟨"DotBookLaw", "cell", "([II)I"⟩, ⟨"DotBook$Kind", "values", "()[LDotBook$Kind;"⟩, ⟨"java/lang/AbstractStringBuilder", "<init>", "(I)V"⟩, ⟨"java/lang/StringBuilder", "<init>", "()V"⟩, ⟨"java/util/AbstractCollection", "<init>", "()V"⟩, ⟨"java/util/AbstractList", "<init>", "()V"⟩, ⟨"java/util/ArrayList", "<init>", "()V"⟩, ⟨"DotBook$Line", "<init>", "()V"⟩, ⟨"java/lang/Math", "min", "(II)I"⟩, ⟨"java/lang/Math", "max", "(II)I"⟩, ⟨"DotBook", "<init>", "(II)V"⟩, ⟨"DotBookModel", "<init>", "(II)V"⟩, ⟨"java/lang/AbstractStringBuilder", "length", "()I"⟩, ⟨"java/lang/StringBuilder", "length", "()I"⟩, ⟨"jdk/internal/util/ArraysSupport", "newLength", "(III)I"⟩, ⟨"java/lang/AbstractStringBuilder", "newCapacity", "(I)I"⟩, ⟨"java/util/Arrays", "copyOf", "([BI)[B"⟩, ⟨"java/lang/AbstractStringBuilder", "ensureCapacityInternal", "(I)V"⟩, ⟨"java/lang/AbstractStringBuilder", "isLatin1", "()Z"⟩, ⟨"java/lang/StringLatin1", "canEncode", "(C)Z"⟩, ⟨"java/lang/AbstractStringBuilder", "append", "(C)Ljava/lang/AbstractStringBuilder;"⟩, ⟨"java/lang/StringBuilder", "append", "(C)Ljava/lang/StringBuilder;"⟩, ⟨"DotBook", "type", "(C)I"⟩, ⟨"DotBookLaw", "type", "(LDotBook;C[J)I"⟩, ⟨"DotBookModel", "type", "(C)I"⟩, ⟨"DotBookModel", "thrown", "()I"⟩, ⟨"java/lang/AbstractStringBuilder", "setLength", "(I)V"⟩, ⟨"java/lang/StringBuilder", "setLength", "(I)V"⟩, ⟨"DotBook", "wipe", "()V"⟩, ⟨"DotBookModel", "wipe", "()V"⟩, ⟨"jdk/internal/util/Preconditions", "checkIndex", "(IILjava/util/function/BiFunction;)I"⟩, ⟨"java/lang/String", "checkIndex", "(II)V"⟩, ⟨"java/lang/AbstractStringBuilder", "charAt", "(I)C"⟩, ⟨"java/lang/StringBuilder", "charAt", "(I)C"⟩, ⟨"DotBook", "need", "(Z)V"⟩, ⟨"DotBook$Rule", "<init>", "()V"⟩, ⟨"java/lang/String", "isLatin1", "()Z"⟩, ⟨"java/lang/String", "coder", "()B"⟩, ⟨"java/lang/String", "length", "()I"⟩, ⟨"java/lang/StringLatin1", "canEncode", "(I)Z"⟩, ⟨"java/lang/StringLatin1", "indexOfChar", "([BIII)I"⟩, ⟨"java/lang/StringLatin1", "indexOf", "([BIII)I"⟩, ⟨"java/lang/String", "indexOf", "(II)I"⟩, ⟨"java/lang/String", "indexOf", "(I)I"⟩, ⟨"DotBook", "small", "(C)Z"⟩, ⟨"DotBook", "takeCell", "(LDotBook$Rule;II)I"⟩, ⟨"DotBook$Rule", "same", "(LDotBook$Rule;)Z"⟩, ⟨"DotBook", "take", "(II)V"⟩, ⟨"DotBook", "taken", "(II)Z"⟩, ⟨"DotBook", "rules", "(Z)I"⟩, ⟨"DotBookLaw", "rules", "(LDotBook;Z[J)I"⟩, ⟨"DotBookModel", "kindOf", "(C)I"⟩, ⟨"DotBookModel", "isSmall", "(C)Z"⟩, ⟨"DotBookModel", "readCells", "(II)Z"⟩, ⟨"DotBookModel", "isThere", "()Z"⟩, ⟨"DotBookModel", "takeRule", "(II)Z"⟩, ⟨"DotBookModel", "rules", "(Z)I"⟩, ⟨"DotBook", "wrong", "()I"⟩, ⟨"DotBookModel", "wrong", "()I"⟩, ⟨"java/lang/AbstractStringBuilder", "getValue", "()[B"⟩, ⟨"java/lang/Integer", "stringSize", "(I)I"⟩, ⟨"java/lang/Integer", "getChars", "(II[B)I"⟩, ⟨"java/lang/AbstractStringBuilder", "append", "(I)Ljava/lang/AbstractStringBuilder;"⟩, ⟨"java/lang/StringBuilder", "append", "(I)Ljava/lang/StringBuilder;"⟩, ⟨"java/util/Arrays", "checkLength", "(II)V"⟩, ⟨"java/util/Arrays", "copyOfRangeByte", "([BII)[B"⟩, ⟨"java/util/Arrays", "copyOfRange", "([BII)[B"⟩, ⟨"java/lang/String", "<init>", "(Ljava/lang/AbstractStringBuilder;Ljava/lang/Void;)V"⟩, ⟨"java/lang/String", "<init>", "(Ljava/lang/StringBuilder;)V"⟩, ⟨"java/lang/StringBuilder", "toString", "()Ljava/lang/String;"⟩, ⟨"java/lang/StringLatin1", "charAt", "([BI)C"⟩, ⟨"java/lang/String", "charAt", "(I)C"⟩, ⟨"DotBook", "capital", "(C)Z"⟩, ⟨"DotBook", "letter", "(C)Z"⟩, ⟨"DotBook", "digit", "(C)Z"⟩, ⟨"DotBook", "known", "(Ljava/lang/String;)Z"⟩, ⟨"DotBook$Block", "<init>", "(LDotBook$Kind;)V"⟩, ⟨"jdk/internal/util/Preconditions", "checkFromToIndex", "(IIILjava/util/function/BiFunction;)I"⟩, ⟨"java/lang/String", "checkBoundsBeginEnd", "(III)V"⟩, ⟨"java/lang/String", "<init>", "([BB)V"⟩, ⟨"java/lang/StringLatin1", "newString", "([BII)Ljava/lang/String;"⟩, ⟨"java/lang/String", "substring", "(II)Ljava/lang/String;"⟩, ⟨"DotBook$Block", "longer", "([B)[B"⟩, ⟨"DotBook$Block", "put", "(II)V"⟩, ⟨"DotBook$Line", "put", "(II)V"⟩, ⟨"DotBook$Rule", "applies", "(III)Z"⟩, ⟨"DotBook", "lower", "(C)C"⟩, ⟨"DotBook", "ruleAt", "(Ljava/lang/String;IZ)LDotBook$Rule;"⟩, ⟨"DotBook", "cellOf", "(C)I"⟩, ⟨"DotBook", "word", "(Ljava/lang/String;ILDotBook$Sink;)V"⟩, ⟨"DotBook", "number", "(Ljava/lang/String;ILDotBook$Sink;)V"⟩, ⟨"DotBook", "translate", "(Ljava/lang/String;LDotBook$Sink;)V"⟩, ⟨"DotBook", "block", "(I)I"⟩, ⟨"DotBookLaw", "block", "(LDotBook;I[J)I"⟩, ⟨"DotBookModel", "isCapital", "(C)Z"⟩, ⟨"DotBookModel", "isLetter", "(C)Z"⟩, ⟨"DotBookModel", "isDigit", "(C)Z"⟩, ⟨"DotBookModel", "markOf", "(C)I"⟩, ⟨"DotBookModel", "add", "(II)V"⟩, ⟨"DotBookModel", "applies", "(IIIII)Z"⟩, ⟨"DotBookModel", "small", "(C)C"⟩, ⟨"DotBookModel", "stands", "(IIIIZ)Z"⟩, ⟨"DotBookModel", "cellOf", "(C)I"⟩, ⟨"DotBookModel", "translateWord", "(II)V"⟩, ⟨"DotBookModel", "digitCell", "(I)I"⟩, ⟨"DotBookModel", "translate", "()V"⟩, ⟨"DotBookModel", "block", "(I)I"⟩, ⟨"DotBook", "blockAt", "(I)LDotBook$Block;"⟩, ⟨"DotBook", "size", "(I)I"⟩, ⟨"DotBookLaw", "size", "(LDotBook;I[J)I"⟩, ⟨"DotBookModel", "noBlock", "(I)Z"⟩, ⟨"DotBookModel", "size", "(I)I"⟩, ⟨"DotBook", "cell", "(II)I"⟩, ⟨"DotBookLaw", "cell", "(LDotBook;II[J)I"⟩, ⟨"DotBookModel", "cell", "(II)I"⟩, ⟨"DotBook$Block", "pieceFrom", "(I)I"⟩, ⟨"DotBook$Block", "pieceEnd", "(I)I"⟩, ⟨"DotBook", "characterOf", "(I)C"⟩, ⟨"DotBook", "digitOf", "(I)C"⟩, ⟨"DotBook", "ruleBack", "(LDotBook$Block;III)LDotBook$Rule;"⟩, ⟨"DotBook", "hear", "(CZ)V"⟩, ⟨"DotBook", "piece", "(LDotBook$Block;II)V"⟩, ⟨"DotBook", "back", "(I)I"⟩, ⟨"DotBookLaw", "back", "(LDotBook;I[J)I"⟩, ⟨"DotBookModel", "hear", "(C)V"⟩, ⟨"DotBookModel", "digitOf", "(I)I"⟩, ⟨"DotBookModel", "cellsStand", "(IIII)Z"⟩, ⟨"DotBookModel", "characterOf", "(I)C"⟩, ⟨"DotBookModel", "readOne", "(III)I"⟩, ⟨"DotBookModel", "readPiece", "(II)V"⟩, ⟨"DotBookModel", "back", "(I)I"⟩, ⟨"DotBook", "heard", "(I)C"⟩, ⟨"DotBookModel", "heard", "(I)C"⟩, ⟨"DotBook", "turn", "(Z)V"⟩, ⟨"DotBook$Kind", "indent", "(Z)I"⟩, ⟨"java/util/ArrayList", "size", "()I"⟩, ⟨"java/util/Arrays", "copyOf", "([Ljava/lang/Object;ILjava/lang/Class;)[Ljava/lang/Object;"⟩, ⟨"java/util/Arrays", "copyOf", "([Ljava/lang/Object;I)[Ljava/lang/Object;"⟩, ⟨"java/util/ArrayList", "grow", "(I)[Ljava/lang/Object;"⟩, ⟨"java/util/ArrayList", "grow", "()[Ljava/lang/Object;"⟩, ⟨"java/util/ArrayList", "add", "(Ljava/lang/Object;[Ljava/lang/Object;I)V"⟩, ⟨"java/util/ArrayList", "add", "(Ljava/lang/Object;)Z"⟩, ⟨"java/util/Objects", "checkIndex", "(II)I"⟩, ⟨"java/util/ArrayList", "elementData", "(I)Ljava/lang/Object;"⟩, ⟨"java/util/ArrayList", "get", "(I)Ljava/lang/Object;"⟩, ⟨"DotBook", "lineAt", "(I)LDotBook$Line;"⟩, ⟨"DotBook", "fill", "(LDotBook$Block;I)I"⟩, ⟨"DotBook", "place", "(LDotBook$Block;I)V"⟩, ⟨"DotBook", "layOut", "()V"⟩, ⟨"DotBook", "pages", "()I"⟩, ⟨"DotBookModel", "indentOf", "(II)I"⟩, ⟨"DotBookModel", "putLine", "(II)V"⟩, ⟨"DotBookModel", "closeLine", "(IIZ)V"⟩, ⟨"DotBookModel", "lay", "(IZ)I"⟩, ⟨"DotBookModel", "layOut", "(II)V"⟩, ⟨"DotBookModel", "pages", "()I"⟩, ⟨"DotBook$Line", "at", "(I)I"⟩, ⟨"DotBook", "at", "(III)I"⟩, ⟨"DotBookLaw", "at", "(LDotBook;III[J)I"⟩, ⟨"DotBookModel", "number", "(I)V"⟩, ⟨"DotBookModel", "at", "(III)I"⟩, ⟨"DotBook", "where", "(I)I"⟩, ⟨"DotBookLaw", "where", "(LDotBook;I[J)I"⟩, ⟨"DotBookModel", "where", "(I)I"⟩, ⟨"DotBook", "heading", "(I)I"⟩, ⟨"DotBookModel", "heading", "(I)I"⟩, ⟨"DotBook", "clear", "()V"⟩, ⟨"DotBookModel", "clear", "()V"⟩, ⟨"DotBookLaw", "law", "([I)Z"⟩] : List MethodName).getD y ⟨"", "", ""⟩
def mj_by (y : Nat) : ByteArray := ([method_2_code, prog_3_method_1_code, prog_10_method_2_code, prog_24_method_1_code, prog_30_method_1_code, prog_31_method_1_code, prog_32_method_2_code, prog_4_method_1_code, prog_21_method_69_code, prog_21_method_65_code, prog_1_method_8_code, prog_8_method_1_code, prog_10_method_6_code, prog_24_method_93_code, prog_39_method_27_code, prog_10_method_10_code, prog_33_method_121_code, prog_10_method_9_code, prog_10_method_68_code, prog_26_method_3_code, prog_10_method_31_code, prog_24_method_14_code, prog_1_method_9_code, method_3_code, prog_8_method_11_code, prog_8_method_2_code, prog_10_method_13_code, prog_24_method_89_code, prog_1_method_10_code, prog_8_method_12_code, prog_40_method_11_code, prog_23_method_155_code, prog_10_method_14_code, prog_24_method_88_code, prog_1_method_11_code, prog_5_method_1_code, prog_23_method_154_code, prog_23_method_152_code, prog_23_method_54_code, prog_26_method_4_code, prog_26_method_23_code, prog_26_method_22_code, prog_23_method_80_code, prog_23_method_79_code, prog_1_method_1_code, prog_1_method_13_code, prog_5_method_3_code, prog_1_method_12_code, prog_1_method_14_code, prog_1_method_15_code, method_4_code, prog_8_method_13_code, prog_8_method_3_code, prog_8_method_14_code, prog_8_method_15_code, prog_8_method_16_code, prog_8_method_17_code, prog_1_method_16_code, prog_8_method_18_code, prog_10_method_64_code, prog_19_method_13_code, prog_19_method_12_code, prog_10_method_32_code, prog_24_method_15_code, prog_33_method_131_code, prog_33_method_133_code, prog_33_method_132_code, prog_23_method_150_code, prog_23_method_53_code, prog_24_method_42_code, prog_26_method_2_code, prog_23_method_56_code, prog_1_method_2_code, prog_1_method_3_code, prog_1_method_4_code, prog_1_method_21_code, prog_2_method_1_code, prog_40_method_12_code, prog_23_method_158_code, prog_23_method_151_code, prog_26_method_47_code, prog_23_method_92_code, prog_2_method_3_code, prog_2_method_2_code, prog_4_method_2_code, prog_5_method_2_code, prog_1_method_5_code, prog_1_method_18_code, prog_1_method_6_code, prog_1_method_19_code, prog_1_method_17_code, prog_1_method_20_code, prog_1_method_22_code, method_5_code, prog_8_method_4_code, prog_8_method_5_code, prog_8_method_6_code, prog_8_method_9_code, prog_8_method_20_code, prog_8_method_19_code, prog_8_method_7_code, prog_8_method_21_code, prog_8_method_8_code, prog_8_method_22_code, prog_8_method_10_code, prog_8_method_23_code, prog_8_method_24_code, prog_1_method_23_code, prog_1_method_24_code, method_6_code, prog_8_method_25_code, prog_8_method_26_code, prog_1_method_25_code, method_7_code, prog_8_method_27_code, prog_2_method_4_code, prog_2_method_5_code, prog_1_method_7_code, prog_1_method_28_code, prog_1_method_26_code, prog_1_method_27_code, prog_1_method_29_code, prog_1_method_30_code, method_8_code, prog_8_method_28_code, prog_8_method_30_code, prog_8_method_31_code, prog_8_method_29_code, prog_8_method_32_code, prog_8_method_33_code, prog_8_method_34_code, prog_1_method_31_code, prog_8_method_35_code, prog_1_method_34_code, prog_3_method_4_code, prog_32_method_8_code, prog_33_method_120_code, prog_33_method_119_code, prog_32_method_6_code, prog_32_method_7_code, prog_32_method_24_code, prog_32_method_25_code, prog_36_method_17_code, prog_32_method_18_code, prog_32_method_20_code, prog_1_method_32_code, prog_1_method_33_code, prog_1_method_35_code, prog_1_method_36_code, prog_1_method_37_code, prog_8_method_37_code, prog_8_method_36_code, prog_8_method_39_code, prog_8_method_38_code, prog_8_method_40_code, prog_8_method_41_code, prog_4_method_3_code, prog_1_method_38_code, method_9_code, prog_8_method_42_code, prog_8_method_43_code, prog_1_method_39_code, method_10_code, prog_8_method_44_code, prog_1_method_40_code, prog_8_method_45_code, prog_1_method_41_code, prog_8_method_46_code, code] : List ByteArray).getD y ⟨#[]⟩
/-- handlers: from, to, where, the class's tag -/
def mj_hd (y : Nat) : List (Nat × Nat × Nat × Nat) := ([[], [], [], [], [], [], [], [], [], [], [], [], [], [], [], [], [], [], [], [], [], [], [], [(0, 9, 12, 8), (0, 9, 15, 9)], [], [], [], [], [], [], [], [], [], [], [], [], [], [], [], [], [], [], [], [], [], [], [], [], [(0, 7, 8, 8)], [], [(0, 9, 12, 8)], [], [], [], [], [], [], [], [], [], [], [], [], [], [], [], [], [], [], [], [], [], [], [], [], [], [], [], [], [], [], [], [], [], [], [], [], [], [], [], [], [], [], [(0, 9, 12, 8), (0, 9, 15, 9)], [], [], [], [], [], [], [], [], [], [], [], [], [], [], [], [(0, 9, 12, 10)], [], [], [], [(0, 10, 13, 10)], [], [], [], [], [], [], [], [], [], [(0, 9, 12, 10)], [], [], [], [], [], [], [], [], [], [], [], [], [], [], [], [], [], [], [], [], [], [], [], [], [], [], [], [], [], [], [], [], [], [], [(0, 12, 15, 10)], [], [], [], [(0, 9, 12, 10)], [], [], [], [], [], []] : List (List (Nat × Nat × Nat × Nat))).getD y []
def mj_hi (y : Nat) : List (Nat × Nat × Nat × Nat) := ([[], [], [], [], [], [], [], [], [], [], [], [], [], [], [], [], [], [], [], [], [], [], [], [(0, 9, 12, 13), (0, 9, 15, 15)], [], [], [], [], [], [], [], [], [], [], [], [], [], [], [], [], [], [], [], [], [], [], [], [], [(0, 7, 8, 110)], [], [(0, 9, 12, 13)], [], [], [], [], [], [], [], [], [], [], [], [], [], [], [], [], [], [], [], [], [], [], [], [], [], [], [], [], [], [], [], [], [], [], [], [], [], [], [], [], [], [], [(0, 9, 12, 13), (0, 9, 15, 15)], [], [], [], [], [], [], [], [], [], [], [], [], [], [], [], [(0, 9, 12, 28)], [], [], [], [(0, 10, 13, 28)], [], [], [], [], [], [], [], [], [], [(0, 9, 12, 28)], [], [], [], [], [], [], [], [], [], [], [], [], [], [], [], [], [], [], [], [], [], [], [], [], [], [], [], [], [], [], [], [], [], [], [(0, 12, 15, 28)], [], [], [], [(0, 9, 12, 28)], [], [], [], [], [], []] : List (List (Nat × Nat × Nat × Nat))).getD y []
def mj_yB : Nat := 83
def mj_yL : Nat := 84
end
section
/-! THE SMALL MACHINE'S STEPS, and 'Ends': the least relation that is closed under them -/
def mj_stp (y pc : Nat) (lc st : List Value) (h : mj_H) : Option mj_X := match mj_ins y pc with
  | some (i, n, j, k) => mj_do i n j k lc st h
  | none => none
/-- so many values off the stack, in order -/
def mj_sp : Nat → List Value → List Value → Option (List Value × List Value)
  | 0, acc, st => some (acc, st)
  | n + 1, acc, v :: st => mj_sp n (v :: acc) st
  | _ + 1, _, [] => none
def mj_a1 : Value → Bool
  | .int _ => true
  | .ref _ => true
  | _ => false
abbrev mj_Y : Type := List Prop × Nat × List Value × List Value × Nat
def mj_cv (z n : Nat) (st : List Value) (h : mj_H) : Option mj_Y := match mj_sp (mj_na z) [] st with
  | some (.ref a :: as, r) => bif Nat.ble r.length 8 && as.all mj_a1 then some ([mj_T h a = mj_rg z], z, .ref a :: as, r, n) else none
  | _ => none
/-- a call: what must hold; the method, its arguments, what stays on the stack, where it goes on -/
def mj_cal (y pc : Nat) (st : List Value) (h : mj_H) : Option mj_Y := match mj_ins y pc with
  | some (.invokestatic z, n, _, _) => bif Nat.ble 900 z then none else (match mj_sp (mj_na z) [] st with
    | some (as, r) => bif Nat.ble r.length 8 && as.all mj_a1 then some ([], z, as, r, n) else none
    | none => none)
  | some (.invokespecial z, n, _, _) => bif Nat.ble 900 z then none else mj_cv z n st h
  | some (.invokevirtual z, n, _, _) => bif Nat.ble 900 z then none else mj_cv z n st h
  | some (.invokeinterface _ _, n, _, _) => match st with
    | .int v1 :: .int v2 :: .ref a :: r => bif Nat.ble r.length 8 then some ([mj_T h a = 6 ∨ mj_T h a = 4], if mj_T h a = 6 then mj_yB else mj_yL, [.ref a, .int v2, .int v1], r, n) else none
    | _ => none
  | _ => none
/-- a value that may be handed back under a type -/
def mj_fr (t : Option FieldType) (v : Int32) : List Prop := match t with
  | some .boolean => [mj_01 v]
  | some .char => [mj_c v = v]
  | some .byte => [mj_b v = v]
  | _ => []
def mj_ret (y pc : Nat) (st : List Value) : Option (List Prop × Option Value) := match mj_ins y pc with
  | some (.ireturn, _, _, _) => match st with
    | [.int v] => some (mj_fr (mj_rt y) v, some (.int v))
    | _ => none
  | some (.areturn, _, _, _) => match st with
    | [.ref v] => some ([mj_fitR v], some (.ref v))
    | _ => none
  | some (.return_, _, _, _) => match st with
    | [] => some ([], none)
    | _ => none
  | _ => none
/-- a new exception is thrown out of the method -/
def mj_thw (y pc : Nat) (st : List Value) (h : mj_H) : Option (List Prop × Nat) := match mj_ins y pc with
  | some (.jsr q, _, _, _) => bif Nat.ble st.length 8 then some ([mj_U h + 7 ≤ mj_M], q.toNat / 65536) else none
  | _ => none
def mj_cov (pc : Nat) (l : List (Nat × Nat × Nat × Nat)) : Bool := l.any fun q => decide (q.1 ≤ pc ∧ pc < q.2.1)
def mj_hg (pc t : Nat) : List (Nat × Nat × Nat × Nat) → Option (Option Nat)
  | [] => none
  | (a, b, hp, u) :: r => if a ≤ pc ∧ pc < b then (if u = t then some (some hp) else if t = 9 ∧ u = 8 then mj_hg pc t r else none) else mj_hg pc t r
/-- the handler at pc of an exception with the tag t -/
def mj_hf (pc t : Nat) (l : List (Nat × Nat × Nat × Nat)) : Option (Option Nat) := bif mj_cov pc l then mj_hg pc t l else some none
abbrev mj_O : Type := Option Value ⊕ Nat
abbrev mj_P : Type := mj_O → mj_H → Prop
abbrev mj_ZT : Type := Nat → Nat → Nat → List Value → List Value → mj_H → mj_P → Prop
def mj_ent (y : Nat) (as : List Value) : List Value := as ++ List.replicate (mj_ml y - as.length) (.retAddr 0)
def mj_Step (Z : mj_ZT) (d y pc : Nat) (lc st : List Value) (h : mj_H) (P : mj_P) : Prop :=
  (∃ (S : List Prop) (pc' : Nat) (lc' st' : List Value) (h' : mj_H), mj_stp y pc lc st h = some (S, pc', lc', st', h') ∧ mj_all S ∧ Z d y pc' lc' st' h' P) ∨
  (∃ (S : List Prop) (v : Option Value), mj_ret y pc st = some (S, v) ∧ mj_all S ∧ P (.inl v) h) ∨
  (∃ (S : List Prop) (t : Nat), mj_thw y pc st h = some (S, t) ∧ mj_all S ∧ P (.inr (mj_Z h)) (mj_nw h t 0 6)) ∨
  (∃ (S : List Prop) (z : Nat) (as r : List Value) (pc' d' : Nat) (Q : mj_P), mj_cal y pc st h = some (S, z, as, r, pc') ∧ mj_all S ∧ d = d' + 1 ∧ Z d' z 0 (mj_ent z as) [] h Q ∧
    (∀ v h', Q (.inl v) h' → Z d y pc' lc (v.toList ++ r) h' P) ∧
    (∀ a h', Q (.inr a) h' → (∃ hp, mj_hf pc (mj_T h' a) (mj_hd y) = some (some hp) ∧ Z d y hp lc [.ref a] h' P) ∨ (mj_hf pc (mj_T h' a) (mj_hd y) = some none ∧ P (.inr a) h')))
def Ends (d y pc : Nat) (lc st : List Value) (h : mj_H) (P : mj_P) : Prop := ∀ Z : mj_ZT, (∀ d y pc lc st h P, mj_Step Z d y pc lc st h P → Z d y pc lc st h P) → Z d y pc lc st h P
theorem mj_mono {Z1 Z2 : mj_ZT} (hz : ∀ d y pc lc st h P, Z1 d y pc lc st h P → Z2 d y pc lc st h P) {d y pc : Nat} {lc st : List Value} {h : mj_H} {P : mj_P} (k : mj_Step Z1 d y pc lc st h P) : mj_Step Z2 d y pc lc st h P := by
  rcases k with ⟨S, pc', lc', st', h', e, s, z⟩ | k | k | ⟨S, z, as, r, pc', d', Q, e, s, hd, k1, k2, k3⟩
  · exact Or.inl ⟨S, pc', lc', st', h', e, s, hz _ _ _ _ _ _ _ z⟩
  · exact Or.inr (Or.inl k)
  · exact Or.inr (Or.inr (Or.inl k))
  · refine Or.inr (Or.inr (Or.inr ⟨S, z, as, r, pc', d', Q, e, s, hd, hz _ _ _ _ _ _ _ k1, fun v h' q => hz _ _ _ _ _ _ _ (k2 v h' q), fun a h' q => ?_⟩))
    rcases k3 a h' q with ⟨hp, q1, q2⟩ | q2
    · exact Or.inl ⟨hp, q1, hz _ _ _ _ _ _ _ q2⟩
    · exact Or.inr q2
theorem Ends.of {d y pc : Nat} {lc st : List Value} {h : mj_H} {P : mj_P} (k : mj_Step Ends d y pc lc st h P) : Ends d y pc lc st h P := by
  intro Z hZ
  exact hZ _ _ _ _ _ _ _ (mj_mono (fun d y pc lc st h P q => q Z hZ) k)
theorem Ends.ind {Z : mj_ZT} (hZ : ∀ d y pc lc st h P, mj_Step Z d y pc lc st h P → Z d y pc lc st h P) {d y pc : Nat} {lc st : List Value} {h : mj_H} {P : mj_P} (k : Ends d y pc lc st h P) : Z d y pc lc st h P := k Z hZ
theorem Ends.mono {d y pc : Nat} {lc st : List Value} {h : mj_H} {P P' : mj_P} (k : Ends d y pc lc st h P) (hp : ∀ o h', P o h' → P' o h') : Ends d y pc lc st h P' := by
  refine Ends.ind (Z := fun d y pc lc st h P => ∀ P', (∀ o h', P o h' → P' o h') → Ends d y pc lc st h P') ?_ k P' hp
  intro d y pc lc st h P k P' hp
  rcases k with ⟨S, pc', lc', st', h', e, s, z⟩ | ⟨S, v, e, s, q⟩ | ⟨S, t, e, s, q⟩ | ⟨S, z, as, r, pc', d', Q, e, s, hd, k1, k2, k3⟩
  · exact Ends.of (Or.inl ⟨S, pc', lc', st', h', e, s, z P' hp⟩)
  · exact Ends.of (Or.inr (Or.inl ⟨S, v, e, s, hp _ _ q⟩))
  · exact Ends.of (Or.inr (Or.inr (Or.inl ⟨S, t, e, s, hp _ _ q⟩)))
  · refine Ends.of (Or.inr (Or.inr (Or.inr ⟨S, z, as, r, pc', d', Q, e, s, hd, k1 Q (fun _ _ q => q), fun v h' q => k2 v h' q P' hp, fun a h' q => ?_⟩)))
    rcases k3 a h' q with ⟨hp', q1, q2⟩ | ⟨q1, q2⟩
    · exact Or.inl ⟨hp', q1, q2 P' hp⟩
    · exact Or.inr ⟨q1, hp _ _ q2⟩
theorem mj_all_cons {a : Prop} {r : List Prop} : mj_all (a :: r) ↔ a ∧ mj_all r := by
  cases r with
  | nil => exact ⟨fun h => ⟨h, trivial⟩, fun h => h.1⟩
  | cons b r => exact Iff.rfl
theorem mj_all_app {a b : List Prop} : mj_all (a ++ b) ↔ mj_all a ∧ mj_all b := by
  induction a with
  | nil => exact ⟨fun h => ⟨trivial, h⟩, fun h => h.2⟩
  | cons x r ih => rw [List.cons_append, mj_all_cons, mj_all_cons, ih, and_assoc]
abbrev mj_and : List Prop → Prop → Prop
  | [], P => P
  | a :: r, P => a ∧ mj_and r P
theorem mj_and_all {P : Prop} : ∀ {S : List Prop}, mj_and S P → mj_all S ∧ P
  | [], h => ⟨trivial, h⟩
  | _ :: _, h => ⟨mj_all_cons.mpr ⟨h.1, (mj_and_all h.2).1⟩, (mj_and_all h.2).2⟩
/-- k instructions on end -/
def mj_run : Nat → Nat → Nat → List Value → List Value → mj_H → Option (Prop × Nat × List Value × List Value × mj_H)
  | 0, _, pc, lc, st, h => some (True, pc, lc, st, h)
  | k + 1, y, pc, lc, st, h => match mj_stp y pc lc st h with
    | some (S, pc', lc', st', h') => match mj_run k y pc' lc' st' h' with
      | some (S2, q) => some (mj_and S S2, q)
      | none => none
    | none => none
theorem E_run {d y : Nat} {P : mj_P} : ∀ (k : Nat) {pc : Nat} {lc st : List Value} {h : mj_H} {S : Prop} {pc' : Nat} {lc' st' : List Value} {h' : mj_H}, mj_run k y pc lc st h = some (S, pc', lc', st', h') → S → Ends d y pc' lc' st' h' P → Ends d y pc lc st h P := by
  intro k
  induction k with
  | zero =>
    intro pc lc st h S pc' lc' st' h' e _ q
    cases e
    exact q
  | succ k ih =>
    intro pc lc st h S pc' lc' st' h' e s q
    unfold mj_run at e
    split at e
    · next S1 pc1 lc1 st1 h1 e1 =>
      split at e
      · next S2 q2 e2 =>
        cases e
        obtain ⟨s1, s2⟩ := mj_and_all s
        exact Ends.of (Or.inl ⟨S1, pc1, lc1, st1, h1, e1, s1, ih e2 s2 q⟩)
      · cases e
    · cases e
theorem E_ret {d y pc : Nat} {lc st : List Value} {h : mj_H} {P : mj_P} {S : List Prop} {v : Option Value} (e : mj_ret y pc st = some (S, v)) (s : mj_all S) (q : P (.inl v) h) : Ends d y pc lc st h P := Ends.of (Or.inr (Or.inl ⟨S, v, e, s, q⟩))
theorem E_thw {d y pc : Nat} {lc st : List Value} {h : mj_H} {P : mj_P} {S : List Prop} {t : Nat} (e : mj_thw y pc st h = some (S, t)) (s : mj_all S) (q : P (.inr (mj_Z h)) (mj_nw h t 0 6)) : Ends d y pc lc st h P := Ends.of (Or.inr (Or.inr (Or.inl ⟨S, t, e, s, q⟩)))
/-- a call of a method that returns -/
theorem E_cal {d y pc : Nat} {lc st : List Value} {h : mj_H} {P Q : mj_P} {S : List Prop} {z pc' : Nat} {as r : List Value} (e : mj_cal y pc st h = some (S, z, as, r, pc')) (s : mj_all S) (hd : 0 < d) (k1 : Ends (d - 1) z 0 (mj_ent z as) [] h (fun o h' => ∃ v, o = .inl v ∧ Q o h'))
    (k2 : ∀ v h', Q (.inl v) h' → Ends d y pc' lc (v.toList ++ r) h' P) : Ends d y pc lc st h P :=
  Ends.of (Or.inr (Or.inr (Or.inr ⟨S, z, as, r, pc', d - 1, _, e, s, by omega, k1, fun v h' q => by obtain ⟨w, e, q⟩ := q; cases e; exact k2 v h' q, fun a h' q => by obtain ⟨w, e, q⟩ := q; cases e⟩)))
/-- a call of a method that may throw; no handler covers it -/
theorem E_calX {d y pc : Nat} {lc st : List Value} {h : mj_H} {P Q : mj_P} {S : List Prop} {z pc' : Nat} {as r : List Value} (e : mj_cal y pc st h = some (S, z, as, r, pc')) (s : mj_all S) (hd : 0 < d) (k1 : Ends (d - 1) z 0 (mj_ent z as) [] h Q)
    (k2 : ∀ v h', Q (.inl v) h' → Ends d y pc' lc (v.toList ++ r) h' P) (k3 : ∀ a h', Q (.inr a) h' → (∃ hp, mj_hf pc (mj_T h' a) (mj_hd y) = some (some hp) ∧ Ends d y hp lc [.ref a] h' P) ∨ (mj_hf pc (mj_T h' a) (mj_hd y) = some none ∧ P (.inr a) h')) : Ends d y pc lc st h P :=
  Ends.of (Or.inr (Or.inr (Or.inr ⟨S, z, as, r, pc', d - 1, _, e, s, by omega, k1, k2, k3⟩)))
theorem E_if {d y : Nat} {lc st : List Value} {h : mj_H} {P : mj_P} {c : Prop} [Decidable c] {t f : Nat} (kt : c → Ends d y t lc st h P) (kf : ¬ c → Ends d y f lc st h P) : Ends d y (if c then t else f) lc st h P := by
  by_cases q : c
  · rw [if_pos q]; exact kt q
  · rw [if_neg q]; exact kf q
end
section
/-! class tables, printed by gnames.py -/
def mf_0 : u_T := fun k => match k with
  | 0 => ("DotBook", "width", "I", true)
  | 1 => ("DotBook", "height", "I", true)
  | 2 => ("DotBook", "kinds", "[LDotBook$Kind;", true)
  | 3 => ("DotBook", "typed", "Ljava/lang/StringBuilder;", true)
  | 4 => ("DotBook", "rules", "[LDotBook$Rule;", true)
  | 5 => ("DotBook", "ruleCount", "I", false)
  | 6 => ("DotBook", "wrong", "I", false)
  | 7 => ("DotBook", "blocks", "[LDotBook$Block;", true)
  | 8 => ("DotBook", "blockCount", "I", false)
  | 9 => ("DotBook", "heard", "Ljava/lang/StringBuilder;", true)
  | 10 => ("DotBook", "laid", "Z", false)
  | 11 => ("DotBook", "lines", "Ljava/util/ArrayList;", true)
  | 12 => ("DotBook", "lineCount", "I", false)
  | 13 => ("DotBook", "page", "I", false)
  | 14 => ("DotBook", "used", "I", false)
  | _ => ("DotBook", "foot", "LDotBook$Line;", true)
def mt_0 : Nat → FieldType := fun k => match k with
  | 0 => .int
  | 1 => .int
  | 2 => .array (.object "DotBook$Kind")
  | 3 => .object "java/lang/StringBuilder"
  | 4 => .array (.object "DotBook$Rule")
  | 5 => .int
  | 6 => .int
  | 7 => .array (.object "DotBook$Block")
  | 8 => .int
  | 9 => .object "java/lang/StringBuilder"
  | 10 => .boolean
  | 11 => .object "java/util/ArrayList"
  | 12 => .int
  | 13 => .int
  | 14 => .int
  | _ => .object "DotBook$Line"
def mf_1 : u_T := fun k => match k with
  | 0 => ("java/lang/AbstractStringBuilder", "value", "[B", false)
  | 1 => ("java/lang/AbstractStringBuilder", "coder", "B", false)
  | 2 => ("java/lang/AbstractStringBuilder", "maybeLatin1", "Z", false)
  | _ => ("java/lang/AbstractStringBuilder", "count", "I", false)
def mt_1 : Nat → FieldType := fun k => match k with
  | 0 => .array .byte
  | 1 => .byte
  | 2 => .boolean
  | _ => .int
def mf_2 : u_T := fun k => match k with
  | 0 => ("java/lang/String", "value", "[B", true)
  | 1 => ("java/lang/String", "coder", "B", true)
  | 2 => ("java/lang/String", "hash", "I", false)
  | _ => ("java/lang/String", "hashIsZero", "Z", false)
def mt_2 : Nat → FieldType := fun k => match k with
  | 0 => .array .byte
  | 1 => .byte
  | 2 => .int
  | _ => .boolean
def mf_3 : u_T := fun k => match k with
  | 0 => ("java/util/ArrayList", "elementData", "[Ljava/lang/Object;", false)
  | 1 => ("java/util/ArrayList", "size", "I", false)
  | _ => ("java/util/AbstractList", "modCount", "I", false)
def mt_3 : Nat → FieldType := fun k => match k with
  | 0 => .array (.object "java/lang/Object")
  | 1 => .int
  | _ => .int
def mf_4 : u_T := fun k => match k with
  | 0 => ("DotBook$Line", "cells", "[B", true)
  | 1 => ("DotBook$Line", "count", "I", false)
  | 2 => ("DotBook$Line", "left", "I", false)
  | 3 => ("DotBook$Line", "page", "I", false)
  | _ => ("DotBook$Line", "place", "I", false)
def mt_4 : Nat → FieldType := fun k => match k with
  | 0 => .array .byte
  | 1 => .int
  | 2 => .int
  | 3 => .int
  | _ => .int
def mf_5 : u_T := fun k => match k with
  | 0 => ("DotBook$Rule", "kind", "I", false)
  | 1 => ("DotBook$Rule", "letters", "[C", true)
  | 2 => ("DotBook$Rule", "length", "I", false)
  | 3 => ("DotBook$Rule", "cells", "[B", true)
  | _ => ("DotBook$Rule", "count", "I", false)
def mt_5 : Nat → FieldType := fun k => match k with
  | 0 => .int
  | 1 => .array .char
  | 2 => .int
  | 3 => .array .byte
  | _ => .int
def mf_6 : u_T := fun k => match k with
  | 0 => ("DotBook$Block", "kind", "LDotBook$Kind;", true)
  | 1 => ("DotBook$Block", "cells", "[B", false)
  | 2 => ("DotBook$Block", "origins", "[B", false)
  | 3 => ("DotBook$Block", "size", "I", false)
  | _ => ("DotBook$Block", "first", "LDotBook$Line;", false)
def mt_6 : Nat → FieldType := fun k => match k with
  | 0 => .object "DotBook$Kind"
  | 1 => .array .byte
  | 2 => .array .byte
  | 3 => .int
  | _ => .object "DotBook$Line"
def mf_7 : u_T := fun k => match k with
  | 0 => ("DotBookModel", "thrown", "I", false)
  | 1 => ("DotBookModel", "width", "I", false)
  | 2 => ("DotBookModel", "height", "I", false)
  | 3 => ("DotBookModel", "typedLength", "I", false)
  | 4 => ("DotBookModel", "typed", "[C", false)
  | 5 => ("DotBookModel", "count", "I", false)
  | 6 => ("DotBookModel", "kinds", "[I", false)
  | 7 => ("DotBookModel", "letterCount", "[I", false)
  | 8 => ("DotBookModel", "letters", "[C", false)
  | 9 => ("DotBookModel", "cellCount", "[I", false)
  | 10 => ("DotBookModel", "ruleCells", "[I", false)
  | 11 => ("DotBookModel", "wrong", "I", false)
  | 12 => ("DotBookModel", "blocks", "I", false)
  | 13 => ("DotBookModel", "blockKind", "[I", false)
  | 14 => ("DotBookModel", "sizes", "[I", false)
  | 15 => ("DotBookModel", "cells", "[I", false)
  | 16 => ("DotBookModel", "origins", "[I", false)
  | 17 => ("DotBookModel", "heardLength", "I", false)
  | 18 => ("DotBookModel", "heard", "[C", false)
  | 19 => ("DotBookModel", "rowLength", "I", false)
  | 20 => ("DotBookModel", "row", "[I", false)
  | 21 => ("DotBookModel", "page", "I", false)
  | 22 => ("DotBookModel", "line", "I", false)
  | 23 => ("DotBookModel", "last", "I", false)
  | 24 => ("DotBookModel", "wantedPage", "I", false)
  | 25 => ("DotBookModel", "wantedLine", "I", false)
  | 26 => ("DotBookModel", "wanted", "[I", false)
  | 27 => ("DotBookModel", "places", "[I", false)
  | _ => ("DotBookModel", "tall", "I", false)
def mt_7 : Nat → FieldType := fun k => match k with
  | 0 => .int
  | 1 => .int
  | 2 => .int
  | 3 => .int
  | 4 => .array .char
  | 5 => .int
  | 6 => .array .int
  | 7 => .array .int
  | 8 => .array .char
  | 9 => .array .int
  | 10 => .array .int
  | 11 => .int
  | 12 => .int
  | 13 => .array .int
  | 14 => .array .int
  | 15 => .array .int
  | 16 => .array .int
  | 17 => .int
  | 18 => .array .char
  | 19 => .int
  | 20 => .array .int
  | 21 => .int
  | 22 => .int
  | 23 => .int
  | 24 => .int
  | 25 => .int
  | 26 => .array .int
  | 27 => .array .int
  | _ => .int
def mf_8 : u_T := fun k => match k with
  | _ => ("", "", "", false)
def mt_8 : Nat → FieldType := fun k => match k with
  | _ => .int
def mf_9 : u_T := fun k => match k with
  | _ => ("", "", "", false)
def mt_9 : Nat → FieldType := fun k => match k with
  | _ => .int
def mf_10 : u_T := fun k => match k with
  | _ => ("", "", "", false)
def mt_10 : Nat → FieldType := fun k => match k with
  | _ => .int
def mj_cls : List vw_C := [("DotBook", mf_0, 16), ("java/lang/StringBuilder", mf_1, 4), ("java/lang/String", mf_2, 4), ("java/util/ArrayList", mf_3, 3), ("DotBook$Line", mf_4, 5), ("DotBook$Rule", mf_5, 5), ("DotBook$Block", mf_6, 5), ("DotBookModel", mf_7, 29), ("java/lang/IllegalArgumentException", mf_8, 0), ("java/lang/IllegalStateException", mf_9, 0), ("java/lang/IndexOutOfBoundsException", mf_10, 0)]
def mj_CN (t : Nat) : String := (["DotBook", "java/lang/StringBuilder", "java/lang/String", "java/util/ArrayList", "DotBook$Line", "DotBook$Rule", "DotBook$Block", "DotBookModel", "java/lang/IllegalArgumentException", "java/lang/IllegalStateException", "java/lang/IndexOutOfBoundsException"] : List String).getD t ""
def mj_F (t : Nat) : u_T := ([mf_0, mf_1, mf_2, mf_3, mf_4, mf_5, mf_6, mf_7, mf_8, mf_9, mf_10] : List u_T).getD t mf_8
def mj_ty (t : Nat) : Nat → FieldType := ([mt_0, mt_1, mt_2, mt_3, mt_4, mt_5, mt_6, mt_7, mt_8, mt_9, mt_10] : List (Nat → FieldType)).getD t mt_8
def mj_nf (t : Nat) : Nat := ([16, 4, 4, 3, 5, 5, 5, 29, 0, 0, 0] : List Nat).getD t 0
/-- a field that holds a reference -/
def mj_rf (t k : Nat) : Bool := ([[false, false, true, true, true, false, false, true, false, true, false, true, false, false, false, true], [true, false, false, false], [true, false, false, false], [true, false, false], [true, false, false, false, false], [false, true, false, true, false], [true, true, true, false, true], [false, false, false, false, true, false, true, true, true, true, true, false, false, true, true, true, true, false, true, false, true, false, false, false, false, false, true, true, false], [], [], []] : List (List Bool)).getD t [] |>.getD k false
theorem mj_cls_at : ∀ t, t < 11 → mj_cls[t]? = some (mj_CN t, mj_F t, mj_nf t) := by
  intro t h
  rcases (show t = 0 ∨ t = 1 ∨ t = 2 ∨ t = 3 ∨ t = 4 ∨ t = 5 ∨ t = 6 ∨ t = 7 ∨ t = 8 ∨ t = 9 ∨ t = 10 by omega) with rfl | rfl | rfl | rfl | rfl | rfl | rfl | rfl | rfl | rfl | rfl <;> rfl
theorem mj_tyok : ∀ t, t < 11 → ∀ k, k < mj_nf t → parseFieldDescriptor (mj_F t k).2.2.1 = some (mj_ty t k) := by decide +kernel
theorem mj_nmok : ∀ t, t < 11 → ∀ a, a < mj_nf t → ∀ b, b < mj_nf t → a ≠ b → (mj_F t a).2.1 ≠ (mj_F t b).2.1 := by decide +kernel
theorem mj_rfok : ∀ t, t < 11 → ∀ k, k < mj_nf t → mj_rf t k = (match mj_ty t k with | .object _ => true | .array _ => true | _ => false) := by decide +kernel
/-- words that stay true as the tables warm -/
def mj_mv : Cond → Bool
  | .arrayClass _ => true
  | .fieldLinkNest .. => true
  | .methodLinkNest .. => true
  | w => w.onTables && w.keepsFace
theorem mj_mv_of {w : Cond} (h : mj_mv w = true) {A : Array Value} {U : State} (hb : w.before A U = true) : va_Nw w U := by
  cases w <;> first | exact hb | (refine va_Nw.of ?_ hb; first | rfl | (simp only [mj_mv, Bool.and_eq_true] at h; exact h.1))
theorem mj_mv_use {w : Cond} (h : mj_mv w = true) {A : Array Value} {U : State} (hb : va_Nw w U) : w.before A U = true := by
  cases w <;> first | exact hb | (refine va_Nw.use ?_ hb; first | rfl | (simp only [mj_mv, Bool.and_eq_true] at h; exact h.1))
theorem mj_mv_warm {w : Cond} (h : mj_mv w = true) {s U : State} (hW : s.WarmedH U.vm) (hb : va_Nw w s) : va_Nw w U := by
  cases w
  case fieldLinkNest => exact va_Nw.warmF hW hb
  case methodLinkNest => exact va_Nw.warmM hW hb
  case arrayClass ty =>
    have h1 : (Cond.arrayClass ty).before #[] (s.setVm U.vm) = true := Cond.before_shiftedFace (State.Shifted.of_warmed hW) _ rfl hb
    exact h1
  all_goals
    simp only [mj_mv, Bool.and_eq_true] at h
    exact va_tabs h.1 (rfl : (s.setVm U.vm).vm = U.vm) (Cond.before_shiftedFace (State.Shifted.of_warmed hW) _ h.2 hb)
def mj_has (w : Cond) : Bool := decide (w ∈ lw_tbl) && mj_mv w
theorem mj_wsok : ∀ t, t < 11 → (u_ws (mj_CN t) (mj_F t) (mj_nf t)).all mj_has = true := by decide +kernel
end
section
/-! where the words stand that an instruction links by, printed by gcheck.py -/
def mp_0 : List (Nat × List Nat) := []
def mp_1 : List (Nat × List Nat) := [(0, [93]), (3, [95, 96, 97, 98, 99, 100]), (6, [102])]
def mp_2 : List (Nat × List Nat) := [(1, [111, 88]), (4, [112]), (14, [121]), (19, [122]), (30, [121]), (35, [122])]
def mp_3 : List (Nat × List Nat) := [(3, [108, 109])]
def mp_4 : List (Nat × List Nat) := [(1, [151, 88])]
def mp_5 : List (Nat × List Nat) := [(1, [148, 149]), (6, [156])]
def mp_6 : List (Nat × List Nat) := [(1, [145, 146]), (5, [152]), (8, [154])]
def mp_7 : List (Nat × List Nat) := [(1, [171, 88]), (9, [172])]
def mp_8 : List (Nat × List Nat) := []
def mp_9 : List (Nat × List Nat) := []
def mp_10 : List (Nat × List Nat) := [(1, [87, 88]), (5, [90, 91, 53]), (8, [198]), (12, [103, 104, 55]), (16, [105, 106]), (19, [199]), (25, [136]), (28, [200]), (33, [202]), (39, [138]), (42, [203]), (46, [103, 104, 55]), (50, [105, 106]), (53, [205]), (57, [140, 141, 60]), (61, [142, 143]), (64, [207]), (68, [166, 167, 61]), (72, [168, 169]), (75, [211]), (84, [190, 191, 62]), (87, [193, 194, 62]), (90, [196]), (98, [190, 191, 62]), (101, [193, 194, 62]), (104, [197])]
def mp_11 : List (Nat × List Nat) := [(1, [1106, 88]), (9, [1111]), (17, [1113]), (25, [1114]), (34, [1115]), (42, [1116]), (50, [1117]), (55, [1118]), (63, [1120]), (71, [1121]), (80, [1122]), (89, [1123]), (98, [1125]), (106, [1127]), (114, [1133]), (122, [1134]), (149, [1108]), (174, [1109])]
def mp_12 : List (Nat × List Nat) := [(1, [125])]
def mp_13 : List (Nat × List Nat) := [(1, [427, 423, 134, 422])]
def mp_14 : List (Nat × List Nat) := [(3, [286, 194, 62]), (14, [287])]
def mp_15 : List (Nat × List Nat) := [(1, [121]), (8, [122]), (24, [122]), (29, [283, 284, 69]), (36, [291]), (54, [122])]
def mp_16 : List (Nat × List Nat) := [(7, [295, 296, 97, 98, 297, 298]), (10, [299]), (25, [300, 191, 62]), (28, [301, 303, 302, 71])]
def mp_17 : List (Nat × List Nat) := [(1, [121]), (6, [122]), (19, [121]), (24, [279, 280, 281, 1381]), (28, [122]), (32, [292, 293, 70]), (35, [121])]
def mp_18 : List (Nat × List Nat) := [(0, [112]), (7, [122])]
def mp_19 : List (Nat × List Nat) := []
def mp_20 : List (Nat × List Nat) := [(2, [125]), (7, [275, 276, 277, 1380]), (11, [304, 307, 305]), (18, [774, 775, 72]), (25, [121]), (30, [125]), (36, [125]), (46, [304, 307, 305]), (57, [121]), (62, [125]), (68, [125])]
def mp_21 : List (Nat × List Nat) := [(2, [771, 1389, 134, 772])]
def mp_22 : List (Nat × List Nat) := [(12, [741, 440, 67]), (21, [199]), (24, [595, 1387, 425]), (32, [752, 753, 68]), (41, [199]), (45, [767, 769, 768]), (50, [199]), (53, [595, 1387, 425])]
def mp_23 : List (Nat × List Nat) := [(4, [737, 739, 738])]
def mp_24 : List (Nat × List Nat) := [(18, [1110]), (31, [1107]), (35, [1107]), (44, [1111]), (48, [1110]), (55, [1110]), (60, [1110]), (64, [1110])]
def mp_25 : List (Nat × List Nat) := [(1, [1107])]
def mp_26 : List (Nat × List Nat) := [(15, [275, 276, 277, 1380]), (19, [125]), (27, [304, 307, 305]), (34, [121]), (38, [125]), (49, [121]), (53, [125]), (64, [125]), (73, [123]), (78, [125])]
def mp_27 : List (Nat × List Nat) := [(2, [253, 1377, 134, 254])]
def mp_28 : List (Nat × List Nat) := [(1, [199]), (5, [249, 251, 250])]
def mp_29 : List (Nat × List Nat) := [(2, [1107]), (7, [1110])]
def mp_30 : List (Nat × List Nat) := []
def mp_31 : List (Nat × List Nat) := [(2, [321]), (5, [607, 608, 73])]
def mp_32 : List (Nat × List Nat) := [(1, [122]), (6, [121]), (11, [125]), (18, [603, 191, 62]), (26, [604, 605, 56])]
def mp_33 : List (Nat × List Nat) := [(2, [600, 1388, 134, 601])]
def mp_34 : List (Nat × List Nat) := [(4, [741, 440, 67])]
def mp_35 : List (Nat × List Nat) := [(1, [806, 88]), (9, [809]), (16, [813])]
def mp_36 : List (Nat × List Nat) := [(0, [343]), (7, [527])]
def mp_37 : List (Nat × List Nat) := [(0, [343]), (7, [527])]
def mp_38 : List (Nat × List Nat) := [(1, [526]), (6, [339, 341, 340])]
def mp_39 : List (Nat × List Nat) := []
def mp_40 : List (Nat × List Nat) := []
def mp_41 : List (Nat × List Nat) := [(1, [845, 846, 72]), (11, [848, 194, 62]), (18, [849, 191, 62]), (33, [850, 851, 72])]
def mp_42 : List (Nat × List Nat) := [(1, [837, 839, 838]), (8, [526]), (14, [841, 337, 336]), (17, [842, 843, 72]), (24, [526]), (30, [841, 337, 336])]
def mp_43 : List (Nat × List Nat) := [(3, [833, 835, 834])]
def mp_44 : List (Nat × List Nat) := []
def mp_45 : List (Nat × List Nat) := [(17, [199]), (22, [596, 598, 597]), (31, [199]), (36, [596, 598, 597]), (45, [199]), (53, [596, 598, 597]), (83, [799, 800, 51]), (87, [814]), (92, [815]), (98, [815])]
def mp_46 : List (Nat × List Nat) := [(1, [807]), (5, [807]), (12, [811]), (16, [811]), (32, [811]), (43, [809]), (49, [809])]
def mp_47 : List (Nat × List Nat) := [(1, [201]), (18, [199]), (24, [596, 598, 597]), (37, [799, 800, 51]), (41, [200]), (45, [201]), (52, [136, 802, 78]), (56, [803, 804]), (63, [200]), (67, [201]), (73, [200]), (77, [201]), (86, [199]), (90, [596, 598, 597]), (93, [829, 831, 830]), (96, [808]), (101, [812]), (106, [815]), (121, [199]), (126, [596, 598, 597]), (129, [879, 880, 51]), (136, [812]), (149, [799, 800, 51]), (153, [810]), (158, [812]), (164, [812]), (168, [199]), (176, [596, 598, 597]), (184, [808]), (191, [812]), (205, [199]), (210, [596, 598, 597]), (223, [799, 800, 51]), (233, [815]), (245, [799, 800, 51]), (255, [882, 11, 884]), (267, [199]), (272, [596, 598, 597]), (285, [799, 800, 51]), (297, [201]), (304, [200]), (311, [886, 888, 887]), (322, [799, 800, 51]), (333, [201]), (338, [201])]
def mp_48 : List (Nat × List Nat) := [(3, [795, 10, 797])]
def mp_49 : List (Nat × List Nat) := [(1, [201]), (7, [202]), (17, [199]), (20, [595, 1387, 425]), (32, [199]), (35, [595, 1387, 425]), (42, [199]), (47, [596, 598, 597]), (65, [791, 9, 793]), (77, [202]), (84, [202]), (92, [202]), (107, [202]), (119, [201]), (122, [741, 440, 67]), (131, [890, 247, 246]), (135, [201])]
def mp_50 : List (Nat × List Nat) := [(4, [787, 789, 788])]
def mp_51 : List (Nat × List Nat) := []
def mp_52 : List (Nat × List Nat) := []
def mp_53 : List (Nat × List Nat) := [(24, [1111]), (48, [1117]), (53, [1112]), (75, [1111]), (130, [1116]), (134, [1112])]
def mp_54 : List (Nat × List Nat) := [(4, [1112]), (11, [1113]), (17, [1113]), (21, [1112]), (29, [1114]), (35, [1114]), (39, [1112]), (56, [1114]), (60, [1112]), (72, [1115]), (83, [1115]), (89, [1112])]
def mp_55 : List (Nat × List Nat) := [(1, [1112]), (19, [1111]), (24, [1216, 21, 1218]), (31, [1111]), (60, [1111]), (66, [1220, 22, 1222]), (79, [1115]), (85, [1112]), (92, [1111]), (120, [1111]), (137, [1224, 23, 1226]), (146, [1113]), (150, [1112]), (155, [1111]), (160, [1216, 21, 1218]), (165, [1114]), (169, [1112]), (175, [1228, 24, 1230]), (185, [1112]), (190, [1112])]
def mp_56 : List (Nat × List Nat) := [(1, [1112]), (7, [1118]), (21, [1110]), (30, [1110]), (37, [1111]), (52, [1212, 20, 1214]), (64, [1118]), (71, [1118]), (79, [1118]), (98, [1118]), (113, [1107]), (117, [1107]), (125, [1112]), (132, [1110]), (136, [1112])]
def mp_57 : List (Nat × List Nat) := [(1, [202])]
def mp_58 : List (Nat × List Nat) := [(2, [1107]), (6, [1118])]
def mp_59 : List (Nat × List Nat) := [(1, [121])]
def mp_60 : List (Nat × List Nat) := []
def mp_61 : List (Nat × List Nat) := [(49, [391]), (62, [393]), (78, [391]), (97, [393])]
def mp_62 : List (Nat × List Nat) := [(1, [125]), (7, [385, 386, 76]), (14, [275, 276, 277, 1380]), (18, [304, 307, 305]), (27, [121]), (30, [388, 389, 76]), (41, [121]), (50, [125])]
def mp_63 : List (Nat × List Nat) := [(2, [382, 1385, 134, 383])]
def mp_64 : List (Nat × List Nat) := [(9, [482, 104, 55]), (13, [483, 106]), (17, [484, 380, 379]), (27, [484, 380, 379]), (30, [487, 405, 404])]
def mp_65 : List (Nat × List Nat) := [(2, [436, 437, 70]), (24, [300, 191, 62]), (27, [301, 303, 302, 71])]
def mp_66 : List (Nat × List Nat) := [(13, [433, 434, 70]), (18, [295, 296, 97, 98, 297, 298]), (21, [299])]
def mp_67 : List (Nat × List Nat) := [(1, [415, 88]), (5, [416, 419, 417]), (10, [421, 423, 422, 424, 425]), (16, [429, 307, 305]), (24, [527]), (32, [430, 431, 70]), (35, [526]), (41, [343]), (48, [124]), (62, [526]), (67, [526]), (75, [527]), (81, [527]), (91, [430, 431, 70]), (94, [526])]
def mp_68 : List (Nat × List Nat) := [(3, [412, 413])]
def mp_69 : List (Nat × List Nat) := [(0, [407, 408, 56]), (5, [409, 410])]
def mp_70 : List (Nat × List Nat) := [(3, [910, 605, 56])]
def mp_71 : List (Nat × List Nat) := [(1, [837, 839, 838]), (8, [526]), (12, [907, 908, 72]), (17, [526])]
def mp_72 : List (Nat × List Nat) := []
def mp_73 : List (Nat × List Nat) := [(1, [879, 880, 51]), (8, [917, 918, 51])]
def mp_74 : List (Nat × List Nat) := []
def mp_75 : List (Nat × List Nat) := [(6, [902, 337, 336]), (18, [903, 905, 904]), (23, [914, 915, 51]), (30, [920, 921, 51]), (45, [829, 831, 830])]
def mp_76 : List (Nat × List Nat) := [(1, [928, 88]), (9, [931]), (17, [933]), (22, [929])]
def mp_77 : List (Nat × List Nat) := []
def mp_78 : List (Nat × List Nat) := [(3, [321]), (6, [323, 324, 73])]
def mp_79 : List (Nat × List Nat) := [(1, [415, 88]), (6, [526]), (11, [527])]
def mp_80 : List (Nat × List Nat) := [(7, [962, 408, 56]), (16, [963, 431, 70]), (20, [964, 965])]
def mp_81 : List (Nat × List Nat) := [(1, [841, 337, 336]), (8, [957, 319, 56]), (28, [837, 839, 838]), (35, [526]), (41, [958, 959, 72]), (48, [526])]
def mp_82 : List (Nat × List Nat) := [(13, [993, 303, 302, 71])]
def mp_83 : List (Nat × List Nat) := [(1, [935]), (5, [931]), (14, [931]), (17, [990, 991, 80]), (20, [931]), (25, [933]), (28, [990, 991, 80]), (31, [933]), (35, [931]), (39, [935]), (46, [933]), (51, [935]), (57, [935])]
def mp_84 : List (Nat × List Nat) := [(1, [172]), (6, [173]), (12, [173])]
def mp_85 : List (Nat × List Nat) := [(26, [807])]
def mp_86 : List (Nat × List Nat) := [(1, [917, 918, 51])]
def mp_87 : List (Nat × List Nat) := [(9, [201]), (16, [200]), (27, [812]), (32, [902, 337, 336]), (43, [812]), (47, [902, 337, 336]), (50, [1002, 1004, 1003]), (70, [812]), (86, [903, 905, 904]), (93, [1006, 1007, 51]), (98, [810]), (118, [879, 880, 51]), (144, [812]), (149, [812]), (157, [812]), (162, [812]), (170, [808]), (175, [808])]
def mp_88 : List (Nat × List Nat) := [(1, [914, 915, 51]), (7, [1012]), (11, [1006, 1007, 51]), (20, [920, 921, 51]), (26, [1012]), (43, [1014]), (49, [829, 831, 830])]
def mp_89 : List (Nat × List Nat) := [(1, [902, 337, 336]), (21, [902, 337, 336]), (32, [903, 905, 904]), (35, [917, 918, 51]), (56, [981, 983, 982, 985, 987, 988, 986, 984, 995, 712, 997, 996, 994]), (65, [981, 983, 982, 985, 987, 988, 986, 984, 995, 712, 997, 996, 994]), (76, [902, 337, 336]), (90, [903, 905, 904]), (93, [917, 918, 51]), (106, [981, 983, 982, 985, 987, 988, 986, 984, 995, 712, 997, 996, 994]), (117, [998, 14, 1000]), (131, [903, 905, 904]), (134, [1009, 1010, 51]), (141, [981, 983, 982, 985, 987, 988, 986, 984, 995, 712, 997, 996, 994]), (158, [815]), (167, [814]), (177, [981, 983, 982, 985, 987, 988, 986, 984, 995, 712, 997, 996, 994]), (201, [812])]
def mp_90 : List (Nat × List Nat) := [(4, [981, 983, 982, 985, 987, 988, 986, 984, 995, 712, 997, 996, 994]), (15, [902, 337, 336]), (25, [903, 905, 904]), (28, [1009, 1010, 51]), (35, [981, 983, 982, 985, 987, 988, 986, 984, 995, 712, 997, 996, 994])]
def mp_91 : List (Nat × List Nat) := [(4, [902, 337, 336]), (12, [903, 905, 904]), (22, [914, 915, 51]), (31, [902, 337, 336]), (40, [903, 905, 904]), (43, [914, 915, 51]), (60, [953, 955, 954]), (65, [976, 13, 978]), (73, [920, 921, 51]), (82, [902, 337, 336]), (91, [903, 905, 904]), (94, [920, 921, 51]), (111, [953, 955, 954]), (116, [1016, 15, 1018]), (122, [902, 337, 336]), (131, [903, 905, 904]), (142, [903, 905, 904]), (155, [981, 983, 982, 985, 987, 988, 986, 984, 995, 712, 997, 996, 994]), (180, [1009, 1010, 51]), (184, [981, 983, 982, 985, 987, 988, 986, 984, 995, 712, 997, 996, 994])]
def mp_92 : List (Nat × List Nat) := [(1, [199]), (4, [898, 405, 404]), (14, [198]), (22, [899, 900, 51]), (33, [799, 800, 51]), (37, [204]), (45, [752, 753, 68]), (53, [138, 924, 80]), (58, [198]), (63, [925, 926]), (68, [930]), (71, [619]), (80, [949, 12, 951]), (84, [203]), (89, [204]), (95, [204]), (102, [206]), (106, [890, 247, 246]), (110, [204])]
def mp_93 : List (Nat × List Nat) := [(4, [894, 896, 895])]
def mp_94 : List (Nat × List Nat) := []
def mp_95 : List (Nat × List Nat) := [(2, [1220, 22, 1222]), (10, [1244, 26, 1246])]
def mp_96 : List (Nat × List Nat) := []
def mp_97 : List (Nat × List Nat) := []
def mp_98 : List (Nat × List Nat) := [(1, [1122]), (8, [1119]), (13, [1121]), (17, [1119]), (25, [1123]), (32, [1119]), (37, [1121]), (41, [1119]), (49, [1121]), (53, [1119])]
def mp_99 : List (Nat × List Nat) := []
def mp_100 : List (Nat × List Nat) := [(2, [1244, 26, 1246])]
def mp_101 : List (Nat × List Nat) := [(1, [1114]), (19, [1113]), (30, [1272, 33, 1274]), (59, [1111]), (72, [1276, 34, 1278]), (76, [1115]), (103, [1220, 22, 1222])]
def mp_102 : List (Nat × List Nat) := [(197, [1252, 28, 1254])]
def mp_103 : List (Nat × List Nat) := [(28, [1111]), (34, [1244, 26, 1246]), (60, [1264, 31, 1266]), (67, [1264, 31, 1266]), (85, [1111]), (91, [1244, 26, 1246]), (102, [1264, 31, 1266]), (114, [1112]), (126, [1114]), (133, [1114]), (143, [1114]), (150, [1114]), (160, [1113]), (167, [1113]), (196, [1268, 32, 1270]), (226, [1111]), (232, [1276, 34, 1278]), (235, [1280, 35, 1282]), (240, [1264, 31, 1266]), (255, [1116]), (266, [1117]), (279, [1264, 31, 1266]), (291, [1114])]
def mp_104 : List (Nat × List Nat) := [(17, [1280, 35, 1282])]
def mp_105 : List (Nat × List Nat) := [(4, [1110]), (15, [1111]), (23, [1240, 25, 1242]), (31, [1110]), (39, [1111]), (44, [1240, 25, 1242]), (59, [1260, 30, 1262]), (67, [1248, 27, 1250]), (77, [1264, 31, 1266]), (86, [1284, 36, 1286]), (90, [1264, 31, 1266]), (95, [1110]), (103, [1111]), (108, [1248, 27, 1250]), (117, [1111]), (125, [1284, 36, 1286]), (129, [1264, 31, 1266]), (140, [1110]), (147, [1111]), (158, [1111]), (172, [1264, 31, 1266]), (191, [1252, 28, 1254]), (195, [1264, 31, 1266])]
def mp_106 : List (Nat × List Nat) := [(19, [1110]), (26, [1111]), (40, [1240, 25, 1242]), (49, [1248, 27, 1250]), (65, [1252, 28, 1254]), (93, [1119]), (106, [1107]), (110, [1107]), (119, [1120]), (123, [1119]), (129, [1121]), (133, [1119]), (144, [1256, 29, 1258]), (149, [1119]), (154, [1119]), (159, [1110]), (163, [1119])]
def mp_107 : List (Nat × List Nat) := [(6, [204]), (12, [1034, 1035, 74]), (21, [203])]
def mp_108 : List (Nat × List Nat) := [(2, [1030, 16, 1032]), (5, [936])]
def mp_109 : List (Nat × List Nat) := [(4, [1026, 1028, 1027])]
def mp_110 : List (Nat × List Nat) := [(6, [1119])]
def mp_111 : List (Nat × List Nat) := [(3, [1292, 37, 1294]), (14, [1107]), (18, [1107]), (25, [1121])]
def mp_112 : List (Nat × List Nat) := [(2, [1030, 16, 1032]), (12, [936]), (18, [1034, 1035, 74]), (27, [932]), (35, [934])]
def mp_113 : List (Nat × List Nat) := [(5, [1052, 1054, 1053])]
def mp_114 : List (Nat × List Nat) := [(3, [1292, 37, 1294]), (15, [1121]), (20, [1292, 37, 1294]), (40, [1107]), (44, [1107]), (51, [1122]), (65, [1123])]
def mp_115 : List (Nat × List Nat) := [(4, [935]), (11, [931])]
def mp_116 : List (Nat × List Nat) := [(4, [935]), (11, [931])]
def mp_117 : List (Nat × List Nat) := [(6, [1012]), (13, [1012]), (41, [1014]), (48, [1014]), (60, [903, 905, 904])]
def mp_118 : List (Nat × List Nat) := [(1, [1070, 1071, 51])]
def mp_119 : List (Nat × List Nat) := [(9, [201]), (16, [200]), (27, [815]), (43, [815]), (50, [1002, 1004, 1003]), (70, [815]), (82, [932]), (92, [814]), (121, [815]), (126, [815]), (134, [815]), (139, [815]), (147, [808]), (152, [808])]
def mp_120 : List (Nat × List Nat) := [(1, [205]), (9, [879, 880, 51]), (24, [767, 769, 768])]
def mp_121 : List (Nat × List Nat) := [(10, [932]), (43, [932]), (68, [932]), (74, [1067, 1068, 51]), (83, [205]), (87, [932]), (96, [1067, 1068, 51]), (99, [767, 769, 768]), (137, [932]), (186, [1073, 18, 1075]), (202, [812]), (224, [1070, 1071, 51]), (232, [810]), (258, [1077, 19, 1079]), (265, [879, 880, 51]), (298, [815])]
def mp_122 : List (Nat × List Nat) := [(2, [1030, 16, 1032]), (7, [205]), (11, [249, 251, 250]), (18, [936]), (26, [629, 631, 630]), (42, [205]), (47, [767, 769, 768]), (60, [633, 635, 634]), (69, [1063, 17, 1065]), (76, [205]), (79, [595, 1387, 425])]
def mp_123 : List (Nat × List Nat) := [(4, [1059, 1061, 1060])]
def mp_124 : List (Nat × List Nat) := [(1, [1135]), (9, [1220, 22, 1222]), (22, [1125]), (26, [1124]), (45, [1124]), (50, [1124]), (59, [1135]), (71, [1135]), (74, [1135])]
def mp_125 : List (Nat × List Nat) := [(10, [1284, 36, 1286])]
def mp_126 : List (Nat × List Nat) := [(1, [1116]), (19, [1113]), (30, [1272, 33, 1274]), (59, [1122]), (68, [1117])]
def mp_127 : List (Nat × List Nat) := [(11, [1280, 35, 1282]), (43, [1252, 28, 1254])]
def mp_128 : List (Nat × List Nat) := [(9, [1112]), (21, [1116]), (28, [1116]), (38, [1116]), (45, [1116]), (55, [1113]), (62, [1113]), (89, [1320, 42, 1322]), (118, [1122]), (123, [1324, 43, 1326]), (126, [1304, 38, 1306]), (139, [1114]), (150, [1115]), (162, [1304, 38, 1306]), (173, [1116])]
def mp_129 : List (Nat × List Nat) := [(8, [1122]), (26, [1135]), (39, [1122]), (65, [1122]), (71, [1312, 40, 1314]), (82, [1122]), (88, [1312, 40, 1314]), (93, [1304, 38, 1306]), (132, [1122]), (164, [1135]), (176, [1135]), (187, [1316, 41, 1318])]
def mp_130 : List (Nat × List Nat) := [(3, [1292, 37, 1294]), (14, [1107]), (18, [1107]), (28, [1124]), (39, [1121]), (52, [1122]), (63, [1304, 38, 1306]), (82, [1122]), (101, [1308, 39, 1310]), (111, [1124])]
def mp_131 : List (Nat × List Nat) := [(6, [205]), (9, [595, 1387, 425]), (21, [205]), (25, [596, 598, 597])]
def mp_132 : List (Nat × List Nat) := [(2, [1107]), (11, [1124]), (23, [1125])]
def mp_133 : List (Nat × List Nat) := [(5, [210]), (13, [209]), (18, [209]), (23, [210])]
def mp_134 : List (Nat × List Nat) := [(1, [641]), (16, [643])]
def mp_135 : List (Nat × List Nat) := [(1, [155])]
def mp_136 : List (Nat × List Nat) := [(1, [694]), (7, [696]), (32, [300, 191, 62]), (35, [301, 303, 302, 71])]
def mp_137 : List (Nat × List Nat) := [(3, [673, 1395, 1394, 674, 690]), (6, [691, 692, 70])]
def mp_138 : List (Nat × List Nat) := [(1, [154]), (11, [154]), (14, [152]), (27, [669, 284, 69]), (33, [154]), (37, [670, 671, 70]), (41, [154]), (49, [697, 194, 62]), (52, [698]), (56, [154])]
def mp_139 : List (Nat × List Nat) := [(2, [155]), (7, [665, 7, 667])]
def mp_140 : List (Nat × List Nat) := [(7, [661, 6, 663]), (19, [155])]
def mp_141 : List (Nat × List Nat) := [(2, [157, 158]), (7, [157, 158]), (13, [154]), (17, [155]), (20, [657, 5, 659])]
def mp_142 : List (Nat × List Nat) := [(3, [706, 608, 73])]
def mp_143 : List (Nat × List Nat) := [(1, [154])]
def mp_144 : List (Nat × List Nat) := [(2, [155]), (5, [703, 704, 81]), (11, [707, 709, 708])]
def mp_145 : List (Nat × List Nat) := [(2, [207]), (5, [649, 651, 650]), (12, [207]), (15, [166, 167, 61]), (19, [168, 169]), (22, [653, 655, 654]), (27, [207]), (31, [699, 701, 700]), (34, [166]), (40, [174])]
def mp_146 : List (Nat × List Nat) := [(10, [629, 631, 630]), (18, [936]), (27, [633, 635, 634]), (39, [174]), (47, [174]), (76, [930]), (89, [637, 639, 638]), (99, [645, 4, 647]), (108, [176]), (112, [196]), (127, [190, 191, 62]), (139, [711, 713, 712]), (156, [932]), (163, [711, 713, 712]), (175, [629, 631, 630])]
def mp_147 : List (Nat × List Nat) := [(1, [930]), (4, [719]), (18, [208]), (35, [197]), (41, [210]), (59, [621, 2, 623]), (64, [210]), (68, [210]), (80, [210]), (84, [208]), (96, [207]), (101, [699, 701, 700]), (104, [166]), (111, [210]), (115, [197]), (128, [621, 2, 623]), (134, [209]), (137, [177]), (144, [210]), (150, [210]), (153, [178]), (163, [196]), (168, [174]), (179, [176]), (182, [176]), (198, [207]), (202, [208]), (205, [699, 701, 700]), (208, [166]), (215, [937]), (220, [208])]
def mp_148 : List (Nat × List Nat) := [(1, [206]), (10, [206]), (15, [208]), (20, [209]), (25, [210]), (32, [204]), (39, [203]), (44, [930]), (47, [619]), (55, [621, 2, 623]), (63, [203]), (70, [203]), (76, [208]), (79, [625, 3, 627]), (82, [715, 8, 717])]
def mp_149 : List (Nat × List Nat) := [(1, [615, 1, 617]), (5, [208]), (16, [207]), (20, [208]), (25, [699, 701, 700]), (28, [166]), (31, [177])]
def mp_150 : List (Nat × List Nat) := []
def mp_151 : List (Nat × List Nat) := [(1, [1129]), (5, [1109]), (15, [1128]), (20, [1128]), (25, [1129]), (29, [1134]), (38, [1134]), (45, [1128]), (50, [1129]), (56, [1120]), (66, [1108]), (70, [1126]), (87, [1126]), (94, [1128]), (98, [1131]), (105, [1129]), (109, [1132]), (116, [1133]), (124, [1127]), (139, [1128]), (142, [1130]), (147, [1129]), (152, [1129]), (157, [1126])]
def mp_152 : List (Nat × List Nat) := [(8, [1120]), (14, [1344, 46, 1346]), (17, [1352, 48, 1354]), (22, [1126])]
def mp_153 : List (Nat × List Nat) := [(4, [1126]), (17, [1121]), (44, [1122]), (67, [1108]), (72, [1120]), (78, [1344, 46, 1346]), (85, [1126]), (100, [1126]), (114, [1126]), (131, [1348, 47, 1350]), (141, [1126]), (148, [1127]), (152, [1126]), (159, [1126]), (164, [1126]), (175, [1126]), (184, [1127]), (188, [1126]), (192, [1122]), (201, [1126]), (206, [1126]), (226, [1348, 47, 1350]), (242, [1126]), (252, [1348, 47, 1350])]
def mp_154 : List (Nat × List Nat) := [(2, [1128]), (7, [1129]), (12, [1130]), (17, [1131]), (22, [1132]), (34, [1133]), (50, [1119]), (57, [1134]), (64, [1120]), (75, [1129]), (82, [1128]), (91, [1128]), (94, [1128]), (99, [1129]), (106, [1120]), (118, [1340, 45, 1342]), (133, [1129]), (140, [1109]), (146, [1129]), (173, [1128]), (180, [1128]), (185, [1128]), (195, [1129]), (204, [1129]), (210, [1340, 45, 1342])]
def mp_155 : List (Nat × List Nat) := [(2, [1107]), (8, [1336, 44, 1338]), (12, [1130])]
def mp_156 : List (Nat × List Nat) := [(2, [175]), (10, [175]), (14, [173]), (26, [172]), (31, [175])]
def mp_157 : List (Nat × List Nat) := [(7, [1088, 613, 612]), (19, [197]), (31, [196]), (37, [1034, 1035, 74]), (47, [197]), (56, [211]), (60, [174]), (63, [103, 104, 55]), (67, [105, 106]), (76, [1089, 380, 379]), (79, [898, 405, 404]), (84, [211]), (87, [1016, 15, 1018]), (91, [211]), (95, [196]), (99, [211]), (102, [174]), (106, [176]), (110, [211]), (114, [1090, 1092, 1091]), (124, [208]), (131, [207]), (136, [699, 701, 700]), (139, [166]), (146, [177]), (155, [178]), (165, [1090, 1092, 1091])]
def mp_158 : List (Nat × List Nat) := [(7, [1084, 1086, 1085])]
def mp_159 : List (Nat × List Nat) := [(1, [1108]), (14, [1133]), (23, [1284, 36, 1286]), (39, [1133])]
def mp_160 : List (Nat × List Nat) := [(3, [1336, 44, 1338]), (14, [1130]), (26, [1109]), (38, [1108]), (49, [1107]), (53, [1107]), (63, [1109]), (73, [1360, 49, 1362]), (77, [1133])]
def mp_161 : List (Nat × List Nat) := [(2, [1030, 16, 1032]), (7, [615, 1, 617]), (11, [937]), (22, [937]), (25, [177]), (32, [937]), (35, [178])]
def mp_162 : List (Nat × List Nat) := [(4, [1097, 1099, 1098])]
def mp_163 : List (Nat × List Nat) := [(3, [1292, 37, 1294]), (14, [1107]), (18, [1107]), (29, [1336, 44, 1338]), (33, [1134])]
def mp_164 : List (Nat × List Nat) := [(1, [615, 1, 617]), (10, [204]), (21, [203]), (26, [930]), (29, [719]), (36, [203]), (41, [937])]
def mp_165 : List (Nat × List Nat) := [(2, [1107]), (8, [1336, 44, 1338]), (17, [1119]), (28, [1120]), (38, [1134])]
def mp_166 : List (Nat × List Nat) := [(2, [204]), (7, [206])]
def mp_167 : List (Nat × List Nat) := [(2, [1107]), (7, [1119])]
def mp_168 : List (Nat × List Nat) := [(0, [82, 83, 51]), (6, [729, 730, 50]), (11, [729, 730, 50]), (14, [84, 85]), (18, [1101, 1102, 63]), (24, [729, 730, 50]), (29, [729, 730, 50]), (32, [1103, 1104]), (137, [732, 733, 50]), (150, [1200, 1202, 1201]), (156, [1196, 1198, 1197]), (187, [245, 247, 246]), (191, [1204, 1206, 1205]), (213, [784, 785, 50]), (233, [1208, 1210, 1209]), (239, [1196, 1198, 1197]), (270, [587, 589, 588]), (274, [1232, 1234, 1233]), (290, [891, 892, 50]), (302, [1236, 1238, 1237]), (308, [1196, 1198, 1197]), (346, [1020, 1021, 50]), (358, [1288, 1290, 1289]), (364, [1196, 1198, 1197]), (408, [1049, 1050, 50]), (426, [1296, 1298, 1297]), (432, [1196, 1198, 1197]), (470, [1056, 1057, 50]), (482, [1300, 1302, 1301]), (488, [1196, 1198, 1197]), (525, [591, 593, 592]), (535, [1328, 1330, 1329]), (544, [611, 613, 612]), (548, [1332, 1334, 1333]), (576, [1081, 1082, 50]), (600, [1356, 1358, 1357]), (606, [1196, 1198, 1197]), (644, [1094, 1095, 50]), (656, [1364, 1366, 1365]), (662, [1196, 1198, 1197]), (699, [721, 723, 722]), (709, [1368, 1370, 1369]), (718, [725, 727, 726]), (722, [1372, 1374, 1373])]
def mj_pl (y : Nat) : List (Nat × List Nat) := ([mp_0, mp_1, mp_2, mp_3, mp_4, mp_5, mp_6, mp_7, mp_8, mp_9, mp_10, mp_11, mp_12, mp_13, mp_14, mp_15, mp_16, mp_17, mp_18, mp_19, mp_20, mp_21, mp_22, mp_23, mp_24, mp_25, mp_26, mp_27, mp_28, mp_29, mp_30, mp_31, mp_32, mp_33, mp_34, mp_35, mp_36, mp_37, mp_38, mp_39, mp_40, mp_41, mp_42, mp_43, mp_44, mp_45, mp_46, mp_47, mp_48, mp_49, mp_50, mp_51, mp_52, mp_53, mp_54, mp_55, mp_56, mp_57, mp_58, mp_59, mp_60, mp_61, mp_62, mp_63, mp_64, mp_65, mp_66, mp_67, mp_68, mp_69, mp_70, mp_71, mp_72, mp_73, mp_74, mp_75, mp_76, mp_77, mp_78, mp_79, mp_80, mp_81, mp_82, mp_83, mp_84, mp_85, mp_86, mp_87, mp_88, mp_89, mp_90, mp_91, mp_92, mp_93, mp_94, mp_95, mp_96, mp_97, mp_98, mp_99, mp_100, mp_101, mp_102, mp_103, mp_104, mp_105, mp_106, mp_107, mp_108, mp_109, mp_110, mp_111, mp_112, mp_113, mp_114, mp_115, mp_116, mp_117, mp_118, mp_119, mp_120, mp_121, mp_122, mp_123, mp_124, mp_125, mp_126, mp_127, mp_128, mp_129, mp_130, mp_131, mp_132, mp_133, mp_134, mp_135, mp_136, mp_137, mp_138, mp_139, mp_140, mp_141, mp_142, mp_143, mp_144, mp_145, mp_146, mp_147, mp_148, mp_149, mp_150, mp_151, mp_152, mp_153, mp_154, mp_155, mp_156, mp_157, mp_158, mp_159, mp_160, mp_161, mp_162, mp_163, mp_164, mp_165, mp_166, mp_167, mp_168] : List (List (Nat × List Nat))).getD y []
def mj_pq (pc : Nat) : List (Nat × List Nat) → List Nat
  | [] => []
  | (a, l) :: r => bif Nat.beq a pc then l else mj_pq pc r
def mj_cp0 (y : Nat) : Nat := ([731, 92, 110, 107, 150, 147, 144, 170, 192, 195, 86, 1105, 428, 426, 285, 282, 294, 278, 308, 776, 773, 770, 740, 734, 1203, 1199, 255, 252, 248, 1207, 609, 606, 602, 599, 801, 805, 840, 342, 338, 847, 852, 844, 836, 832, 881, 885, 889, 798, 794, 790, 786, 1219, 1223, 1227, 1231, 1215, 1211, 590, 1235, 420, 387, 390, 384, 381, 438, 435, 432, 414, 411, 406, 909, 906, 919, 916, 922, 901, 927, 325, 320, 966, 960, 956, 992, 989, 714, 1005, 1008, 1001, 1011, 979, 1019, 952, 897, 893, 1247, 1243, 1251, 1255, 1267, 1275, 1279, 1271, 1283, 1263, 1287, 1259, 1239, 1033, 1029, 1022, 1295, 1291, 1055, 1051, 1299, 632, 636, 1072, 1069, 1076, 1080, 1066, 1062, 1058, 1307, 1315, 1323, 1327, 1319, 1311, 1303, 594, 1331, 624, 640, 652, 693, 672, 668, 664, 660, 656, 705, 710, 702, 648, 628, 718, 618, 614, 1347, 1355, 1351, 1343, 1339, 1335, 1093, 1087, 1083, 1363, 1359, 1100, 1096, 1367, 724, 1371, 728, 1375, 0] : List Nat).getD y 0
/-- the instruction as the class file has it -/
def mj_rl (pc : Nat) (i : Instr) (n j : Nat) : Instr := match i with
  | .dload k => if n = pc + 1 then .iconst k else if n = pc + 2 then .bipush k else .sipush k
  | .dstore k => if n = pc + 1 then .iconst (- (k : Int)) else if n = pc + 2 then .bipush (- (k : Int)) else .sipush (- (k : Int))
  | .multianewarray k c => .iinc k c
  | .ifCond c _ => .ifCond c ((j : Int) - pc)
  | .if_icmp c _ => .if_icmp c ((j : Int) - pc)
  | .if_acmp c _ => .if_acmp c ((j : Int) - pc)
  | .ifnull _ => .ifnull ((j : Int) - pc)
  | .ifnonnull _ => .ifnonnull ((j : Int) - pc)
  | .goto _ => .goto ((j : Int) - pc)
  | .tableswitch d lo hi offs => .tableswitch (d - pc) lo hi (offs.toList.map (fun x => x - (pc : Int))).toArray
  | .lookupswitch d ps => .lookupswitch (d - pc) (ps.toList.map (fun q => (q.1, q.2 - (pc : Int)))).toArray
  | .getfield _ => .getfield j
  | .fload _ => .getfield j
  | .putfield _ => .putfield j
  | .lstore _ => .putfield j
  | .fstore _ => .putfield j
  | .getstatic _ => .getstatic j
  | .new _ => .new j
  | .jsr _ => .new j
  | .anewarray _ => .anewarray j
  | .checkcast _ => .checkcast j
  | .ldc _ => .ldc j
  | .invokestatic _ => .invokestatic j
  | .invokespecial _ => .invokespecial j
  | .invokevirtual _ => .invokevirtual j
  | .invokeinterface _ c => .invokeinterface j c
  | i => i
def mj_dec (y pc : Nat) (i : Instr) (n j : Nat) : Bool := decide (pc < n) && decide (decode (mj_by y) pc = .ok (mj_rl pc i n j, n - pc))
def mj_ck1 (y : Nat) : Bool := (List.range (mj_sz y)).all fun pc => match mj_ins y pc with
  | none => true
  | some (i, n, j, _) => mj_dec y pc i n j
def mj_w (p : Nat) (w : Cond) : Bool := decide (lw_tbl[p]? = some w) && mj_mv w
theorem mj_w_ok {p : Nat} {w : Cond} (h : mj_w p w = true) : w ∈ lw_tbl ∧ mj_mv w = true := by
  simp only [mj_w, Bool.and_eq_true, decide_eq_true_eq] at h
  exact ⟨List.mem_of_getElem? h.1, h.2⟩
def mj_stn (q : Nat) : String × String × String := ([("java/lang/String", "COMPACT_STRINGS", "Z"), ("DotBook", "LETTERS", "[I"), ("DotBook", "MARK_CELLS", "[I"), ("DotBook$Kind", "$VALUES", "[LDotBook$Kind;"), ("DotBook$Kind", "PARAGRAPH", "LDotBook$Kind;"), ("DotBook$Kind", "HEADING", "LDotBook$Kind;"), ("DotBook$Kind", "ITEM", "LDotBook$Kind;"), ("DotBook$Kind", "BREAK", "LDotBook$Kind;"), ("java/util/ArrayList", "DEFAULTCAPACITY_EMPTY_ELEMENTDATA", "[Ljava/lang/Object;"), ("java/lang/Integer", "DigitTens", "[B"), ("java/lang/Integer", "DigitOnes", "[B"), ("jdk/internal/util/Preconditions", "SIOOBE_FORMATTER", "Ljava/util/function/BiFunction;")] : List (String × String × String)).getD q ("", "", "")
def mj_AN : Nat → String
  | 20 => "DotBook$Kind" | 21 => "DotBook$Rule" | 22 => "DotBook$Block" | 23 => "java/lang/Object" | _ => ""
def mj_KN : Nat → String
  | 20 => "[LDotBook$Kind;" | 17 => "[B" | 4 => "DotBook$Line" | _ => ""
/-- the class of a receiver by its tag -/
def mj_RN (t : Nat) : String := if t = 11 then "DotBook$Kind" else mj_CN t
def mj_nOI : MethodName := ⟨"java/lang/Object", "<init>", "()V"⟩
def mj_nCL : MethodName := ⟨"java/lang/Object", "clone", "()Ljava/lang/Object;"⟩
def mj_nGC : MethodName := ⟨"java/lang/Object", "getClass", "()Ljava/lang/Class;"⟩
def mj_nCP : MethodName := ⟨"java/lang/System", "arraycopy", "(Ljava/lang/Object;ILjava/lang/Object;II)V"⟩
def mj_nPU : MethodName := ⟨"DotBook$Sink", "put", "(II)V"⟩
def mj_flk (own : String) (j t k : Nat) (ps : List Nat) : Bool :=
  mj_w (ps.getD 0 0) (.fieldLink own j (mj_F t k).1 (mj_F t k).2.1 (mj_F t k).2.2.1) ||
  (mj_w (ps.getD 0 0) (.fieldLinkNest own j (mj_F t k).1 (mj_F t k).2.1 (mj_F t k).2.2.1 "DotBook") ||
  (mj_w (ps.getD 0 0) (.fieldLink own j "java/util/ArrayList" (mj_F t k).2.1 (mj_F t k).2.2.1) && mj_w (ps.getD 1 0) (.sameField "java/util/ArrayList" (mj_F t k).1 (mj_F t k).2.1 (mj_F t k).2.2.1)))
def mj_flkF (y : Nat) (own : String) (j t k : Nat) (ps : List Nat) : Bool := mj_flk own j t k ps && (((mj_F t k).2.2.2 == false) || (mj_w (ps.getD 0 0) (.fieldLink own j (mj_F t k).1 (mj_F t k).2.1 (mj_F t k).2.2.1) && ((mj_mn y).name == "<init>" && (mj_F t k).1 == own)))
def mj_npar (z n : Nat) : Bool := match parseMethodDescriptor (mj_mn z).desc with
  | some d => d.parameters.length == n
  | none => false
def mj_notMH (c : String) : Bool := !(c == "java/lang/invoke/MethodHandle") && !(c == "java/lang/invoke/VarHandle")
/-- what an instruction links by stands in the tables -/
def mj_lok (y pc : Nat) (i : Instr) (j k : Nat) (ps : List Nat) : Bool := let own := (mj_mn y).cls; match i with
  | .getfield t => decide (t < 11) && (decide (k < mj_nf t) && ((mj_rf t k == false) && mj_flk own j t k ps))
  | .fload t => decide (t < 11) && (decide (k < mj_nf t) && ((mj_rf t k == true) && mj_flk own j t k ps))
  | .putfield t => decide (t < 11) && (decide (k < mj_nf t) && ((mj_ty t k == .int) && mj_flkF y own j t k ps))
  | .lstore t => decide (t < 11) && (decide (k < mj_nf t) && (((mj_ty t k == .boolean) || (mj_ty t k == .byte)) && mj_flkF y own j t k ps))
  | .fstore t => decide (t < 11) && (decide (k < mj_nf t) && ((mj_rf t k == true) && mj_flkF y own j t k ps))
  | .getstatic q => decide (q < 12) && mj_w (ps.getD 0 0) (.fieldLink own j (mj_stn q).1 (mj_stn q).2.1 (mj_stn q).2.2)
  | .new t => decide (t < 8) && (mj_w (ps.getD 0 0) (.classLink own j (mj_CN t)) && (mj_w (ps.getD 1 0) (.instantiable (mj_CN t) (mj_nf t)) && mj_w (ps.getD 2 0) (.initialized (mj_CN t))))
  | .jsr q => (own == "DotBook") && (decide (8 ≤ q.toNat / 65536 ∧ q.toNat / 65536 ≤ 10) && (mj_w (ps.getD 0 0) (.classLink own j (mj_CN (q.toNat / 65536))) && (mj_w (ps.getD 1 0) (.instantiable (mj_CN (q.toNat / 65536)) 6) && (mj_w (ps.getD 2 0) (.initialized (mj_CN (q.toNat / 65536))) &&
      (decide (decode (mj_by y) (pc + 3) = .ok (.dup, 1)) && (decide (decode (mj_by y) (pc + 4) = .ok (.invokespecial (q.toNat % 65536), 3)) && (decide (decode (mj_by y) (pc + 7) = .ok (.athrow, 1)) && ((mj_hi y == []) && (match q.toNat / 65536 with | 8 => q.toNat % 65536 == 112 | 9 => q.toNat % 65536 == 119 | _ => q.toNat % 65536 == 233)))))))))
  | .anewarray t => decide (20 ≤ t ∧ t ≤ 23) && mj_w (ps.getD 0 0) (.classLink own j (mj_AN t))
  | .checkcast t => decide (t = 20 ∨ t = 17 ∨ t = 4) && mj_w (ps.getD 0 0) (.classLink own j (mj_KN t))
  | .ldc q => match q with
    | 0 => (own == "DotBook") && (j == 137)
    | 1 => (own == "DotBook") && (j == 27)
    | 2 => mj_w (ps.getD 0 0) (.classLink own j "[Ljava/lang/Object;")
    | 3 => mj_w (ps.getD 0 0) (.constant own j (nI 2147483647))
    | 4 => mj_w (ps.getD 0 0) (.constant own j (nI 2147483639))
    | _ => false
  | .invokestatic z => if z = 900 then mj_w (ps.getD 0 0) (.methodLink own j mj_nCP) && (mj_w (ps.getD 1 0) (.native mj_nCP) && (mj_w (ps.getD 2 0) (.static mj_nCP) && mj_w (ps.getD 3 0) (.initialized "java/lang/System")))
    else decide (z < mj_NM) && (mj_w (ps.getD 0 0) (.methodLink own j (mj_mn z)) && (mj_w (ps.getD 1 0) (.static (mj_mn z)) && (mj_w (ps.getD 2 0) (.initialized (mj_mn z).cls) && (mj_npar z (mj_na z) && mj_notMH (mj_mn z).cls))))
  | .invokespecial z => if z = 903 then mj_w (ps.getD 0 0) (.methodLink own j mj_nOI) && mj_w (ps.getD 1 0) (.instanceMethod mj_nOI)
    else decide (z < mj_NM) && (mj_npar z (mj_na z - 1) && (decide (0 < mj_na z) && (mj_notMH (mj_mn z).cls && (if (mj_mn z).name = "<init>" then (mj_w (ps.getD 0 0) (.methodLink own j (mj_mn z)) || mj_w (ps.getD 0 0) (.methodLinkNest own j (mj_mn z) "DotBook")) && (mj_w (ps.getD 1 0) (.instanceMethod (mj_mn z)) && (mj_rt z == none))
      else mj_w (ps.getD 0 0) (.methodLink own j (mj_mn z)) && (mj_w (ps.getD 1 0) (.sameMethod (mj_mn z).cls (mj_mn z).cls (mj_mn z).name (mj_mn z).desc) && (mj_w (ps.getD 2 0) (.superclass own (mj_mn z).cls) && (mj_w (ps.getD 3 0) (.instanceMethod (mj_mn z)) && decide (mj_rg z < 11))))))))
  | .invokevirtual z => if z = 901 then (let ad := if own = "DotBook$Kind" then "[LDotBook$Kind;" else "[B"; mj_w (ps.getD 0 0) (.methodLink own j ⟨ad, "clone", "()Ljava/lang/Object;"⟩) && (mj_w (ps.getD 1 0) (.sameMethod ad "java/lang/Object" "clone" "()Ljava/lang/Object;") && (mj_w (ps.getD 2 0) (.native mj_nCL) && (mj_w (ps.getD 3 0) (.instanceMethod mj_nCL) && (mj_w (ps.getD 4 0) (.selects ad ⟨ad, "clone", "()Ljava/lang/Object;"⟩ mj_nCL) && mj_w (ps.getD 5 0) (.castable ad "java/lang/Cloneable"))))))
    else if z = 902 then mj_w (ps.getD 0 0) (.methodLink own j mj_nGC) && (mj_w (ps.getD 1 0) (.declares mj_nGC) && (mj_w (ps.getD 2 0) (.selects "[Ljava/lang/Object;" mj_nGC mj_nGC) && (mj_w (ps.getD 3 0) (.instanceMethod mj_nGC) && mj_w (ps.getD 4 0) (.native mj_nGC))))
    else decide (z < mj_NM) && (mj_npar z (mj_na z - 1) && (decide (0 < mj_na z) && (mj_notMH (mj_mn z).cls && (decide (mj_rg z < 12) && (
      (mj_w (ps.getD 0 0) (.methodLink own j (mj_mn z)) && (mj_w (ps.getD 1 0) (.selects (mj_RN (mj_rg z)) (mj_mn z) (mj_mn z)) && mj_w (ps.getD 2 0) (.instanceMethod (mj_mn z)))) ||
      ((mj_w (ps.getD 0 0) (.methodLink own j (mj_mn z)) && (mj_w (ps.getD 1 0) (.privateMethod (mj_mn z)) && (mj_w (ps.getD 2 0) (.instanceMethod (mj_mn z)) && mj_w (ps.getD 3 0) (.sameMethod (mj_mn z).cls (mj_mn z).cls (mj_mn z).name (mj_mn z).desc)))) ||
      (mj_w (ps.getD 0 0) (.methodLink own j ⟨"java/lang/AbstractStringBuilder", (mj_mn z).name, (mj_mn z).desc⟩) && (mj_w (ps.getD 1 0) (.sameMethod "java/lang/AbstractStringBuilder" "java/lang/AbstractStringBuilder" (mj_mn z).name (mj_mn z).desc) && (mj_w (ps.getD 2 0) (.instanceMethod ⟨"java/lang/AbstractStringBuilder", (mj_mn z).name, (mj_mn z).desc⟩) && (mj_w (ps.getD 3 0) (.selects (mj_RN (mj_rg z)) ⟨"java/lang/AbstractStringBuilder", (mj_mn z).name, (mj_mn z).desc⟩ (mj_mn z)) && mj_w (ps.getD 4 0) (.instanceMethod (mj_mn z))))))))))))
  | .invokeinterface _ _ => mj_w (ps.getD 0 0) (.methodLink own j mj_nPU) && (mj_w (ps.getD 1 0) (.declares mj_nPU) && (mj_w (ps.getD 2 0) (.interfaceMethod "DotBook$Sink" "DotBook$Sink" "put" "(II)V") &&
      (mj_w (ps.getD 3 0) (.selects "DotBook$Block" mj_nPU (mj_mn mj_yB)) && (mj_w (ps.getD 4 0) (.instanceMethod (mj_mn mj_yB)) && (mj_w (ps.getD 5 0) (.publicMethod (mj_mn mj_yB)) && (mj_w (ps.getD 6 0) (.unhidden "DotBook$Block" "put" "(II)V") && (mj_w (ps.getD 7 0) (.castable "DotBook$Block" "DotBook$Sink") &&
      (mj_w (ps.getD 8 0) (.selects "DotBook$Line" mj_nPU (mj_mn mj_yL)) && (mj_w (ps.getD 9 0) (.instanceMethod (mj_mn mj_yL)) && (mj_w (ps.getD 10 0) (.publicMethod (mj_mn mj_yL)) && (mj_w (ps.getD 11 0) (.unhidden "DotBook$Line" "put" "(II)V") && mj_w (ps.getD 12 0) (.castable "DotBook$Line" "DotBook$Sink"))))))))))))
  | _ => true
def mj_ck2 (y : Nat) : Bool := (List.range (mj_sz y)).all fun pc => match mj_ins y pc with
  | none => true
  | some (i, _, j, k) => mj_lok y pc i j k (mj_pq pc (mj_pl y))
def mj_ck1r (y a n : Nat) : Bool := (List.range n).all fun q => match mj_ins y (a + q) with
  | none => true
  | some (i, m, j, _) => mj_dec y (a + q) i m j
theorem mj_ck1_of {y n : Nat} (h0 : mj_ck1r y 0 n = true) (h1 : mj_ck1r y n (mj_sz y - n) = true) : mj_ck1 y = true := by
  refine List.all_eq_true.mpr (fun pc hp => ?_)
  have hp := List.mem_range.mp hp
  rcases Nat.lt_or_ge pc n with q | q
  · have := List.all_eq_true.mp h0 pc (List.mem_range.mpr q)
    simpa using this
  · have := List.all_eq_true.mp h1 (pc - n) (List.mem_range.mpr (by omega))
    simpa [Nat.add_sub_cancel' q] using this
theorem mj_ck1r_app {y a n m : Nat} (h0 : mj_ck1r y a n = true) (h1 : mj_ck1r y (a + n) m = true) : mj_ck1r y a (n + m) = true := by
  refine List.all_eq_true.mpr (fun pc hp => ?_)
  have hp := List.mem_range.mp hp
  rcases Nat.lt_or_ge pc n with q | q
  · exact List.all_eq_true.mp h0 pc (List.mem_range.mpr q)
  · have := List.all_eq_true.mp h1 (pc - n) (List.mem_range.mpr (by omega))
    rw [Nat.add_assoc, Nat.add_sub_cancel' q] at this
    exact this
end
section
/-! THE PROGRAM IS CHECKED against the class files' bytes -/
set_option maxRecDepth 100000 in
theorem mj_ck1_0 : (List.range 47).all mj_ck1 = true := by decide +kernel
set_option maxRecDepth 100000 in
theorem mj_ck1_1 : ((List.range 43).map (· + 47)).all mj_ck1 = true := by decide +kernel
set_option maxRecDepth 100000 in
theorem mj_ck1_2 : ((List.range 31).map (· + 90)).all mj_ck1 = true := by decide +kernel
end
section
set_option maxRecDepth 100000 in
theorem mj_ck1_3 : ((List.range 27).map (· + 121)).all mj_ck1 = true := by decide +kernel
set_option maxRecDepth 100000 in
theorem mj_ck1_4a : ((List.range 20).map (· + 148)).all mj_ck1 = true := by decide +kernel
end
section
set_option maxRecDepth 100000 in
theorem mj_law_0 : mj_ck1r 168 0 60 = true := by decide +kernel
set_option maxRecDepth 100000 in
theorem mj_law_60 : mj_ck1r 168 60 60 = true := by decide +kernel
set_option maxRecDepth 100000 in
theorem mj_law_120 : mj_ck1r 168 120 60 = true := by decide +kernel
set_option maxRecDepth 100000 in
theorem mj_law_180 : mj_ck1r 168 180 60 = true := by decide +kernel
set_option maxRecDepth 100000 in
theorem mj_law_240 : mj_ck1r 168 240 60 = true := by decide +kernel
end
section
set_option maxRecDepth 100000 in
theorem mj_law_300 : mj_ck1r 168 300 60 = true := by decide +kernel
set_option maxRecDepth 100000 in
theorem mj_law_360 : mj_ck1r 168 360 60 = true := by decide +kernel
set_option maxRecDepth 100000 in
theorem mj_law_420 : mj_ck1r 168 420 60 = true := by decide +kernel
set_option maxRecDepth 100000 in
theorem mj_law_480 : mj_ck1r 168 480 60 = true := by decide +kernel
set_option maxRecDepth 100000 in
theorem mj_law_540 : mj_ck1r 168 540 60 = true := by decide +kernel
end
section
set_option maxRecDepth 100000 in
theorem mj_law_600 : mj_ck1r 168 600 60 = true := by decide +kernel
set_option maxRecDepth 100000 in
theorem mj_law_660 : mj_ck1r 168 660 60 = true := by decide +kernel
set_option maxRecDepth 100000 in
theorem mj_law_720 : mj_ck1r 168 720 16 = true := by decide +kernel
theorem mj_lawA_60 : mj_ck1r 168 0 60 = true := mj_law_0
theorem mj_lawA_120 : mj_ck1r 168 0 120 = true := mj_ck1r_app (a := 0) (n := 60) (m := 60) mj_lawA_60 (by rw [Nat.zero_add]; exact mj_law_60)
theorem mj_lawA_180 : mj_ck1r 168 0 180 = true := mj_ck1r_app (a := 0) (n := 120) (m := 60) mj_lawA_120 (by rw [Nat.zero_add]; exact mj_law_120)
theorem mj_lawA_240 : mj_ck1r 168 0 240 = true := mj_ck1r_app (a := 0) (n := 180) (m := 60) mj_lawA_180 (by rw [Nat.zero_add]; exact mj_law_180)
theorem mj_lawA_300 : mj_ck1r 168 0 300 = true := mj_ck1r_app (a := 0) (n := 240) (m := 60) mj_lawA_240 (by rw [Nat.zero_add]; exact mj_law_240)
theorem mj_lawA_360 : mj_ck1r 168 0 360 = true := mj_ck1r_app (a := 0) (n := 300) (m := 60) mj_lawA_300 (by rw [Nat.zero_add]; exact mj_law_300)
theorem mj_lawA_420 : mj_ck1r 168 0 420 = true := mj_ck1r_app (a := 0) (n := 360) (m := 60) mj_lawA_360 (by rw [Nat.zero_add]; exact mj_law_360)
theorem mj_lawA_480 : mj_ck1r 168 0 480 = true := mj_ck1r_app (a := 0) (n := 420) (m := 60) mj_lawA_420 (by rw [Nat.zero_add]; exact mj_law_420)
theorem mj_lawA_540 : mj_ck1r 168 0 540 = true := mj_ck1r_app (a := 0) (n := 480) (m := 60) mj_lawA_480 (by rw [Nat.zero_add]; exact mj_law_480)
theorem mj_lawA_600 : mj_ck1r 168 0 600 = true := mj_ck1r_app (a := 0) (n := 540) (m := 60) mj_lawA_540 (by rw [Nat.zero_add]; exact mj_law_540)
theorem mj_lawA_660 : mj_ck1r 168 0 660 = true := mj_ck1r_app (a := 0) (n := 600) (m := 60) mj_lawA_600 (by rw [Nat.zero_add]; exact mj_law_600)
theorem mj_lawA_720 : mj_ck1r 168 0 720 = true := mj_ck1r_app (a := 0) (n := 660) (m := 60) mj_lawA_660 (by rw [Nat.zero_add]; exact mj_law_660)
theorem mj_lawA_736 : mj_ck1r 168 0 736 = true := mj_ck1r_app (a := 0) (n := 720) (m := 16) mj_lawA_720 (by rw [Nat.zero_add]; exact mj_law_720)
theorem mj_ck1_law : mj_ck1 168 = true := mj_ck1_of mj_lawA_736 (by decide +kernel)
theorem mj_ck1_4 : ((List.range 21).map (· + 148)).all mj_ck1 = true := by
  rw [show (List.range 21) = List.range 20 ++ [20] from rfl, List.map_append, List.all_append, mj_ck1_4a]
  simpa using mj_ck1_law
end
section
/-! THE PROGRAM IS CHECKED against the tables -/
set_option maxRecDepth 100000 in
theorem mj_ck2_0 : (List.range 47).all mj_ck2 = true := by decide +kernel
set_option maxRecDepth 100000 in
theorem mj_ck2_1 : ((List.range 43).map (· + 47)).all mj_ck2 = true := by decide +kernel
set_option maxRecDepth 100000 in
theorem mj_ck2_2 : ((List.range 31).map (· + 90)).all mj_ck2 = true := by decide +kernel
set_option maxRecDepth 100000 in
theorem mj_ck2_3 : ((List.range 27).map (· + 121)).all mj_ck2 = true := by decide +kernel
set_option maxRecDepth 100000 in
theorem mj_ck2_4 : ((List.range 21).map (· + 148)).all mj_ck2 = true := by decide +kernel
theorem mj_part {f : Nat → Bool} (h0 : (List.range 47).all f = true) (h1 : ((List.range 43).map (· + 47)).all f = true) (h2 : ((List.range 31).map (· + 90)).all f = true) (h3 : ((List.range 27).map (· + 121)).all f = true) (h4 : ((List.range 21).map (· + 148)).all f = true) {y : Nat} (hy : y < 169) : f y = true := by
  have at' : ∀ {n k : Nat}, ((List.range n).map (· + k)).all f = true → k ≤ y → y < k + n → f y = true := by
    intro n k h a b
    rw [List.all_map] at h
    have := List.all_eq_true.mp h (y - k) (List.mem_range.mpr (by omega))
    simpa [Function.comp, Nat.sub_add_cancel a] using this
  rcases (show y < 47 ∨ (47 ≤ y ∧ y < 90) ∨ (90 ≤ y ∧ y < 121) ∨ (121 ≤ y ∧ y < 148) ∨ (148 ≤ y ∧ y < 169) by omega) with h | ⟨a, b⟩ | ⟨a, b⟩ | ⟨a, b⟩ | ⟨a, b⟩
  · exact List.all_eq_true.mp h0 y (List.mem_range.mpr h)
  · exact at' h1 a (by omega)
  · exact at' h2 a (by omega)
  · exact at' h3 a (by omega)
  · exact at' h4 a (by omega)
theorem mj_ins_in {y pc : Nat} {r : Instr × Nat × Nat × Nat} (h : mj_ins y pc = some r) : y < 169 ∧ pc < mj_sz y := by
  unfold mj_ins at h
  cases hb : Nat.ble (mj_sz y) pc with
  | true => rw [hb] at h; simp at h
  | false =>
    have h1 : ¬ mj_sz y ≤ pc := fun q => by rw [Nat.ble_eq_true_of_le q] at hb; cases hb
    refine ⟨?_, by omega⟩
    rcases Nat.lt_or_ge y 169 with q | q
    · exact q
    · exfalso
      unfold mj_sz at h1
      rw [Nat.ble_eq_true_of_le q] at h1
      exact h1 (Nat.zero_le _)
theorem mj_dec_ok {y pc : Nat} {i : Instr} {n j k : Nat} (h : mj_ins y pc = some (i, n, j, k)) : pc < n ∧ decode (mj_by y) pc = .ok (mj_rl pc i n j, n - pc) := by
  obtain ⟨h1, h2⟩ := mj_ins_in h
  have q := List.all_eq_true.mp (mj_part mj_ck1_0 mj_ck1_1 mj_ck1_2 mj_ck1_3 mj_ck1_4 h1) pc (List.mem_range.mpr h2)
  rw [h] at q
  simpa [mj_dec] using q
theorem mj_lok_ok {y pc : Nat} {i : Instr} {n j k : Nat} (h : mj_ins y pc = some (i, n, j, k)) : mj_lok y pc i j k (mj_pq pc (mj_pl y)) = true := by
  obtain ⟨h1, h2⟩ := mj_ins_in h
  have q := List.all_eq_true.mp (mj_part mj_ck2_0 mj_ck2_1 mj_ck2_2 mj_ck2_3 mj_ck2_4 h1) pc (List.mem_range.mpr h2)
  rw [h] at q
  exact q
end
section
/-- the word of a method's code -/
def mj_cw (y : Nat) : Cond := match mj_hi y with
  | [] => .code (mj_mn y) (mj_by y) (mj_ml y) (mj_rt y)
  | l => .codeWith (mj_mn y) (mj_by y) (mj_ml y) (mj_rt y) l
/-! the code words of the methods stand in the tables -/
theorem mj_in_1 {w : Cond} (h : w ∈ tables_1_1) : w ∈ lw_tbl := List.mem_append_right _ (show w ∈ tables_1_1 ++ (tables_1_2 ++ (tables_1_3 ++ (tables_1_4 ++ (tables_1_5 ++ tables_1_6)))) from List.mem_append_left _ h)
theorem mj_in_2 {w : Cond} (h : w ∈ tables_1_2) : w ∈ lw_tbl := List.mem_append_right _ (show w ∈ tables_1_1 ++ (tables_1_2 ++ (tables_1_3 ++ (tables_1_4 ++ (tables_1_5 ++ tables_1_6)))) from List.mem_append_right _ (List.mem_append_left _ h))
theorem mj_in_3 {w : Cond} (h : w ∈ tables_1_3) : w ∈ lw_tbl := List.mem_append_right _ (show w ∈ tables_1_1 ++ (tables_1_2 ++ (tables_1_3 ++ (tables_1_4 ++ (tables_1_5 ++ tables_1_6)))) from List.mem_append_right _ (List.mem_append_right _ (List.mem_append_left _ h)))
theorem mj_in_4 {w : Cond} (h : w ∈ tables_1_4) : w ∈ lw_tbl := List.mem_append_right _ (show w ∈ tables_1_1 ++ (tables_1_2 ++ (tables_1_3 ++ (tables_1_4 ++ (tables_1_5 ++ tables_1_6)))) from List.mem_append_right _ (List.mem_append_right _ (List.mem_append_right _ (List.mem_append_left _ h))))
theorem mj_in_5 {w : Cond} (h : w ∈ tables_1_5) : w ∈ lw_tbl := List.mem_append_right _ (show w ∈ tables_1_1 ++ (tables_1_2 ++ (tables_1_3 ++ (tables_1_4 ++ (tables_1_5 ++ tables_1_6)))) from List.mem_append_right _ (List.mem_append_right _ (List.mem_append_right _ (List.mem_append_right _ (List.mem_append_left _ h)))))
theorem mj_in_6 {w : Cond} (h : w ∈ tables_1_6) : w ∈ lw_tbl := List.mem_append_right _ (show w ∈ tables_1_1 ++ (tables_1_2 ++ (tables_1_3 ++ (tables_1_4 ++ (tables_1_5 ++ tables_1_6)))) from List.mem_append_right _ (List.mem_append_right _ (List.mem_append_right _ (List.mem_append_right _ (List.mem_append_right _ (h))))))
theorem mw_0 : mj_cw 0 ∈ lw_tbl := mj_in_3 (List.mem_of_getElem? (i := 201) rfl)
theorem mw_1 : mj_cw 1 ∈ lw_tbl := mj_in_1 (List.mem_of_getElem? (i := 42) rfl)
theorem mw_2 : mj_cw 2 ∈ lw_tbl := mj_in_1 (List.mem_of_getElem? (i := 60) rfl)
theorem mw_3 : mj_cw 3 ∈ lw_tbl := mj_in_1 (List.mem_of_getElem? (i := 57) rfl)
theorem mw_4 : mj_cw 4 ∈ lw_tbl := mj_in_1 (List.mem_of_getElem? (i := 100) rfl)
theorem mw_5 : mj_cw 5 ∈ lw_tbl := mj_in_1 (List.mem_of_getElem? (i := 97) rfl)
theorem mw_6 : mj_cw 6 ∈ lw_tbl := mj_in_1 (List.mem_of_getElem? (i := 94) rfl)
theorem mw_7 : mj_cw 7 ∈ lw_tbl := mj_in_1 (List.mem_of_getElem? (i := 120) rfl)
theorem mw_8 : mj_cw 8 ∈ lw_tbl := mj_in_1 (List.mem_of_getElem? (i := 142) rfl)
theorem mw_9 : mj_cw 9 ∈ lw_tbl := mj_in_1 (List.mem_of_getElem? (i := 145) rfl)
theorem mw_10 : mj_cw 10 ∈ lw_tbl := mj_in_1 (List.mem_of_getElem? (i := 36) rfl)
theorem mw_11 : mj_cw 11 ∈ lw_tbl := mj_in_5 (List.mem_of_getElem? (i := 95) rfl)
theorem mw_12 : mj_cw 12 ∈ lw_tbl := mj_in_2 (List.mem_of_getElem? (i := 138) rfl)
theorem mw_13 : mj_cw 13 ∈ lw_tbl := mj_in_2 (List.mem_of_getElem? (i := 136) rfl)
theorem mw_14 : mj_cw 14 ∈ lw_tbl := mj_in_1 (List.mem_of_getElem? (i := 235) rfl)
theorem mw_15 : mj_cw 15 ∈ lw_tbl := mj_in_1 (List.mem_of_getElem? (i := 232) rfl)
theorem mw_16 : mj_cw 16 ∈ lw_tbl := mj_in_2 (List.mem_of_getElem? (i := 4) rfl)
theorem mw_17 : mj_cw 17 ∈ lw_tbl := mj_in_1 (List.mem_of_getElem? (i := 228) rfl)
theorem mw_18 : mj_cw 18 ∈ lw_tbl := mj_in_2 (List.mem_of_getElem? (i := 18) rfl)
theorem mw_19 : mj_cw 19 ∈ lw_tbl := mj_in_4 (List.mem_of_getElem? (i := 6) rfl)
theorem mw_20 : mj_cw 20 ∈ lw_tbl := mj_in_4 (List.mem_of_getElem? (i := 3) rfl)
theorem mw_21 : mj_cw 21 ∈ lw_tbl := mj_in_4 (List.mem_of_getElem? (i := 0) rfl)
theorem mw_22 : mj_cw 22 ∈ lw_tbl := mj_in_3 (List.mem_of_getElem? (i := 210) rfl)
theorem mw_23 : mj_cw 23 ∈ lw_tbl := mj_in_3 (List.mem_of_getElem? (i := 204) rfl)
theorem mw_24 : mj_cw 24 ∈ lw_tbl := mj_in_5 (List.mem_of_getElem? (i := 193) rfl)
theorem mw_25 : mj_cw 25 ∈ lw_tbl := mj_in_5 (List.mem_of_getElem? (i := 189) rfl)
theorem mw_26 : mj_cw 26 ∈ lw_tbl := mj_in_1 (List.mem_of_getElem? (i := 205) rfl)
theorem mw_27 : mj_cw 27 ∈ lw_tbl := mj_in_1 (List.mem_of_getElem? (i := 202) rfl)
theorem mw_28 : mj_cw 28 ∈ lw_tbl := mj_in_1 (List.mem_of_getElem? (i := 198) rfl)
theorem mw_29 : mj_cw 29 ∈ lw_tbl := mj_in_5 (List.mem_of_getElem? (i := 197) rfl)
theorem mw_30 : mj_cw 30 ∈ lw_tbl := mj_in_3 (List.mem_of_getElem? (i := 79) rfl)
theorem mw_31 : mj_cw 31 ∈ lw_tbl := mj_in_3 (List.mem_of_getElem? (i := 76) rfl)
theorem mw_32 : mj_cw 32 ∈ lw_tbl := mj_in_3 (List.mem_of_getElem? (i := 72) rfl)
theorem mw_33 : mj_cw 33 ∈ lw_tbl := mj_in_3 (List.mem_of_getElem? (i := 69) rfl)
theorem mw_34 : mj_cw 34 ∈ lw_tbl := mj_in_4 (List.mem_of_getElem? (i := 31) rfl)
theorem mw_35 : mj_cw 35 ∈ lw_tbl := mj_in_4 (List.mem_of_getElem? (i := 35) rfl)
theorem mw_36 : mj_cw 36 ∈ lw_tbl := mj_in_4 (List.mem_of_getElem? (i := 70) rfl)
theorem mw_37 : mj_cw 37 ∈ lw_tbl := mj_in_2 (List.mem_of_getElem? (i := 52) rfl)
theorem mw_38 : mj_cw 38 ∈ lw_tbl := mj_in_2 (List.mem_of_getElem? (i := 48) rfl)
theorem mw_39 : mj_cw 39 ∈ lw_tbl := mj_in_4 (List.mem_of_getElem? (i := 77) rfl)
theorem mw_40 : mj_cw 40 ∈ lw_tbl := mj_in_4 (List.mem_of_getElem? (i := 82) rfl)
theorem mw_41 : mj_cw 41 ∈ lw_tbl := mj_in_4 (List.mem_of_getElem? (i := 74) rfl)
theorem mw_42 : mj_cw 42 ∈ lw_tbl := mj_in_4 (List.mem_of_getElem? (i := 66) rfl)
theorem mw_43 : mj_cw 43 ∈ lw_tbl := mj_in_4 (List.mem_of_getElem? (i := 62) rfl)
theorem mw_44 : mj_cw 44 ∈ lw_tbl := mj_in_4 (List.mem_of_getElem? (i := 111) rfl)
theorem mw_45 : mj_cw 45 ∈ lw_tbl := mj_in_4 (List.mem_of_getElem? (i := 115) rfl)
theorem mw_46 : mj_cw 46 ∈ lw_tbl := mj_in_4 (List.mem_of_getElem? (i := 119) rfl)
theorem mw_47 : mj_cw 47 ∈ lw_tbl := mj_in_4 (List.mem_of_getElem? (i := 28) rfl)
theorem mw_48 : mj_cw 48 ∈ lw_tbl := mj_in_4 (List.mem_of_getElem? (i := 24) rfl)
theorem mw_49 : mj_cw 49 ∈ lw_tbl := mj_in_4 (List.mem_of_getElem? (i := 20) rfl)
theorem mw_50 : mj_cw 50 ∈ lw_tbl := mj_in_4 (List.mem_of_getElem? (i := 16) rfl)
theorem mw_51 : mj_cw 51 ∈ lw_tbl := mj_in_5 (List.mem_of_getElem? (i := 209) rfl)
theorem mw_52 : mj_cw 52 ∈ lw_tbl := mj_in_5 (List.mem_of_getElem? (i := 213) rfl)
theorem mw_53 : mj_cw 53 ∈ lw_tbl := mj_in_5 (List.mem_of_getElem? (i := 217) rfl)
theorem mw_54 : mj_cw 54 ∈ lw_tbl := mj_in_5 (List.mem_of_getElem? (i := 221) rfl)
theorem mw_55 : mj_cw 55 ∈ lw_tbl := mj_in_5 (List.mem_of_getElem? (i := 205) rfl)
theorem mw_56 : mj_cw 56 ∈ lw_tbl := mj_in_5 (List.mem_of_getElem? (i := 201) rfl)
theorem mw_57 : mj_cw 57 ∈ lw_tbl := mj_in_3 (List.mem_of_getElem? (i := 60) rfl)
theorem mw_58 : mj_cw 58 ∈ lw_tbl := mj_in_5 (List.mem_of_getElem? (i := 225) rfl)
theorem mw_59 : mj_cw 59 ∈ lw_tbl := mj_in_2 (List.mem_of_getElem? (i := 130) rfl)
theorem mw_60 : mj_cw 60 ∈ lw_tbl := mj_in_2 (List.mem_of_getElem? (i := 97) rfl)
theorem mw_61 : mj_cw 61 ∈ lw_tbl := mj_in_2 (List.mem_of_getElem? (i := 100) rfl)
theorem mw_62 : mj_cw 62 ∈ lw_tbl := mj_in_2 (List.mem_of_getElem? (i := 94) rfl)
theorem mw_63 : mj_cw 63 ∈ lw_tbl := mj_in_2 (List.mem_of_getElem? (i := 91) rfl)
theorem mw_64 : mj_cw 64 ∈ lw_tbl := mj_in_2 (List.mem_of_getElem? (i := 148) rfl)
theorem mw_65 : mj_cw 65 ∈ lw_tbl := mj_in_2 (List.mem_of_getElem? (i := 145) rfl)
theorem mw_66 : mj_cw 66 ∈ lw_tbl := mj_in_2 (List.mem_of_getElem? (i := 142) rfl)
theorem mw_67 : mj_cw 67 ∈ lw_tbl := mj_in_2 (List.mem_of_getElem? (i := 124) rfl)
theorem mw_68 : mj_cw 68 ∈ lw_tbl := mj_in_2 (List.mem_of_getElem? (i := 121) rfl)
theorem mw_69 : mj_cw 69 ∈ lw_tbl := mj_in_2 (List.mem_of_getElem? (i := 116) rfl)
theorem mw_70 : mj_cw 70 ∈ lw_tbl := mj_in_4 (List.mem_of_getElem? (i := 139) rfl)
theorem mw_71 : mj_cw 71 ∈ lw_tbl := mj_in_4 (List.mem_of_getElem? (i := 136) rfl)
theorem mw_72 : mj_cw 72 ∈ lw_tbl := mj_in_4 (List.mem_of_getElem? (i := 149) rfl)
theorem mw_73 : mj_cw 73 ∈ lw_tbl := mj_in_4 (List.mem_of_getElem? (i := 146) rfl)
theorem mw_74 : mj_cw 74 ∈ lw_tbl := mj_in_4 (List.mem_of_getElem? (i := 152) rfl)
theorem mw_75 : mj_cw 75 ∈ lw_tbl := mj_in_4 (List.mem_of_getElem? (i := 131) rfl)
theorem mw_76 : mj_cw 76 ∈ lw_tbl := mj_in_4 (List.mem_of_getElem? (i := 157) rfl)
theorem mw_77 : mj_cw 77 ∈ lw_tbl := mj_in_2 (List.mem_of_getElem? (i := 35) rfl)
theorem mw_78 : mj_cw 78 ∈ lw_tbl := mj_in_2 (List.mem_of_getElem? (i := 30) rfl)
theorem mw_79 : mj_cw 79 ∈ lw_tbl := mj_in_4 (List.mem_of_getElem? (i := 196) rfl)
theorem mw_80 : mj_cw 80 ∈ lw_tbl := mj_in_4 (List.mem_of_getElem? (i := 190) rfl)
theorem mw_81 : mj_cw 81 ∈ lw_tbl := mj_in_4 (List.mem_of_getElem? (i := 186) rfl)
theorem mw_82 : mj_cw 82 ∈ lw_tbl := mj_in_4 (List.mem_of_getElem? (i := 222) rfl)
theorem mw_83 : mj_cw 83 ∈ lw_tbl := mj_in_4 (List.mem_of_getElem? (i := 219) rfl)
theorem mw_84 : mj_cw 84 ∈ lw_tbl := mj_in_3 (List.mem_of_getElem? (i := 184) rfl)
theorem mw_85 : mj_cw 85 ∈ lw_tbl := mj_in_4 (List.mem_of_getElem? (i := 235) rfl)
theorem mw_86 : mj_cw 86 ∈ lw_tbl := mj_in_4 (List.mem_of_getElem? (i := 238) rfl)
theorem mw_87 : mj_cw 87 ∈ lw_tbl := mj_in_4 (List.mem_of_getElem? (i := 231) rfl)
theorem mw_88 : mj_cw 88 ∈ lw_tbl := mj_in_5 (List.mem_of_getElem? (i := 1) rfl)
theorem mw_89 : mj_cw 89 ∈ lw_tbl := mj_in_4 (List.mem_of_getElem? (i := 209) rfl)
theorem mw_90 : mj_cw 90 ∈ lw_tbl := mj_in_5 (List.mem_of_getElem? (i := 9) rfl)
theorem mw_91 : mj_cw 91 ∈ lw_tbl := mj_in_4 (List.mem_of_getElem? (i := 182) rfl)
theorem mw_92 : mj_cw 92 ∈ lw_tbl := mj_in_4 (List.mem_of_getElem? (i := 127) rfl)
theorem mw_93 : mj_cw 93 ∈ lw_tbl := mj_in_4 (List.mem_of_getElem? (i := 123) rfl)
theorem mw_94 : mj_cw 94 ∈ lw_tbl := mj_in_5 (List.mem_of_getElem? (i := 237) rfl)
theorem mw_95 : mj_cw 95 ∈ lw_tbl := mj_in_5 (List.mem_of_getElem? (i := 233) rfl)
theorem mw_96 : mj_cw 96 ∈ lw_tbl := mj_in_6 (List.mem_of_getElem? (i := 1) rfl)
theorem mw_97 : mj_cw 97 ∈ lw_tbl := mj_in_6 (List.mem_of_getElem? (i := 5) rfl)
theorem mw_98 : mj_cw 98 ∈ lw_tbl := mj_in_6 (List.mem_of_getElem? (i := 17) rfl)
theorem mw_99 : mj_cw 99 ∈ lw_tbl := mj_in_6 (List.mem_of_getElem? (i := 25) rfl)
theorem mw_100 : mj_cw 100 ∈ lw_tbl := mj_in_6 (List.mem_of_getElem? (i := 29) rfl)
theorem mw_101 : mj_cw 101 ∈ lw_tbl := mj_in_6 (List.mem_of_getElem? (i := 21) rfl)
theorem mw_102 : mj_cw 102 ∈ lw_tbl := mj_in_6 (List.mem_of_getElem? (i := 33) rfl)
theorem mw_103 : mj_cw 103 ∈ lw_tbl := mj_in_6 (List.mem_of_getElem? (i := 13) rfl)
theorem mw_104 : mj_cw 104 ∈ lw_tbl := mj_in_6 (List.mem_of_getElem? (i := 37) rfl)
theorem mw_105 : mj_cw 105 ∈ lw_tbl := mj_in_6 (List.mem_of_getElem? (i := 9) rfl)
theorem mw_106 : mj_cw 106 ∈ lw_tbl := mj_in_5 (List.mem_of_getElem? (i := 229) rfl)
theorem mw_107 : mj_cw 107 ∈ lw_tbl := mj_in_5 (List.mem_of_getElem? (i := 23) rfl)
theorem mw_108 : mj_cw 108 ∈ lw_tbl := mj_in_5 (List.mem_of_getElem? (i := 19) rfl)
theorem mw_109 : mj_cw 109 ∈ lw_tbl := mj_in_5 (List.mem_of_getElem? (i := 12) rfl)
theorem mw_110 : mj_cw 110 ∈ lw_tbl := mj_in_6 (List.mem_of_getElem? (i := 45) rfl)
theorem mw_111 : mj_cw 111 ∈ lw_tbl := mj_in_6 (List.mem_of_getElem? (i := 41) rfl)
theorem mw_112 : mj_cw 112 ∈ lw_tbl := mj_in_5 (List.mem_of_getElem? (i := 45) rfl)
theorem mw_113 : mj_cw 113 ∈ lw_tbl := mj_in_5 (List.mem_of_getElem? (i := 41) rfl)
theorem mw_114 : mj_cw 114 ∈ lw_tbl := mj_in_6 (List.mem_of_getElem? (i := 49) rfl)
theorem mw_115 : mj_cw 115 ∈ lw_tbl := mj_in_3 (List.mem_of_getElem? (i := 102) rfl)
theorem mw_116 : mj_cw 116 ∈ lw_tbl := mj_in_3 (List.mem_of_getElem? (i := 106) rfl)
theorem mw_117 : mj_cw 117 ∈ lw_tbl := mj_in_5 (List.mem_of_getElem? (i := 62) rfl)
theorem mw_118 : mj_cw 118 ∈ lw_tbl := mj_in_5 (List.mem_of_getElem? (i := 59) rfl)
theorem mw_119 : mj_cw 119 ∈ lw_tbl := mj_in_5 (List.mem_of_getElem? (i := 66) rfl)
theorem mw_120 : mj_cw 120 ∈ lw_tbl := mj_in_5 (List.mem_of_getElem? (i := 70) rfl)
theorem mw_121 : mj_cw 121 ∈ lw_tbl := mj_in_5 (List.mem_of_getElem? (i := 56) rfl)
theorem mw_122 : mj_cw 122 ∈ lw_tbl := mj_in_5 (List.mem_of_getElem? (i := 52) rfl)
theorem mw_123 : mj_cw 123 ∈ lw_tbl := mj_in_5 (List.mem_of_getElem? (i := 48) rfl)
theorem mw_124 : mj_cw 124 ∈ lw_tbl := mj_in_6 (List.mem_of_getElem? (i := 57) rfl)
theorem mw_125 : mj_cw 125 ∈ lw_tbl := mj_in_6 (List.mem_of_getElem? (i := 65) rfl)
theorem mw_126 : mj_cw 126 ∈ lw_tbl := mj_in_6 (List.mem_of_getElem? (i := 73) rfl)
theorem mw_127 : mj_cw 127 ∈ lw_tbl := mj_in_6 (List.mem_of_getElem? (i := 77) rfl)
theorem mw_128 : mj_cw 128 ∈ lw_tbl := mj_in_6 (List.mem_of_getElem? (i := 69) rfl)
theorem mw_129 : mj_cw 129 ∈ lw_tbl := mj_in_6 (List.mem_of_getElem? (i := 61) rfl)
theorem mw_130 : mj_cw 130 ∈ lw_tbl := mj_in_6 (List.mem_of_getElem? (i := 53) rfl)
theorem mw_131 : mj_cw 131 ∈ lw_tbl := mj_in_3 (List.mem_of_getElem? (i := 64) rfl)
theorem mw_132 : mj_cw 132 ∈ lw_tbl := mj_in_6 (List.mem_of_getElem? (i := 81) rfl)
theorem mw_133 : mj_cw 133 ∈ lw_tbl := mj_in_3 (List.mem_of_getElem? (i := 94) rfl)
theorem mw_134 : mj_cw 134 ∈ lw_tbl := mj_in_3 (List.mem_of_getElem? (i := 110) rfl)
theorem mw_135 : mj_cw 135 ∈ lw_tbl := mj_in_3 (List.mem_of_getElem? (i := 122) rfl)
theorem mw_136 : mj_cw 136 ∈ lw_tbl := mj_in_3 (List.mem_of_getElem? (i := 163) rfl)
theorem mw_137 : mj_cw 137 ∈ lw_tbl := mj_in_3 (List.mem_of_getElem? (i := 142) rfl)
theorem mw_138 : mj_cw 138 ∈ lw_tbl := mj_in_3 (List.mem_of_getElem? (i := 138) rfl)
theorem mw_139 : mj_cw 139 ∈ lw_tbl := mj_in_3 (List.mem_of_getElem? (i := 134) rfl)
theorem mw_140 : mj_cw 140 ∈ lw_tbl := mj_in_3 (List.mem_of_getElem? (i := 130) rfl)
theorem mw_141 : mj_cw 141 ∈ lw_tbl := mj_in_3 (List.mem_of_getElem? (i := 126) rfl)
theorem mw_142 : mj_cw 142 ∈ lw_tbl := mj_in_3 (List.mem_of_getElem? (i := 175) rfl)
theorem mw_143 : mj_cw 143 ∈ lw_tbl := mj_in_3 (List.mem_of_getElem? (i := 180) rfl)
theorem mw_144 : mj_cw 144 ∈ lw_tbl := mj_in_3 (List.mem_of_getElem? (i := 172) rfl)
theorem mw_145 : mj_cw 145 ∈ lw_tbl := mj_in_3 (List.mem_of_getElem? (i := 118) rfl)
theorem mw_146 : mj_cw 146 ∈ lw_tbl := mj_in_3 (List.mem_of_getElem? (i := 98) rfl)
theorem mw_147 : mj_cw 147 ∈ lw_tbl := mj_in_3 (List.mem_of_getElem? (i := 188) rfl)
theorem mw_148 : mj_cw 148 ∈ lw_tbl := mj_in_3 (List.mem_of_getElem? (i := 88) rfl)
theorem mw_149 : mj_cw 149 ∈ lw_tbl := mj_in_3 (List.mem_of_getElem? (i := 84) rfl)
theorem mw_150 : mj_cw 150 ∈ lw_tbl := mj_in_6 (List.mem_of_getElem? (i := 97) rfl)
theorem mw_151 : mj_cw 151 ∈ lw_tbl := mj_in_6 (List.mem_of_getElem? (i := 105) rfl)
theorem mw_152 : mj_cw 152 ∈ lw_tbl := mj_in_6 (List.mem_of_getElem? (i := 101) rfl)
theorem mw_153 : mj_cw 153 ∈ lw_tbl := mj_in_6 (List.mem_of_getElem? (i := 93) rfl)
theorem mw_154 : mj_cw 154 ∈ lw_tbl := mj_in_6 (List.mem_of_getElem? (i := 89) rfl)
theorem mw_155 : mj_cw 155 ∈ lw_tbl := mj_in_6 (List.mem_of_getElem? (i := 85) rfl)
theorem mw_156 : mj_cw 156 ∈ lw_tbl := mj_in_5 (List.mem_of_getElem? (i := 83) rfl)
theorem mw_157 : mj_cw 157 ∈ lw_tbl := mj_in_5 (List.mem_of_getElem? (i := 77) rfl)
theorem mw_158 : mj_cw 158 ∈ lw_tbl := mj_in_5 (List.mem_of_getElem? (i := 73) rfl)
theorem mw_159 : mj_cw 159 ∈ lw_tbl := mj_in_6 (List.mem_of_getElem? (i := 113) rfl)
theorem mw_160 : mj_cw 160 ∈ lw_tbl := mj_in_6 (List.mem_of_getElem? (i := 109) rfl)
theorem mw_161 : mj_cw 161 ∈ lw_tbl := mj_in_5 (List.mem_of_getElem? (i := 90) rfl)
theorem mw_162 : mj_cw 162 ∈ lw_tbl := mj_in_5 (List.mem_of_getElem? (i := 86) rfl)
theorem mw_163 : mj_cw 163 ∈ lw_tbl := mj_in_6 (List.mem_of_getElem? (i := 117) rfl)
theorem mw_164 : mj_cw 164 ∈ lw_tbl := mj_in_3 (List.mem_of_getElem? (i := 194) rfl)
theorem mw_165 : mj_cw 165 ∈ lw_tbl := mj_in_6 (List.mem_of_getElem? (i := 121) rfl)
theorem mw_166 : mj_cw 166 ∈ lw_tbl := mj_in_3 (List.mem_of_getElem? (i := 198) rfl)
theorem mw_167 : mj_cw 167 ∈ lw_tbl := mj_in_6 (List.mem_of_getElem? (i := 125) rfl)
set_option maxRecDepth 100000 in
theorem mj_cw_all : ∀ y ∈ ([0, 1, 2, 3, 4, 5, 6, 7, 8, 9, 10, 11, 12, 13, 14, 15, 16, 17, 18, 19, 20, 21, 22, 23, 24, 25, 26, 27, 28, 29, 30, 31, 32, 33, 34, 35, 36, 37, 38, 39, 40, 41, 42, 43, 44, 45, 46, 47, 48, 49, 50, 51, 52, 53, 54, 55, 56, 57, 58, 59, 60, 61, 62, 63, 64, 65, 66, 67, 68, 69, 70, 71, 72, 73, 74, 75, 76, 77, 78, 79, 80, 81, 82, 83, 84, 85, 86, 87, 88, 89, 90, 91, 92, 93, 94, 95, 96, 97, 98, 99, 100, 101, 102, 103, 104, 105, 106, 107, 108, 109, 110, 111, 112, 113, 114, 115, 116, 117, 118, 119, 120, 121, 122, 123, 124, 125, 126, 127, 128, 129, 130, 131, 132, 133, 134, 135, 136, 137, 138, 139, 140, 141, 142, 143, 144, 145, 146, 147, 148, 149, 150, 151, 152, 153, 154, 155, 156, 157, 158, 159, 160, 161, 162, 163, 164, 165, 166, 167] : List Nat), mj_cw y ∈ lw_tbl := List.forall_mem_cons.mpr ⟨mw_0, List.forall_mem_cons.mpr ⟨mw_1, List.forall_mem_cons.mpr ⟨mw_2, List.forall_mem_cons.mpr ⟨mw_3, List.forall_mem_cons.mpr ⟨mw_4, List.forall_mem_cons.mpr ⟨mw_5, List.forall_mem_cons.mpr ⟨mw_6, List.forall_mem_cons.mpr ⟨mw_7, List.forall_mem_cons.mpr ⟨mw_8, List.forall_mem_cons.mpr ⟨mw_9, List.forall_mem_cons.mpr ⟨mw_10, List.forall_mem_cons.mpr ⟨mw_11, List.forall_mem_cons.mpr ⟨mw_12, List.forall_mem_cons.mpr ⟨mw_13, List.forall_mem_cons.mpr ⟨mw_14, List.forall_mem_cons.mpr ⟨mw_15, List.forall_mem_cons.mpr ⟨mw_16, List.forall_mem_cons.mpr ⟨mw_17, List.forall_mem_cons.mpr ⟨mw_18, List.forall_mem_cons.mpr ⟨mw_19, List.forall_mem_cons.mpr ⟨mw_20, List.forall_mem_cons.mpr ⟨mw_21, List.forall_mem_cons.mpr ⟨mw_22, List.forall_mem_cons.mpr ⟨mw_23, List.forall_mem_cons.mpr ⟨mw_24, List.forall_mem_cons.mpr ⟨mw_25, List.forall_mem_cons.mpr ⟨mw_26, List.forall_mem_cons.mpr ⟨mw_27, List.forall_mem_cons.mpr ⟨mw_28, List.forall_mem_cons.mpr ⟨mw_29, List.forall_mem_cons.mpr ⟨mw_30, List.forall_mem_cons.mpr ⟨mw_31, List.forall_mem_cons.mpr ⟨mw_32, List.forall_mem_cons.mpr ⟨mw_33, List.forall_mem_cons.mpr ⟨mw_34, List.forall_mem_cons.mpr ⟨mw_35, List.forall_mem_cons.mpr ⟨mw_36, List.forall_mem_cons.mpr ⟨mw_37, List.forall_mem_cons.mpr ⟨mw_38, List.forall_mem_cons.mpr ⟨mw_39, List.forall_mem_cons.mpr ⟨mw_40, List.forall_mem_cons.mpr ⟨mw_41, List.forall_mem_cons.mpr ⟨mw_42, List.forall_mem_cons.mpr ⟨mw_43, List.forall_mem_cons.mpr ⟨mw_44, List.forall_mem_cons.mpr ⟨mw_45, List.forall_mem_cons.mpr ⟨mw_46, List.forall_mem_cons.mpr ⟨mw_47, List.forall_mem_cons.mpr ⟨mw_48, List.forall_mem_cons.mpr ⟨mw_49, List.forall_mem_cons.mpr ⟨mw_50, List.forall_mem_cons.mpr ⟨mw_51, List.forall_mem_cons.mpr ⟨mw_52, List.forall_mem_cons.mpr ⟨mw_53, List.forall_mem_cons.mpr ⟨mw_54, List.forall_mem_cons.mpr ⟨mw_55, List.forall_mem_cons.mpr ⟨mw_56, List.forall_mem_cons.mpr ⟨mw_57, List.forall_mem_cons.mpr ⟨mw_58, List.forall_mem_cons.mpr ⟨mw_59, List.forall_mem_cons.mpr ⟨mw_60, List.forall_mem_cons.mpr ⟨mw_61, List.forall_mem_cons.mpr ⟨mw_62, List.forall_mem_cons.mpr ⟨mw_63, List.forall_mem_cons.mpr ⟨mw_64, List.forall_mem_cons.mpr ⟨mw_65, List.forall_mem_cons.mpr ⟨mw_66, List.forall_mem_cons.mpr ⟨mw_67, List.forall_mem_cons.mpr ⟨mw_68, List.forall_mem_cons.mpr ⟨mw_69, List.forall_mem_cons.mpr ⟨mw_70, List.forall_mem_cons.mpr ⟨mw_71, List.forall_mem_cons.mpr ⟨mw_72, List.forall_mem_cons.mpr ⟨mw_73, List.forall_mem_cons.mpr ⟨mw_74, List.forall_mem_cons.mpr ⟨mw_75, List.forall_mem_cons.mpr ⟨mw_76, List.forall_mem_cons.mpr ⟨mw_77, List.forall_mem_cons.mpr ⟨mw_78, List.forall_mem_cons.mpr ⟨mw_79, List.forall_mem_cons.mpr ⟨mw_80, List.forall_mem_cons.mpr ⟨mw_81, List.forall_mem_cons.mpr ⟨mw_82, List.forall_mem_cons.mpr ⟨mw_83, List.forall_mem_cons.mpr ⟨mw_84, List.forall_mem_cons.mpr ⟨mw_85, List.forall_mem_cons.mpr ⟨mw_86, List.forall_mem_cons.mpr ⟨mw_87, List.forall_mem_cons.mpr ⟨mw_88, List.forall_mem_cons.mpr ⟨mw_89, List.forall_mem_cons.mpr ⟨mw_90, List.forall_mem_cons.mpr ⟨mw_91, List.forall_mem_cons.mpr ⟨mw_92, List.forall_mem_cons.mpr ⟨mw_93, List.forall_mem_cons.mpr ⟨mw_94, List.forall_mem_cons.mpr ⟨mw_95, List.forall_mem_cons.mpr ⟨mw_96, List.forall_mem_cons.mpr ⟨mw_97, List.forall_mem_cons.mpr ⟨mw_98, List.forall_mem_cons.mpr ⟨mw_99, List.forall_mem_cons.mpr ⟨mw_100, List.forall_mem_cons.mpr ⟨mw_101, List.forall_mem_cons.mpr ⟨mw_102, List.forall_mem_cons.mpr ⟨mw_103, List.forall_mem_cons.mpr ⟨mw_104, List.forall_mem_cons.mpr ⟨mw_105, List.forall_mem_cons.mpr ⟨mw_106, List.forall_mem_cons.mpr ⟨mw_107, List.forall_mem_cons.mpr ⟨mw_108, List.forall_mem_cons.mpr ⟨mw_109, List.forall_mem_cons.mpr ⟨mw_110, List.forall_mem_cons.mpr ⟨mw_111, List.forall_mem_cons.mpr ⟨mw_112, List.forall_mem_cons.mpr ⟨mw_113, List.forall_mem_cons.mpr ⟨mw_114, List.forall_mem_cons.mpr ⟨mw_115, List.forall_mem_cons.mpr ⟨mw_116, List.forall_mem_cons.mpr ⟨mw_117, List.forall_mem_cons.mpr ⟨mw_118, List.forall_mem_cons.mpr ⟨mw_119, List.forall_mem_cons.mpr ⟨mw_120, List.forall_mem_cons.mpr ⟨mw_121, List.forall_mem_cons.mpr ⟨mw_122, List.forall_mem_cons.mpr ⟨mw_123, List.forall_mem_cons.mpr ⟨mw_124, List.forall_mem_cons.mpr ⟨mw_125, List.forall_mem_cons.mpr ⟨mw_126, List.forall_mem_cons.mpr ⟨mw_127, List.forall_mem_cons.mpr ⟨mw_128, List.forall_mem_cons.mpr ⟨mw_129, List.forall_mem_cons.mpr ⟨mw_130, List.forall_mem_cons.mpr ⟨mw_131, List.forall_mem_cons.mpr ⟨mw_132, List.forall_mem_cons.mpr ⟨mw_133, List.forall_mem_cons.mpr ⟨mw_134, List.forall_mem_cons.mpr ⟨mw_135, List.forall_mem_cons.mpr ⟨mw_136, List.forall_mem_cons.mpr ⟨mw_137, List.forall_mem_cons.mpr ⟨mw_138, List.forall_mem_cons.mpr ⟨mw_139, List.forall_mem_cons.mpr ⟨mw_140, List.forall_mem_cons.mpr ⟨mw_141, List.forall_mem_cons.mpr ⟨mw_142, List.forall_mem_cons.mpr ⟨mw_143, List.forall_mem_cons.mpr ⟨mw_144, List.forall_mem_cons.mpr ⟨mw_145, List.forall_mem_cons.mpr ⟨mw_146, List.forall_mem_cons.mpr ⟨mw_147, List.forall_mem_cons.mpr ⟨mw_148, List.forall_mem_cons.mpr ⟨mw_149, List.forall_mem_cons.mpr ⟨mw_150, List.forall_mem_cons.mpr ⟨mw_151, List.forall_mem_cons.mpr ⟨mw_152, List.forall_mem_cons.mpr ⟨mw_153, List.forall_mem_cons.mpr ⟨mw_154, List.forall_mem_cons.mpr ⟨mw_155, List.forall_mem_cons.mpr ⟨mw_156, List.forall_mem_cons.mpr ⟨mw_157, List.forall_mem_cons.mpr ⟨mw_158, List.forall_mem_cons.mpr ⟨mw_159, List.forall_mem_cons.mpr ⟨mw_160, List.forall_mem_cons.mpr ⟨mw_161, List.forall_mem_cons.mpr ⟨mw_162, List.forall_mem_cons.mpr ⟨mw_163, List.forall_mem_cons.mpr ⟨mw_164, List.forall_mem_cons.mpr ⟨mw_165, List.forall_mem_cons.mpr ⟨mw_166, List.forall_mem_cons.mpr ⟨mw_167, fun _ h => absurd h List.not_mem_nil⟩⟩⟩⟩⟩⟩⟩⟩⟩⟩⟩⟩⟩⟩⟩⟩⟩⟩⟩⟩⟩⟩⟩⟩⟩⟩⟩⟩⟩⟩⟩⟩⟩⟩⟩⟩⟩⟩⟩⟩⟩⟩⟩⟩⟩⟩⟩⟩⟩⟩⟩⟩⟩⟩⟩⟩⟩⟩⟩⟩⟩⟩⟩⟩⟩⟩⟩⟩⟩⟩⟩⟩⟩⟩⟩⟩⟩⟩⟩⟩⟩⟩⟩⟩⟩⟩⟩⟩⟩⟩⟩⟩⟩⟩⟩⟩⟩⟩⟩⟩⟩⟩⟩⟩⟩⟩⟩⟩⟩⟩⟩⟩⟩⟩⟩⟩⟩⟩⟩⟩⟩⟩⟩⟩⟩⟩⟩⟩⟩⟩⟩⟩⟩⟩⟩⟩⟩⟩⟩⟩⟩⟩⟩⟩⟩⟩⟩⟩⟩⟩⟩⟩⟩⟩⟩⟩⟩⟩⟩⟩⟩⟩⟩⟩⟩⟩⟩⟩
theorem mj_cw_in {y : Nat} (h : y < 168) : mj_cw y ∈ lw_tbl := mj_cw_all y (show y ∈ List.range 168 from List.mem_range.mpr h)
end
section
/-! THE SMALL MACHINE AND THE REAL ONE: the relation -/
/-- B: the heap's size at the law's entry; where the constants lie; the formatter; classes; array classes -/
abbrev mr_X : Type := Nat × (Nat → Nat) × Option Nat × va_G × (Nat → ClassId)
def mr_B (X : mr_X) : Nat := X.1
def mr_ad (X : mr_X) : Nat → Nat := X.2.1
def mr_si (X : mr_X) : Option Nat := X.2.2.1
def mr_D (X : mr_X) : va_G := X.2.2.2.1
def mr_dA (X : mr_X) : Nat → ClassId := X.2.2.2.2
def mr_o (X : mr_X) (n : Nat) : Option Nat := if n = 0 then none else if n = 15 then mr_si X else if n < 20 then some (mr_ad X n) else some (mr_B X + (n - 20))
def mr_v (X : mr_X) : Value → Value
  | .ref n => va_rf (mr_o X n)
  | v => v
theorem mr_o_new {X : mr_X} {n : Nat} (h : 20 ≤ n) : mr_o X n = some (mr_B X + (n - 20)) := by
  unfold mr_o
  rw [if_neg (by omega), if_neg (by omega), if_neg (by omega)]
theorem mr_v_new {X : mr_X} {n : Nat} (h : 20 ≤ n) : mr_v X (.ref n) = .ref (mr_B X + (n - 20)) := by
  show va_rf (mr_o X n) = _
  rw [mr_o_new h]; rfl
theorem mr_o_con {X : mr_X} {n : Nat} (h0 : n ≠ 0) (h1 : n ≠ 15) (h : n < 20) : mr_o X n = some (mr_ad X n) := by
  unfold mr_o
  rw [if_neg h0, if_neg h1, if_pos h]
theorem mr_v_con {X : mr_X} {n : Nat} (h0 : n ≠ 0) (h1 : n ≠ 15) (h : n < 20) : mr_v X (.ref n) = .ref (mr_ad X n) := by
  show va_rf (mr_o X n) = _
  rw [mr_o_con h0 h1 h]; rfl
/-- the constants: tag, length, contents -/
def mc_T : Nat → Nat
  | 1 => 16 | 2 => 16 | 3 => 2 | 4 => 17 | 5 => 2 | 6 => 17 | 7 => 20 | 8 => 11 | 9 => 11 | 10 => 11 | 11 => 11 | 12 => 23 | 13 => 17 | 14 => 17 | 15 => 12 | 16 => 12 | 17 => 16 | _ => 63
def mc_N (L : Nat) : Nat → Nat
  | 1 => 26 | 2 => 8 | 4 => 8 | 6 => 5 | 7 => 4 | 13 => 100 | 14 => 100 | 17 => L | _ => 0
def mc_lets : List Nat := [1, 3, 9, 25, 17, 11, 27, 19, 10, 26, 5, 7, 13, 29, 21, 15, 31, 23, 14, 30, 37, 39, 58, 45, 61, 53]
def mc_mrks : List Nat := [50, 2, 6, 18, 38, 22, 36, 4]
def mc_mtxt : List Nat := [46, 44, 59, 58, 63, 33, 45, 39]
def mc_ktxt : List Nat := [119, 98, 109, 101, 97]
def mc_I (xs : Nat → Int32) (a i : Nat) : Int32 := match a with
  | 1 => nI (mc_lets.getD i 0) | 2 => nI (mc_mrks.getD i 0) | 4 => nI (mc_mtxt.getD i 0) | 6 => nI (mc_ktxt.getD i 0) | 13 => nI (48 + i / 10) | 14 => nI (48 + i % 10) | 17 => xs i | _ => nI 0
def mc_R (a i : Nat) : Nat := match a with
  | 3 => if i = 0 then 4 else 0 | 5 => if i = 0 then 6 else 0 | 7 => 8 + i | _ => 0
/-- a cell of the heap -/
def mr_en (X : mr_X) (h : mj_H) (a : Nat) : va_E :=
  if mj_T h a < 11 then .inr (mj_T h a, (List.range (mj_nf (mj_T h a))).map (fun k => bif mj_rf (mj_T h a) k then mr_v X (.ref (mj_R h a k)) else .int (mj_I h a k)))
  else if mj_T h a = 19 then .inl (mr_dA X 19, (mj_N h a, .inr (.inl (mj_L h a))))
  else if mj_T h a < 20 then .inl (mr_dA X (mj_T h a), (mj_N h a, .inl (mj_I h a)))
  else .inl (mr_dA X (mj_T h a), (mj_N h a, .inr (.inr (.inr (.inr (fun i => mr_o X (mj_R h a i)))))))
def mr_ws (X : mr_X) (h : mj_H) : va_W := (List.range (mj_Z h - 20)).map (fun i => (mr_B X + i, mr_en X h (20 + i)))
theorem mr_ws_at {X : mr_X} {h : mj_H} {a : Nat} (h1 : 20 ≤ a) (h2 : a < mj_Z h) : (mr_ws X h)[a - 20]? = some (mr_B X + (a - 20), mr_en X h a) := by
  unfold mr_ws
  rw [List.getElem?_map, List.getElem?_range (by omega)]
  show some (mr_B X + (a - 20), mr_en X h (20 + (a - 20))) = _
  rw [Nat.add_sub_cancel' h1]
theorem mr_ws_D {X : mr_X} {h : mj_H} : va_D (fun q => mr_B X ≤ q) (mr_ws X h) := by
  have at' : ∀ (i : Nat) (q : Nat × va_E), (mr_ws X h)[i]? = some q → q.1 = mr_B X + i := by
    intro i q hq
    unfold mr_ws at hq
    rw [List.getElem?_map] at hq
    cases hr : (List.range (mj_Z h - 20))[i]? with
    | none => rw [hr] at hq; cases hq
    | some z =>
      rw [hr] at hq
      cases hq
      have := (List.getElem?_eq_some_iff.mp hr)
      obtain ⟨w, e⟩ := this
      simp at e
      simp [e]
  refine ⟨fun i j x z hx hz e => ?_, fun i x hx => ?_⟩
  · have a1 := at' i x hx
    have a2 := at' j z hz
    omega
  · have a1 := at' i x hx
    show mr_B X ≤ x.1
    omega
/-- a list of cells that differs at one place -/
theorem mr_ws_set {X : mr_X} {h h' : mj_H} {a : Nat} (hz : mj_Z h' = mj_Z h) (h1 : 20 ≤ a) (ho : ∀ b, b ≠ a → mr_en X h' b = mr_en X h b) : (mr_ws X h).set (a - 20) (mr_B X + (a - 20), mr_en X h' a) = mr_ws X h' := by
  apply List.ext_getElem?
  intro i
  rw [List.getElem?_set]
  unfold mr_ws
  rw [hz]
  by_cases hi : a - 20 = i
  · subst hi
    rw [if_pos rfl]
    simp only [List.length_map, List.length_range, List.getElem?_map]
    by_cases hl : a - 20 < mj_Z h - 20
    · rw [if_pos hl, List.getElem?_range hl]
      show _ = some (mr_B X + (a - 20), mr_en X h' (20 + (a - 20)))
      rw [Nat.add_sub_cancel' h1]
    · rw [if_neg hl, List.getElem?_eq_none (by simp; omega)]
      rfl
  · rw [if_neg hi]
    simp only [List.getElem?_map]
    by_cases hl : i < mj_Z h - 20
    · rw [List.getElem?_range hl]
      show some (mr_B X + i, mr_en X h (20 + i)) = some (mr_B X + i, mr_en X h' (20 + i))
      rw [ho (20 + i) (by omega)]
    · rw [List.getElem?_eq_none (by simp; omega)]
      rfl
theorem mr_ws_push {X : mr_X} {h h' : mj_H} (h0 : 20 ≤ mj_Z h) (hz : mj_Z h' = mj_Z h + 1) (ho : ∀ b, b ≠ mj_Z h → mr_en X h' b = mr_en X h b) : mr_ws X h ++ [(mr_B X + (mj_Z h - 20), mr_en X h' (mj_Z h))] = mr_ws X h' := by
  unfold mr_ws
  rw [hz, show mj_Z h + 1 - 20 = (mj_Z h - 20) + 1 by omega, List.range_succ, List.map_append]
  congr 1
  · apply List.map_congr_left
    intro i hi
    have hi := List.mem_range.mp hi
    rw [ho (20 + i) (by omega)]
  · simp only [List.map_cons, List.map_nil]
    rw [Nat.add_sub_cancel' h0]
def mr_tys (X : mr_X) : List (ClassId × FieldType) := [(mr_dA X 16, .int), (mr_dA X 17, .byte), (mr_dA X 18, .char), (mr_dA X 19, .long), (mr_dA X 20, .object "DotBook$Kind"), (mr_dA X 21, .object "DotBook$Rule"), (mr_dA X 22, .object "DotBook$Block"), (mr_dA X 23, .object "java/lang/Object")]
/-- the heaps agree -/
def mr_H (X : mr_X) (xs : Nat → Int32) (L : Nat) (h : mj_H) (H : Heap) : Prop :=
  20 ≤ mj_Z h ∧ (∀ a, mj_Z h ≤ a → mj_T h a = 63) ∧ (∀ a, 20 ≤ a → a < mj_Z h → mj_T h a < 11 ∨ (16 ≤ mj_T h a ∧ mj_T h a ≤ 23)) ∧
  (∀ a, a < 20 → mj_T h a = mc_T a ∧ mj_N h a = mc_N L a ∧ (∀ i, mj_I h a i = mc_I xs a i) ∧ (∀ i, mj_R h a i = mc_R a i)) ∧
  (∀ a i, 20 ≤ a → mj_T h a = 17 → mj_b (mj_I h a i) = mj_I h a i) ∧ va_P (mr_D X) mj_cls (mr_ws X h) H
theorem mr_H.lt {X : mr_X} {xs : Nat → Int32} {L : Nat} {h : mj_H} {H : Heap} (q : mr_H X xs L h H) {a : Nat} (ha : mj_T h a ≠ 63) : a < mj_Z h := by
  rcases Nat.lt_or_ge a (mj_Z h) with z | z
  · exact z
  · exact absurd (q.2.1 a z) ha
theorem mr_H.at {X : mr_X} {xs : Nat → Int32} {L : Nat} {h : mj_H} {H : Heap} (q : mr_H X xs L h H) {a : Nat} (h1 : 20 ≤ a) (ha : mj_T h a ≠ 63) : (mr_ws X h)[a - 20]? = some (mr_B X + (a - 20), mr_en X h a) := mr_ws_at h1 (q.lt ha)
/-- the locals agree -/
def mr_L (X : mr_X) (ls : Array Slot) (lc : List Value) (n : Nat) : Prop := ls.size = n ∧ lv_wf ls ∧ lc.length = n ∧ ∀ i, (∀ x, mj_nth lc i = .int x → ls[i]? = some (.val (.int x))) ∧ (∀ a, mj_nth lc i = .ref a → ls[i]? = some (.val (mr_v X (.ref a)))) ∧ (∀ x, mj_nth lc i ≠ .long x) ∧ ∀ x, mj_nth lc i ≠ .double x
/-- a static field's slot -/
def mt_LS (C n d : String) (A : Nat → Prop) (U : State) (H : Heap) : Prop := ∃ (c : ClassId) (k : Class) (i : Nat) (f : Field) (a : Nat) (cell : Cell), U.vm.findClass C = some c ∧ U.fieldFound? C n d = some (c, k, i, f) ∧ f.isStatic = true ∧ k.statics = some a ∧ H[a]? = some cell ∧ cell.vm.isStatics = true ∧ cell.cls = c ∧ f.slot < cell.slots.size ∧ k.staticTypes[f.slot]? = some f.type ∧ ¬ A a
theorem mt_LS.moved {C n d : String} {A : Nat → Prop} {u U : State} {H : Heap} (hvm : u.vm.Alike U.vm) (h : mt_LS C n d A u H) : mt_LS C n d A U H := by
  obtain ⟨c, k, i, f, a, cell, h0, h1, h2, h3, h4, h5, h6, h7, h8, h9⟩ := h
  obtain ⟨k', hi', he⟩ := State.fieldFound?_setVm hvm h1
  exact ⟨c, k', i, f, a, cell, by rw [hvm.findClass]; exact h0, hi', h2, by rw [he]; exact h3, h4, h5, h6, h7, by rw [he]; exact h8, h9⟩
theorem mt_LS.kept {C n d : String} {A : Nat → Prop} {U : State} {H H1 : Heap} (h : mt_LS C n d A U H) (hq : ∀ a : Nat, a < H.size → ¬ A a → H1[a]? = H[a]?) : mt_LS C n d A U H1 := by
  obtain ⟨c, k, i, f, a, cell, h0, h1, h2, h3, h4, h5, h6, h7, h8, h9⟩ := h
  exact ⟨c, k, i, f, a, cell, h0, h1, h2, h3, by rw [hq a (Array.getElem?_eq_some_iff.mp h4).1 h9]; exact h4, h5, h6, h7, h8, h9⟩
theorem mt_LS.use {C n d : String} {A : Nat → Prop} {s : State} {args : Array Value} (h : mt_LS C n d A s s.heap) : (Cond.laysStatic C n d).before args s = true := by
  obtain ⟨c, k, i, f, a, cell, h0, h1, h2, h3, h4, h5, h6, h7, h8, h9⟩ := h
  simp [Cond.before, Cond.holds, Cond.value, h0, h1, h2, h3, h4, h5, h6, h7, h8]
theorem mt_LS.of {C n d : String} {A : Nat → Prop} {s : State} {args : Array Value} (h : (Cond.laysStatic C n d).before args s = true) (hA : ∀ a : Nat, a < s.heap.size → ¬ A a) : mt_LS C n d A s s.heap := by
  obtain ⟨c, k, i, f, a, cell, h0, h1, h2, h3, h4, h5, h6, h7, h8⟩ := Cond.laysStatic_spec h
  exact ⟨c, k, i, f, a, cell, h0, h1, h2, h3, h4, h5, h6, h7, h8, hA a (Array.getElem?_eq_some_iff.mp h4).1⟩
/-- the constants and the tables' words -/
def mr_K (X : mr_X) (xs : Nat → Int32) (L : Nat) (s : State) : Prop :=
  (∀ a, a < 20 → mc_T a = 16 → va_T .int (mr_ad X a) (mc_N L a) (fun i => .int (mc_I xs a i)) (fun q => mr_B X ≤ q) s s.heap) ∧
  (∀ a, a < 20 → mc_T a = 17 → va_T .byte (mr_ad X a) (mc_N L a) (fun i => .int (mc_I xs a i)) (fun q => mr_B X ≤ q) s s.heap) ∧
  (∀ a, a < 20 → mc_T a = 2 → va_OF "java/lang/String" "value" "[B" (.ref (mr_ad X (a + 1))) (mr_ad X a) (fun q => mr_B X ≤ q) s s.heap ∧ va_OF "java/lang/String" "coder" "B" (.int 0) (mr_ad X a) (fun q => mr_B X ≤ q) s s.heap ∧ va_O "java/lang/String" (mr_ad X a) (fun q => mr_B X ≤ q) s s.heap) ∧
  (∀ a, a < 20 → mc_T a = 11 → va_O "DotBook$Kind" (mr_ad X a) (fun q => mr_B X ≤ q) s s.heap) ∧
  va_T (.object "DotBook$Kind") (mr_ad X 7) 4 (fun i => .ref (mr_ad X (8 + i))) (fun q => mr_B X ≤ q) s s.heap ∧
  (∃ cell : Cell, s.heap[mr_ad X 7]? = some cell ∧ cell.cls = mr_dA X 20 ∧ cell.slots.size = 4 ∧ mr_ad X 7 < mr_B X) ∧
  va_T (.object "java/lang/Object") (mr_ad X 12) 0 (fun _ => .null) (fun q => mr_B X ≤ q) s s.heap ∧
  (∀ q, q < 12 → va_Z (mj_stn q).1 (mj_stn q).2.1 (mj_stn q).2.2 (mr_v X (mj_sv q)) (fun q => mr_B X ≤ q) s s.heap) ∧
  vk_R "DotBook" 137 "wbmea" (mr_ad X 5) s ∧ vk_R "DotBook" 27 ".,;:?!-'" (mr_ad X 3) s ∧ va_Mi "[Ljava/lang/Object;" (mr_ad X 16) s ∧
  (∀ t, 20 ≤ t → t ≤ 23 → va_AO (mj_AN t) s) ∧
  (va_Zq "java/lang/Throwable" "UNASSIGNED_STACK" "[Ljava/lang/StackTraceElement;" (fun q => mr_B X ≤ q) s s.heap ∧ mt_LS "java/lang/Throwable" "UNASSIGNED_STACK" "[Ljava/lang/StackTraceElement;" (fun q => mr_B X ≤ q) s s.heap) ∧
  (va_Zq "java/lang/Throwable" "SUPPRESSED_SENTINEL" "Ljava/util/List;" (fun q => mr_B X ≤ q) s s.heap ∧ mt_LS "java/lang/Throwable" "SUPPRESSED_SENTINEL" "Ljava/util/List;" (fun q => mr_B X ≤ q) s s.heap) ∧
  va_Nc "java/lang/IllegalStateException" "java/lang/IllegalArgumentException" s ∧
  (∀ a b, 8 ≤ a → a ≤ 11 → 8 ≤ b → b ≤ 11 → mr_ad X a = mr_ad X b → a = b) ∧ (∀ a, a < 20 → a ≠ 16 → mr_ad X a < mr_B X)
def mr_G (X : mr_X) (xs : Nat → Int32) (L : Nat) (s : State) : Prop := (∀ w, w ∈ lw_tbl → mj_mv w = true → va_Nw w s) ∧ va_K (mr_D X) mj_cls (mr_tys X) s ∧ mr_K X xs L s ∧ mr_B X ≤ s.heap.size
theorem mr_G.moved {X : mr_X} {xs : Nat → Int32} {L : Nat} {s U : State} (g : mr_G X xs L s) (hW : s.WarmedH U.vm) (hz : s.heap.size ≤ U.heap.size) (hk : ∀ q : Nat, q < s.heap.size → ¬ mr_B X ≤ q → U.heap[q]? = s.heap[q]?) : mr_G X xs L U := by
  obtain ⟨g1, g2, g3, g4⟩ := g
  refine ⟨fun w h1 h2 => mj_mv_warm h2 hW (g1 w h1 h2), va_K.moved hW.alike g2, ?_, Nat.le_trans g4 hz⟩
  obtain ⟨k1, k2, k3, k4, k5, k6, k7, k8, k9, k10, k11, k12, k13, k14, k15, k16, k17⟩ := g3
  have hvm := hW.alike
  refine ⟨fun a h1 h2 => ((k1 a h1 h2).kept hk).moved hvm, fun a h1 h2 => ((k2 a h1 h2).kept hk).moved hvm, fun a h1 h2 => ?_, fun a h1 h2 => ((k4 a h1 h2).kept hk).moved hvm, (k5.kept hk).moved hvm, ?_, (k7.kept hk).moved hvm, fun q hq => ((k8 q hq).kept hk).moved hvm, k9.warm hW, k10.warm hW, k11.moved hvm, fun t h1 h2 => (k12 t h1 h2).moved hvm, ⟨(k13.1.kept hk).moved hvm, (k13.2.kept hk).moved hvm⟩, ⟨(k14.1.kept hk).moved hvm, (k14.2.kept hk).moved hvm⟩, k15.moved hvm, k16, k17⟩
  · obtain ⟨a1, a2, a3⟩ := k3 a h1 h2
    exact ⟨(a1.kept hk).moved hvm, (a2.kept hk).moved hvm, (a3.kept hk).moved hvm⟩
  · obtain ⟨cell, c1, c2, c3, c5⟩ := k6
    exact ⟨cell, by rw [hk _ (by omega) (by omega)]; exact c1, c2, c3, c5⟩
/-- a method's frame -/
def mr_F (y : Nat) (p : Program) (s : State) (m : MethodId) (meth : Method) (c : Code) : Prop :=
  p.tables.exec = Jvm.exec ∧ c.code = mj_by y ∧ c.maxLocals = mj_ml y ∧ s.vm.findClass (mj_mn y).cls = some m.cls ∧ meth.sig.returnType = mj_rt y ∧ meth.locks = false ∧ meth.name = (mj_mn y).name ∧ c.exceptionTable.toList.map (fun x => (x.startPc, x.endPc, x.handlerPc, x.catchType)) = mj_hi y
def mr_out (X : mr_X) : mj_O → Outcome
  | .inl v => .returned (v.map (mr_v X))
  | .inr a => .threw (mr_B X + (a - 20))
/-- how a method ends -/
def mr_Q (X : mr_X) (xs : Nat → Int32) (L : Nat) (R : Room) (s : State) (below : List Frame) (P : mj_P) (t : State) : Prop :=
  ∃ (o : mj_O) (h' : mj_H) (Lc : List Loc) (k n : Nat), t.status = .running ∧ Ended t below (mr_out X o) ∧ s.WarmedH t.vm ∧ s.sameButNew ({ t with vm := s.vm } : State) Lc k n ∧ (∀ q ∈ Lc, mr_B X ≤ q.base) ∧
    mj_U h' ≤ mj_M ∧ k + (mj_M - mj_U h') ≤ R.cells ∧ n + (mj_M - mj_U h') ≤ R.slots ∧ s.heap.size + k + 20 = mr_B X + mj_Z h' ∧ t.heap.size + 20 = mr_B X + mj_Z h' ∧ mr_H X xs L h' t.heap ∧ s.heap.size ≤ t.heap.size ∧ (∀ q : Nat, q < s.heap.size → ¬ mr_B X ≤ q → t.heap[q]? = s.heap[q]?) ∧
    (∀ a, o = .inr a → 20 ≤ a ∧ 8 ≤ mj_T h' a ∧ mj_T h' a ≤ 10) ∧ P o h'
/-- a point of a method -/
def mr_S (X : mr_X) (xs : Nat → Int32) (L : Nat) (R : Room) (s : State) (y : Nat) (lc : List Value) (h : mj_H) (H : Heap) (locs : List Loc) (cells slots : Nat) (ls : Array Slot) : Prop :=
  mj_U h ≤ mj_M ∧ cells + (mj_M - mj_U h) ≤ R.cells ∧ slots + (mj_M - mj_U h) ≤ R.slots ∧ mr_H X xs L h H ∧ va_S (fun q => mr_B X ≤ q) s.heap H locs ∧ s.heap.size + cells + 20 = mr_B X + mj_Z h ∧ mr_L X ls lc (mj_ml y)
def mr_C (X : mr_X) (xs : Nat → Int32) (L : Nat) (p : Program) (R : Room) (s : State) (m : MethodId) (meth : Method) (c : Code) (d y : Nat) : Prop := mr_F y p s m meth c ∧ mr_G X xs L s ∧ d + 8 ≤ R.frames ∧ 64 * d + 400 ≤ R.locals
/-- the real machine runs as the small one says -/
def mr_Z (X : mr_X) (xs : Nat → Int32) (L : Nat) (p : Program) (l : Launch) (e : Env) : mj_ZT := fun d y pc lc st h P =>
  ∀ (R : Room) (s : State) (m : MethodId) (args : Array Value) (below : List Frame) (meth : Method) (c : Code) (H : Heap) (locs : List Loc) (cells slots : Nat) (ls : Array Slot),
    mr_C X xs L p R s m meth c d y → mr_S X xs L R s y lc h H locs cells slots ls → W p l e R s m args below meth c H locs cells slots (mr_Q X xs L R s below P) (F0 m pc ls (st.map (mr_v X)))
end
section
/-! lengths and literals -/
def mj_len : Instr → Nat
  | .iload _ => 2 | .aload _ => 2 | .istore _ => 2 | .astore _ => 2 | .ldc _ => 2 | .newarray _ => 2
  | .iinc _ _ => 3 | .multianewarray _ _ => 3 | .ifCond _ _ => 3 | .if_icmp _ _ => 3 | .if_acmp _ _ => 3 | .ifnull _ => 3 | .ifnonnull _ => 3 | .goto _ => 3
  | .getfield _ => 3 | .fload _ => 3 | .putfield _ => 3 | .lstore _ => 3 | .fstore _ => 3 | .getstatic _ => 3 | .new _ => 3 | .jsr _ => 3 | .anewarray _ => 3 | .checkcast _ => 3
  | .invokestatic _ => 3 | .invokespecial _ => 3 | .invokevirtual _ => 3 | .invokeinterface _ _ => 5
  | _ => 1
def mj_c3 (pc : Nat) (i : Instr) (n : Nat) : Bool := match i with
  | .dload k => (n == pc + 1 && decide (Int32.ofInt k = nI k)) || ((n == pc + 2 && decide ((Int8.ofInt k).toInt32 = nI k)) || (n == pc + 3 && decide ((Int16.ofInt k).toInt32 = nI k)))
  | .dstore k => (n == pc + 1 && decide (Int32.ofInt (- (k : Int)) = - nI k)) || ((n == pc + 2 && decide ((Int8.ofInt (- (k : Int))).toInt32 = - nI k)) || (n == pc + 3 && decide ((Int16.ofInt (- (k : Int))).toInt32 = - nI k)))
  | .iinc _ c => n == pc + 3 && decide (Int32.ofInt c = mj_k c)
  | .multianewarray _ c => n == pc + 3 && decide (Int32.ofInt c = nI c)
  | .tableswitch d lo hi offs => decide (0 ≤ d) && (offs.toList.all (fun t => decide (0 ≤ t)) && (decide (offs.toList.length = (hi - lo + 1).toNat) && decide (lo ≤ hi)))
  | .lookupswitch d ps => decide (0 ≤ d) && (ps.toList.all (fun t => decide (0 ≤ t.2)) && (ps.toList.zip (ps.toList.drop 1)).all (fun (a, next) => a.1 < next.1))
  | i => n == pc + mj_len i
def mj_ck3 (y : Nat) : Bool := (List.range (mj_sz y)).all fun pc => match mj_ins y pc with
  | none => true
  | some (i, n, _, _) => mj_c3 pc i n
set_option maxRecDepth 100000 in
theorem mj_ck3_0 : (List.range 47).all mj_ck3 = true := by decide +kernel
set_option maxRecDepth 100000 in
theorem mj_ck3_1 : ((List.range 43).map (· + 47)).all mj_ck3 = true := by decide +kernel
set_option maxRecDepth 100000 in
theorem mj_ck3_2 : ((List.range 31).map (· + 90)).all mj_ck3 = true := by decide +kernel
set_option maxRecDepth 100000 in
theorem mj_ck3_3 : ((List.range 27).map (· + 121)).all mj_ck3 = true := by decide +kernel
set_option maxRecDepth 100000 in
theorem mj_ck3_4 : ((List.range 21).map (· + 148)).all mj_ck3 = true := by decide +kernel
theorem mj_c3_ok {y pc : Nat} {i : Instr} {n j k : Nat} (h : mj_ins y pc = some (i, n, j, k)) : mj_c3 pc i n = true := by
  obtain ⟨h1, h2⟩ := mj_ins_in h
  have q := List.all_eq_true.mp (mj_part mj_ck3_0 mj_ck3_1 mj_ck3_2 mj_ck3_3 mj_ck3_4 h1) pc (List.mem_range.mpr h2)
  rw [h] at q
  exact q
/-- where the next instruction stands, and what is decoded here -/
theorem mj_dd {y pc : Nat} {i : Instr} {n j k : Nat} (h : mj_ins y pc = some (i, n, j, k)) (h3 : mj_c3 pc i n = (n == pc + mj_len i)) : n = pc + mj_len i ∧ decode (mj_by y) pc = .ok (mj_rl pc i n j, mj_len i) := by
  have a := mj_c3_ok h
  rw [h3] at a
  have e : n = pc + mj_len i := by simpa using a
  have b := (mj_dec_ok h).2
  rw [show n - pc = mj_len i by omega] at b
  exact ⟨e, b⟩
theorem mj_set_ok : ∀ {lc : List Value} {k : Nat} {v : Value} {l : List Value}, mj_set lc k v = some l → k < lc.length ∧ l.length = lc.length ∧ ∀ i, mj_nth l i = if i = k then v else mj_nth lc i
  | [], _, _, _, h => by cases h
  | x :: lc, 0, v, l, h => by
    cases h
    refine ⟨Nat.succ_pos _, rfl, fun i => ?_⟩
    cases i with
    | zero => rfl
    | succ i => rfl
  | x :: lc, k + 1, v, l, h => by
    unfold mj_set at h
    split at h
    · next r e =>
      cases h
      obtain ⟨h1, h2, h3⟩ := mj_set_ok e
      refine ⟨Nat.succ_lt_succ h1, by simp [h2], fun i => ?_⟩
      cases i with
      | zero => rw [if_neg (by omega)]; rfl
      | succ i =>
        show mj_nth r i = _
        rw [h3 i]
        by_cases q : i = k
        · rw [if_pos q, if_pos (by omega)]
        · rw [if_neg q, if_neg (by omega)]; rfl
    · cases h
end
section
/-! simple instructions, printed by gsimple.py -/
def mr_T (i : Instr) : Prop := ∀ (X : mr_X) (xs : Nat → Int32) (L : Nat) (p : Program) (l : Launch) (e : Env) (R : Room) (s : State) (m : MethodId) (args : Array Value) (below : List Frame) (meth : Method) (c : Code) (d y : Nat) (Q : State → Prop) (pc : Nat) (H : Heap) (locs : List Loc) (cells slots : Nat) (ls : Array Slot) (lc st : List Value) (h : mj_H) (n j k : Nat) (S : List Prop) (pc' : Nat) (lc' st' : List Value) (h' : mj_H),
  mr_C X xs L p R s m meth c d y → mj_ins y pc = some (i, n, j, k) → mr_S X xs L R s y lc h H locs cells slots ls → mj_do i n j k lc st h = some (S, pc', lc', st', h') → mj_all S →
  (∀ (H' : Heap) (locs' : List Loc) (cells' slots' : Nat) (ls' : Array Slot), mr_S X xs L R s y lc' h' H' locs' cells' slots' ls' → W p l e R s m args below meth c H' locs' cells' slots' Q (F0 m pc' ls' (st'.map (mr_v X)))) → W p l e R s m args below meth c H locs cells slots Q (F0 m pc ls (st.map (mr_v X)))
theorem mr_cat {X : mr_X} {a : Nat} : (mr_v X (.ref a)).category = 1 := by
  show (va_rf (mr_o X a)).category = 1
  cases mr_o X a <;> rfl

theorem mr_iadd : mr_T .iadd := by
  intro X xs L p l e R s m args below meth c d y Q pc H locs cells slots ls lc st h n j k S pc' lc' st' h' C hi hS hv hA kk
  obtain ⟨hn, hd⟩ := mj_dd hi rfl
  subst hn
  simp only [mj_do] at hv
  split at hv
  · cases hv
    exact lv_iadd C.1.1 C.1.2.1 hd (kk _ _ _ _ _ hS)
  · cases hv

theorem mr_isub : mr_T .isub := by
  intro X xs L p l e R s m args below meth c d y Q pc H locs cells slots ls lc st h n j k S pc' lc' st' h' C hi hS hv hA kk
  obtain ⟨hn, hd⟩ := mj_dd hi rfl
  subst hn
  simp only [mj_do] at hv
  split at hv
  · cases hv
    exact lv_isub C.1.1 C.1.2.1 hd (kk _ _ _ _ _ hS)
  · cases hv

theorem mr_imul : mr_T .imul := by
  intro X xs L p l e R s m args below meth c d y Q pc H locs cells slots ls lc st h n j k S pc' lc' st' h' C hi hS hv hA kk
  obtain ⟨hn, hd⟩ := mj_dd hi rfl
  subst hn
  simp only [mj_do] at hv
  split at hv
  · cases hv
    exact lv_imul C.1.1 C.1.2.1 hd (kk _ _ _ _ _ hS)
  · cases hv

theorem mr_iand : mr_T .iand := by
  intro X xs L p l e R s m args below meth c d y Q pc H locs cells slots ls lc st h n j k S pc' lc' st' h' C hi hS hv hA kk
  obtain ⟨hn, hd⟩ := mj_dd hi rfl
  subst hn
  simp only [mj_do] at hv
  split at hv
  · cases hv
    exact lv_iand C.1.1 C.1.2.1 hd (kk _ _ _ _ _ hS)
  · cases hv

theorem mr_ior : mr_T .ior := by
  intro X xs L p l e R s m args below meth c d y Q pc H locs cells slots ls lc st h n j k S pc' lc' st' h' C hi hS hv hA kk
  obtain ⟨hn, hd⟩ := mj_dd hi rfl
  subst hn
  simp only [mj_do] at hv
  split at hv
  · cases hv
    exact lv_ior C.1.1 C.1.2.1 hd (kk _ _ _ _ _ hS)
  · cases hv

theorem mr_ishl : mr_T .ishl := by
  intro X xs L p l e R s m args below meth c d y Q pc H locs cells slots ls lc st h n j k S pc' lc' st' h' C hi hS hv hA kk
  obtain ⟨hn, hd⟩ := mj_dd hi rfl
  subst hn
  simp only [mj_do] at hv
  split at hv
  · cases hv
    exact lv_ishl C.1.1 C.1.2.1 hd (kk _ _ _ _ _ hS)
  · cases hv

theorem mr_ishr : mr_T .ishr := by
  intro X xs L p l e R s m args below meth c d y Q pc H locs cells slots ls lc st h n j k S pc' lc' st' h' C hi hS hv hA kk
  obtain ⟨hn, hd⟩ := mj_dd hi rfl
  subst hn
  simp only [mj_do] at hv
  split at hv
  · cases hv
    exact lv_ishr C.1.1 C.1.2.1 hd (kk _ _ _ _ _ hS)
  · cases hv

theorem mr_idiv : mr_T .idiv := by
  intro X xs L p l e R s m args below meth c d y Q pc H locs cells slots ls lc st h n j k S pc' lc' st' h' C hi hS hv hA kk
  obtain ⟨hn, hd⟩ := mj_dd hi rfl
  subst hn
  simp only [mj_do] at hv
  split at hv
  · cases hv
    exact lv_idiv C.1.1 C.1.2.1 hd hA (kk _ _ _ _ _ hS)
  · cases hv

theorem mr_irem : mr_T .irem := by
  intro X xs L p l e R s m args below meth c d y Q pc H locs cells slots ls lc st h n j k S pc' lc' st' h' C hi hS hv hA kk
  obtain ⟨hn, hd⟩ := mj_dd hi rfl
  subst hn
  simp only [mj_do] at hv
  split at hv
  · cases hv
    exact lv_irem C.1.1 C.1.2.1 hd hA (kk _ _ _ _ _ hS)
  · cases hv

theorem mr_ineg : mr_T .ineg := by
  intro X xs L p l e R s m args below meth c d y Q pc H locs cells slots ls lc st h n j k S pc' lc' st' h' C hi hS hv hA kk
  obtain ⟨hn, hd⟩ := mj_dd hi rfl
  subst hn
  simp only [mj_do] at hv
  split at hv
  · cases hv
    exact lv_ineg C.1.1 C.1.2.1 hd (kk _ _ _ _ _ hS)
  · cases hv

theorem mr_i2b : mr_T .i2b := by
  intro X xs L p l e R s m args below meth c d y Q pc H locs cells slots ls lc st h n j k S pc' lc' st' h' C hi hS hv hA kk
  obtain ⟨hn, hd⟩ := mj_dd hi rfl
  subst hn
  simp only [mj_do] at hv
  split at hv
  · cases hv
    exact lv_i2b C.1.1 C.1.2.1 hd rfl (kk _ _ _ _ _ hS)
  · cases hv

theorem mr_i2c : mr_T .i2c := by
  intro X xs L p l e R s m args below meth c d y Q pc H locs cells slots ls lc st h n j k S pc' lc' st' h' C hi hS hv hA kk
  obtain ⟨hn, hd⟩ := mj_dd hi rfl
  subst hn
  simp only [mj_do] at hv
  split at hv
  · cases hv
    exact lv_i2c C.1.1 C.1.2.1 hd rfl (kk _ _ _ _ _ hS)
  · cases hv

theorem mr_i2l : mr_T .i2l := by
  intro X xs L p l e R s m args below meth c d y Q pc H locs cells slots ls lc st h n j k S pc' lc' st' h' C hi hS hv hA kk
  obtain ⟨hn, hd⟩ := mj_dd hi rfl
  subst hn
  simp only [mj_do] at hv
  split at hv
  · cases hv
    exact lv_i2l C.1.1 C.1.2.1 hd rfl (kk _ _ _ _ _ hS)
  · cases hv

theorem mr_lcmp : mr_T .lcmp := by
  intro X xs L p l e R s m args below meth c d y Q pc H locs cells slots ls lc st h n j k S pc' lc' st' h' C hi hS hv hA kk
  obtain ⟨hn, hd⟩ := mj_dd hi rfl
  subst hn
  simp only [mj_do] at hv
  split at hv
  · cases hv
    exact W.lcmp C.1.1 C.1.2.1 hd (kk _ _ _ _ _ hS)
  · cases hv

theorem mr_dup : mr_T .dup := by
  intro X xs L p l e R s m args below meth c d y Q pc H locs cells slots ls lc st h n j k S pc' lc' st' h' C hi hS hv hA kk
  obtain ⟨hn, hd⟩ := mj_dd hi rfl
  subst hn
  simp only [mj_do] at hv
  split at hv
  · cases hv
    exact lv_dup C.1.1 C.1.2.1 hd rfl (kk _ _ _ _ _ hS)
  · cases hv
    exact lv_dup C.1.1 C.1.2.1 hd mr_cat (kk _ _ _ _ _ hS)
  · cases hv

theorem mr_dup_x1 : mr_T .dup_x1 := by
  intro X xs L p l e R s m args below meth c d y Q pc H locs cells slots ls lc st h n j k S pc' lc' st' h' C hi hS hv hA kk
  obtain ⟨hn, hd⟩ := mj_dd hi rfl
  subst hn
  simp only [mj_do] at hv
  split at hv
  · cases hv
    exact lv_dup_x1 C.1.1 C.1.2.1 hd rfl mr_cat (kk _ _ _ _ _ hS)
  · cases hv
    exact lv_dup_x1 C.1.1 C.1.2.1 hd mr_cat mr_cat (kk _ _ _ _ _ hS)
  · cases hv

theorem mr_dup2 : mr_T .dup2 := by
  intro X xs L p l e R s m args below meth c d y Q pc H locs cells slots ls lc st h n j k S pc' lc' st' h' C hi hS hv hA kk
  obtain ⟨hn, hd⟩ := mj_dd hi rfl
  subst hn
  simp only [mj_do] at hv
  split at hv
  · cases hv
    exact lv_dup2_11 C.1.1 C.1.2.1 hd rfl mr_cat (kk _ _ _ _ _ hS)
  · cases hv

theorem mr_pop : mr_T .pop := by
  intro X xs L p l e R s m args below meth c d y Q pc H locs cells slots ls lc st h n j k S pc' lc' st' h' C hi hS hv hA kk
  obtain ⟨hn, hd⟩ := mj_dd hi rfl
  subst hn
  simp only [mj_do] at hv
  split at hv
  · cases hv
    exact lv_pop C.1.1 C.1.2.1 hd rfl (kk _ _ _ _ _ hS)
  · cases hv
    exact lv_pop C.1.1 C.1.2.1 hd mr_cat (kk _ _ _ _ _ hS)
  · cases hv

theorem mr_aconst_null : mr_T .aconst_null := by
  intro X xs L p l e R s m args below meth c d y Q pc H locs cells slots ls lc st h n j k S pc' lc' st' h' C hi hS hv hA kk
  obtain ⟨hn, hd⟩ := mj_dd hi rfl
  subst hn
  simp only [mj_do] at hv
  cases hv
  exact lv_null C.1.1 C.1.2.1 hd (kk _ _ _ _ _ hS)

theorem mr_dload (q : Nat) : mr_T (.dload q) := by
  intro X xs L p l e R s m args below meth c d y Q pc H locs cells slots ls lc st h n j k S pc' lc' st' h' C hi hS hv hA kk
  simp only [mj_do] at hv
  cases hv
  have c3 := mj_c3_ok hi
  have dd := (mj_dec_ok hi).2
  simp only [mj_c3, Bool.or_eq_true, Bool.and_eq_true, beq_iff_eq, decide_eq_true_eq] at c3
  simp only [mj_rl] at dd
  rcases c3 with ⟨e, v⟩ | ⟨e, v⟩ | ⟨e, v⟩
  · subst e
    rw [if_pos rfl, show pc + 1 - pc = 1 by omega] at dd
    exact lv_iconst C.1.1 C.1.2.1 dd v (kk _ _ _ _ _ hS)
  · subst e
    rw [if_neg (by omega), if_pos rfl, show pc + 2 - pc = 2 by omega] at dd
    exact lv_bipush C.1.1 C.1.2.1 dd v (kk _ _ _ _ _ hS)
  · subst e
    rw [if_neg (by omega), if_neg (by omega), show pc + 3 - pc = 3 by omega] at dd
    exact lv_sipush C.1.1 C.1.2.1 dd v (kk _ _ _ _ _ hS)

theorem mr_dstore (q : Nat) : mr_T (.dstore q) := by
  intro X xs L p l e R s m args below meth c d y Q pc H locs cells slots ls lc st h n j k S pc' lc' st' h' C hi hS hv hA kk
  simp only [mj_do] at hv
  cases hv
  have c3 := mj_c3_ok hi
  have dd := (mj_dec_ok hi).2
  simp only [mj_c3, Bool.or_eq_true, Bool.and_eq_true, beq_iff_eq, decide_eq_true_eq] at c3
  simp only [mj_rl] at dd
  rcases c3 with ⟨e, v⟩ | ⟨e, v⟩ | ⟨e, v⟩
  · subst e
    rw [if_pos rfl, show pc + 1 - pc = 1 by omega] at dd
    exact lv_iconst C.1.1 C.1.2.1 dd v (kk _ _ _ _ _ hS)
  · subst e
    rw [if_neg (by omega), if_pos rfl, show pc + 2 - pc = 2 by omega] at dd
    exact lv_bipush C.1.1 C.1.2.1 dd v (kk _ _ _ _ _ hS)
  · subst e
    rw [if_neg (by omega), if_neg (by omega), show pc + 3 - pc = 3 by omega] at dd
    exact lv_sipush C.1.1 C.1.2.1 dd v (kk _ _ _ _ _ hS)

theorem mr_ifCond (co : ClassFile.Cond) (t : Int) : mr_T (.ifCond co t) := by
  intro X xs L p l e R s m args below meth c d y Q pc H locs cells slots ls lc st h n j k S pc' lc' st' h' C hi hS hv hA kk
  obtain ⟨hn, hd⟩ := mj_dd hi rfl
  subst hn
  have ht : (pc : Int) + ((j : Int) - pc) = (j : Int) := by omega
  simp only [mj_do] at hv
  split at hv
  · cases hv
    have kk := kk _ _ _ _ _ hS
    cases co
    · simp only [mj_c0] at kk
      refine lv_if_eq C.1.1 C.1.2.1 hd ht (fun q => ?_) (fun q => ?_)
      · rw [if_pos q] at kk; exact kk
      · rw [if_neg q] at kk; exact kk
    · simp only [mj_c0] at kk
      refine lv_if_ne C.1.1 C.1.2.1 hd ht (fun q => ?_) (fun q => ?_)
      · rw [if_neg q] at kk; exact kk
      · rw [if_pos q] at kk; exact kk
    · simp only [mj_c0] at kk
      refine lv_if_lt C.1.1 C.1.2.1 hd ht (fun q => ?_) (fun q => ?_)
      · rw [if_pos q] at kk; exact kk
      · rw [if_neg q] at kk; exact kk
    · simp only [mj_c0] at kk
      refine lv_if_ge C.1.1 C.1.2.1 hd ht (fun q => ?_) (fun q => ?_)
      · rw [if_pos q] at kk; exact kk
      · rw [if_neg q] at kk; exact kk
    · simp only [mj_c0] at kk
      refine lv_if_gt C.1.1 C.1.2.1 hd ht (fun q => ?_) (fun q => ?_)
      · rw [if_pos q] at kk; exact kk
      · rw [if_neg q] at kk; exact kk
    · simp only [mj_c0] at kk
      refine lv_if_le C.1.1 C.1.2.1 hd ht (fun q => ?_) (fun q => ?_)
      · rw [if_pos q] at kk; exact kk
      · rw [if_neg q] at kk; exact kk
  · cases hv

theorem mr_if_icmp (co : ClassFile.Cond) (t : Int) : mr_T (.if_icmp co t) := by
  intro X xs L p l e R s m args below meth c d y Q pc H locs cells slots ls lc st h n j k S pc' lc' st' h' C hi hS hv hA kk
  obtain ⟨hn, hd⟩ := mj_dd hi rfl
  subst hn
  have ht : (pc : Int) + ((j : Int) - pc) = (j : Int) := by omega
  simp only [mj_do] at hv
  split at hv
  · cases hv
    have kk := kk _ _ _ _ _ hS
    cases co
    · simp only [mj_c2] at kk
      refine lv_icmp_eq C.1.1 C.1.2.1 hd ht (fun q => ?_) (fun q => ?_)
      · rw [if_pos q] at kk; exact kk
      · rw [if_neg q] at kk; exact kk
    · simp only [mj_c2] at kk
      refine lv_icmp_ne C.1.1 C.1.2.1 hd ht (fun q => ?_) (fun q => ?_)
      · rw [if_neg q] at kk; exact kk
      · rw [if_pos q] at kk; exact kk
    · simp only [mj_c2] at kk
      refine lv_icmp_lt C.1.1 C.1.2.1 hd ht (fun q => ?_) (fun q => ?_)
      · rw [if_pos q] at kk; exact kk
      · rw [if_neg q] at kk; exact kk
    · simp only [mj_c2] at kk
      refine lv_icmp_ge C.1.1 C.1.2.1 hd ht (fun q => ?_) (fun q => ?_)
      · rw [if_pos q] at kk; exact kk
      · rw [if_neg q] at kk; exact kk
    · simp only [mj_c2] at kk
      refine lv_icmp_gt C.1.1 C.1.2.1 hd ht (fun q => ?_) (fun q => ?_)
      · rw [if_pos q] at kk; exact kk
      · rw [if_neg q] at kk; exact kk
    · simp only [mj_c2] at kk
      refine lv_icmp_le C.1.1 C.1.2.1 hd ht (fun q => ?_) (fun q => ?_)
      · rw [if_pos q] at kk; exact kk
      · rw [if_neg q] at kk; exact kk
  · cases hv

theorem mr_goto (t : Int) : mr_T (.goto t) := by
  intro X xs L p l e R s m args below meth c d y Q pc H locs cells slots ls lc st h n j k S pc' lc' st' h' C hi hS hv hA kk
  obtain ⟨hn, hd⟩ := mj_dd hi rfl
  subst hn
  have ht : (pc : Int) + ((j : Int) - pc) = (j : Int) := by omega
  simp only [mj_do] at hv
  cases hv
  exact lv_goto C.1.1 C.1.2.1 hd ht (kk _ _ _ _ _ hS)
theorem mr_acx {X : mr_X} {xs : Nat → Int32} {L : Nat} {s : State} (K : mr_K X xs L s) {x z : Nat} (h : mj_ac x z) : mr_o X x = mr_o X z ↔ x = z := by
  obtain ⟨k1, k2, k3, k4, k5, k6, k7, k8, k9, k10, k11, k12, k13, k14, k15, k16, k17⟩ := K
  have far : ∀ a b, 20 ≤ a → b < 20 → b ≠ 15 → b ≠ 16 → mr_o X a ≠ mr_o X b := by
    intro a b ha hb q1 q2 e
    rw [mr_o_new ha] at e
    by_cases q0 : b = 0
    · subst q0; simp [mr_o] at e
    rw [mr_o_con q0 q1 hb] at e
    have := k17 b hb q2
    injection e with e
    omega
  refine ⟨fun e => ?_, fun e => by rw [e]⟩
  rcases h with h | ⟨h, h5, h6⟩ | ⟨h, h5, h6⟩ | ⟨h1, h2, h3, h4⟩
  · exact h
  · rcases Nat.lt_or_ge z 20 with hz | hz
    · exact absurd e (far x z h hz h5 h6)
    · rw [mr_o_new h, mr_o_new hz] at e
      injection e with e
      omega
  · rcases Nat.lt_or_ge x 20 with hz | hz
    · exact absurd e.symm (far z x h hz h5 h6)
    · rw [mr_o_new h, mr_o_new hz] at e
      injection e with e
      omega
  · rw [mr_o_con (by omega) (by omega) (by omega), mr_o_con (by omega) (by omega) (by omega)] at e
    injection e with e
    exact k16 x z h1 h2 h3 h4 e

theorem mr_if_acmp (co : ACond) (t : Int) : mr_T (.if_acmp co t) := by
  intro X xs L p l e R s m args below meth c d y Q pc H locs cells slots ls lc st h n j k S pc' lc' st' h' C hi hS hv hA kk
  obtain ⟨hn, hd⟩ := mj_dd hi rfl
  subst hn
  have ht : (pc : Int) + ((j : Int) - pc) = (j : Int) := by omega
  simp only [mj_do] at hv
  split at hv
  · next x z r =>
    cases co
    · simp only at hv
      cases hv
      have kk := kk _ _ _ _ _ hS
      have E := mr_acx C.2.1.2.2.1 (show mj_ac _ _ from hA)
      refine lv_acmp_eq C.1.1 C.1.2.1 hd ht (fun q => ?_) (fun q => ?_)
      · rw [if_pos (E.mp q)] at kk; exact kk
      · rw [if_neg (fun w => q (E.mpr w))] at kk; exact kk
    · simp only at hv
      cases hv
      have kk := kk _ _ _ _ _ hS
      have E := mr_acx C.2.1.2.2.1 (show mj_ac _ _ from hA)
      refine lv_acmp_ne C.1.1 C.1.2.1 hd ht (fun q => ?_) (fun q => ?_)
      · rw [if_neg (fun w => q (E.mpr w))] at kk; exact kk
      · rw [if_pos (E.mp q)] at kk; exact kk
  · cases hv
theorem mr_o_none {X : mr_X} {x : Nat} (h : mj_fitR x) : mr_o X x = none ↔ x = 0 := by
  unfold mj_fitR at h
  unfold mr_o
  by_cases q : x = 0
  · simp [q]
  · rw [if_neg q, if_neg h]
    split <;> simp [q]

theorem mr_ifnull (t : Int) : mr_T (.ifnull t) := by
  intro X xs L p l e R s m args below meth c d y Q pc H locs cells slots ls lc st h n j k S pc' lc' st' h' C hi hS hv hA kk
  obtain ⟨hn, hd⟩ := mj_dd hi rfl
  subst hn
  have ht : (pc : Int) + ((j : Int) - pc) = (j : Int) := by omega
  simp only [mj_do] at hv
  split at hv
  · next x r =>
    cases hv
    have kk := kk _ _ _ _ _ hS
    have E := mr_o_none (X := X) (show mj_fitR x from hA)
    show W p l e R s m args below meth c H locs cells slots Q (F0 m pc ls (va_rf (mr_o X x) :: _))
    cases ho : mr_o X x with
    | none =>
      rw [if_pos (E.mp ho)] at kk
      exact lv_ifnullN C.1.1 C.1.2.1 hd ht kk
    | some b =>
      rw [if_neg (fun w => by rw [E.mpr w] at ho; cases ho)] at kk
      exact lv_ifnull C.1.1 C.1.2.1 hd kk
  · cases hv

theorem mr_ifnonnull (t : Int) : mr_T (.ifnonnull t) := by
  intro X xs L p l e R s m args below meth c d y Q pc H locs cells slots ls lc st h n j k S pc' lc' st' h' C hi hS hv hA kk
  obtain ⟨hn, hd⟩ := mj_dd hi rfl
  subst hn
  have ht : (pc : Int) + ((j : Int) - pc) = (j : Int) := by omega
  simp only [mj_do] at hv
  split at hv
  · next x r =>
    cases hv
    have kk := kk _ _ _ _ _ hS
    have E := mr_o_none (X := X) (show mj_fitR x from hA)
    show W p l e R s m args below meth c H locs cells slots Q (F0 m pc ls (va_rf (mr_o X x) :: _))
    cases ho : mr_o X x with
    | none =>
      rw [if_pos (E.mp ho)] at kk
      exact lv_ifnonnullN C.1.1 C.1.2.1 hd kk
    | some b =>
      rw [if_neg (fun w => by rw [E.mpr w] at ho; cases ho)] at kk
      exact lv_ifnonnull C.1.1 C.1.2.1 hd ht kk
  · cases hv
end
section
/-! switches, constants, locals -/
theorem mj_sw_len {lo hi x : Int} {l : List Int} (hl : l.length = (hi - lo + 1).toNat) (h1 : ¬ x < lo) (h2 : ¬ hi < x) : (x - lo).toNat < l.length := by omega
theorem mr_tableswitch (df lo hi : Int) (offs : Array Int) : mr_T (.tableswitch df lo hi offs) := by
  intro X xs L p l e R s m args below meth c d y Q pc H locs cells slots ls lc st h n j k S pc' lc' st' h' C hi' hS hv hA kk
  have c3 := mj_c3_ok hi'
  have dd := (mj_dec_ok hi').2
  simp only [mj_c3, Bool.and_eq_true, decide_eq_true_eq] at c3
  obtain ⟨c1, c2, c4, c5⟩ := c3
  simp only [mj_rl] at dd
  simp only [mj_do] at hv
  split at hv
  · next x r =>
    cases hv
    have kk := kk _ _ _ _ _ hS
    unfold mj_sw at kk
    by_cases q : x.toInt < lo ∨ hi < x.toInt
    · rw [if_pos q] at kk
      exact lv_tableOut C.1.1 C.1.2.1 dd q (by omega) kk
    · rw [if_neg q] at kk
      have hlt := mj_sw_len c4 (fun z => q (Or.inl z)) (fun z => q (Or.inr z))
      have hg : offs.toList.getD (x.toInt - lo).toNat 0 = offs.toList[(x.toInt - lo).toNat] := by
        rw [List.getD_eq_getElem?_getD, List.getElem?_eq_getElem hlt]; rfl
      have hp : 0 ≤ offs.toList[(x.toInt - lo).toNat] := by
        have := List.all_eq_true.mp c2 _ (List.getElem_mem hlt)
        simpa using this
      refine lv_tableIn C.1.1 C.1.2.1 dd (fun z => q (Or.inl z)) (fun z => q (Or.inr z)) (off := offs.toList[(x.toInt - lo).toNat] - pc) ?_ ?_ kk
      · rw [List.getElem?_toArray, List.getElem?_map, List.getElem?_eq_getElem hlt]; rfl
      · rw [hg]; omega
  · cases hv
theorem mj_lk_off {x : Int} {d pc : Int} : ∀ (ps : List (Int × Int)), 0 ≤ d → (∀ q ∈ ps, 0 ≤ q.2) → pc + Op.lookupswitch.offset (ps.map (fun q => (q.1, q.2 - pc))) (d - pc) x = (mj_lk x d ps : Nat)
  | [], hd, _ => by
    show pc + (d - pc) = ((d.toNat : Nat) : Int)
    omega
  | (a, t) :: r, hd, h => by
    rw [List.map_cons]
    show pc + (if a = x then t - pc else Op.lookupswitch.offset (r.map (fun q => (q.1, q.2 - pc))) (d - pc) x) = ((if x = a then t.toNat else mj_lk x d r : Nat) : Int)
    by_cases q : a = x
    · rw [if_pos q, if_pos q.symm]
      have := h (a, t) List.mem_cons_self
      simp only at this
      omega
    · rw [if_neg q, if_neg (fun w => q w.symm)]
      exact mj_lk_off r hd (fun q hq => h q (List.mem_cons_of_mem _ hq))
theorem mj_zip_map {pc : Int} : ∀ (ps : List (Int × Int)), (ps.zip (ps.drop 1)).all (fun (a, next) => a.1 < next.1) = true → ((ps.map (fun q => (q.1, q.2 - pc))).zip ((ps.map (fun q => (q.1, q.2 - pc))).drop 1)).all (fun (a, next) => a.1 < next.1) = true
  | [], _ => rfl
  | [_], _ => rfl
  | a :: b :: r, h => by
    have h' : (decide (a.1 < b.1) && ((b :: r).zip ((b :: r).drop 1)).all (fun (a, next) => a.1 < next.1)) = true := h
    rw [Bool.and_eq_true] at h'
    have ih := mj_zip_map (pc := pc) (b :: r) h'.2
    show (decide (a.1 < b.1) && _) = true
    rw [Bool.and_eq_true]
    exact ⟨h'.1, ih⟩
theorem mr_lookupswitch (df : Int) (ps : Array (Int × Int)) : mr_T (.lookupswitch df ps) := by
  intro X xs L p l e R s m args below meth c d y Q pc H locs cells slots ls lc st h n j k S pc' lc' st' h' C hi' hS hv hA kk
  have c3 := mj_c3_ok hi'
  have dd := (mj_dec_ok hi').2
  simp only [mj_c3, Bool.and_eq_true, decide_eq_true_eq] at c3
  obtain ⟨c1, c2, c4⟩ := c3
  simp only [mj_rl] at dd
  simp only [mj_do] at hv
  split at hv
  · next x r =>
    cases hv
    have kk := kk _ _ _ _ _ hS
    have hp : ∀ q ∈ ps.toList, 0 ≤ q.2 := fun q hq => by
      have := List.all_eq_true.mp c2 q hq
      simpa using this
    exact lv_lookup C.1.1 C.1.2.1 dd (by exact mj_zip_map ps.toList c4) rfl (mj_lk_off ps.toList c1 hp) kk
  · cases hv
theorem mr_lo {X : mr_X} {ls : Array Slot} {lc : List Value} {n : Nat} (h : mr_L X ls lc n) (k : Nat) : (∀ x, mj_nth lc k = .int x → ls[k]? = some (.val (.int x))) ∧ (∀ a, mj_nth lc k = .ref a → ls[k]? = some (.val (va_rf (mr_o X a)))) := ⟨(h.2.2.2 k).1, (h.2.2.2 k).2.1⟩
theorem mr_iload (q : Nat) : mr_T (.iload q) := by
  intro X xs L p l e R s m args below meth c d y Q pc H locs cells slots ls lc st h n j k S pc' lc' st' h' C hi hS hv hA kk
  obtain ⟨hn, hd⟩ := mj_dd hi rfl
  subst hn
  simp only [mj_do, mj_lo1] at hv
  split at hv
  · next x eq => cases hv; exact lv_iload C.1.1 C.1.2.1 hd ((mr_lo hS.2.2.2.2.2.2 q).1 x eq) (kk _ _ _ _ _ hS)
  · cases hv
theorem mr_iload_n (q : Fin 4) : mr_T (.iload_n q) := by
  intro X xs L p l e R s m args below meth c d y Q pc H locs cells slots ls lc st h n j k S pc' lc' st' h' C hi hS hv hA kk
  obtain ⟨hn, hd⟩ := mj_dd hi rfl
  subst hn
  simp only [mj_do, mj_lo1] at hv
  split at hv
  · next x eq => cases hv; exact lv_iload_n C.1.1 C.1.2.1 hd rfl ((mr_lo hS.2.2.2.2.2.2 q.val).1 x eq) (kk _ _ _ _ _ hS)
  · cases hv
theorem mr_aload (q : Nat) : mr_T (.aload q) := by
  intro X xs L p l e R s m args below meth c d y Q pc H locs cells slots ls lc st h n j k S pc' lc' st' h' C hi hS hv hA kk
  obtain ⟨hn, hd⟩ := mj_dd hi rfl
  subst hn
  simp only [mj_do, mj_lo2] at hv
  split at hv
  · next x eq =>
    cases hv
    have hx := (mr_lo hS.2.2.2.2.2.2 q).2 x eq
    have kk : W p l e R s m args below meth c H locs cells slots Q (F0 m (pc + 2) ls (va_rf (mr_o X x) :: st.map (mr_v X))) := kk _ _ _ _ _ hS
    revert hx kk
    cases mr_o X x with
    | none => exact fun hx kk => lv_aloadN C.1.1 C.1.2.1 hd hx kk
    | some b => exact fun hx kk => lv_aload C.1.1 C.1.2.1 hd hx kk
  · cases hv
theorem mr_aload_n (q : Fin 4) : mr_T (.aload_n q) := by
  intro X xs L p l e R s m args below meth c d y Q pc H locs cells slots ls lc st h n j k S pc' lc' st' h' C hi hS hv hA kk
  obtain ⟨hn, hd⟩ := mj_dd hi rfl
  subst hn
  simp only [mj_do, mj_lo2] at hv
  split at hv
  · next x eq =>
    cases hv
    have hx := (mr_lo hS.2.2.2.2.2.2 q.val).2 x eq
    have kk : W p l e R s m args below meth c H locs cells slots Q (F0 m (pc + 1) ls (va_rf (mr_o X x) :: st.map (mr_v X))) := kk _ _ _ _ _ hS
    revert hx kk
    cases mr_o X x with
    | none => exact fun hx kk => lv_aload_nN C.1.1 C.1.2.1 hd rfl hx kk
    | some b => exact fun hx kk => lv_aload_n C.1.1 C.1.2.1 hd rfl hx kk
  · cases hv
/-- the locals as the kit's rows have them -/
def mr_lv (X : mr_X) (lc : List Value) : List (Nat × Value) := (List.range lc.length).filterMap (fun i => match mj_nth lc i with
  | .int x => some (i, .int x)
  | .ref a => some (i, mr_v X (.ref a))
  | _ => none)
theorem mj_nth_ge : ∀ {lc : List Value} {i : Nat}, lc.length ≤ i → mj_nth lc i = .retAddr 0
  | [], _, _ => by unfold mj_nth; rfl
  | _ :: l, 0, h => by simp at h
  | _ :: l, i + 1, h => by unfold mj_nth; exact mj_nth_ge (by simpa using h)
theorem mr_lv_in {X : mr_X} {lc : List Value} {i : Nat} : (∀ x, mj_nth lc i = .int x → (i, Value.int x) ∈ mr_lv X lc) ∧ (∀ a, mj_nth lc i = .ref a → (i, mr_v X (.ref a)) ∈ mr_lv X lc) := by
  have hlt : ∀ v, mj_nth lc i = v → v ≠ .retAddr 0 → i < lc.length := fun v e hv => by
    rcases Nat.lt_or_ge i lc.length with q | q
    · exact q
    · exact absurd (e.symm.trans (mj_nth_ge q)) hv
  refine ⟨fun x e => ?_, fun a e => ?_⟩
  · exact List.mem_filterMap.mpr ⟨i, List.mem_range.mpr (hlt _ e (by simp)), by rw [e]⟩
  · exact List.mem_filterMap.mpr ⟨i, List.mem_range.mpr (hlt _ e (by simp)), by rw [e]⟩
theorem mr_lv_has {X : mr_X} {ls : Array Slot} {lc : List Value} {n : Nat} (h : mr_L X ls lc n) : lv_has ls n (mr_lv X lc) := by
  obtain ⟨h1, h2, h3, h4⟩ := h
  refine ⟨h1, h2, fun q hq => ?_⟩
  obtain ⟨i, -, hi⟩ := List.mem_filterMap.mp hq
  split at hi
  · next x eq => cases hi; exact (h4 i).1 x eq
  · next a eq => cases hi; exact (h4 i).2.1 a eq
  · cases hi
theorem mr_L_store {X : mr_X} {ls ls' : Array Slot} {lc l : List Value} {n k : Nat} {v : Value} (h : mr_L X ls lc n) (hv : (∃ x, v = .int x) ∨ ∃ a, v = .ref a) (hs : mj_set lc k v = some l)
    (h' : lv_has ls' n ((k, mr_v X v) :: (mr_lv X lc).filter (fun q => !(q.1 == k) && !(q.1 + 1 == k && q.2.category == 2)))) : mr_L X ls' l n := by
  obtain ⟨a1, a2, a3⟩ := mj_set_ok hs
  obtain ⟨h1, h2, h3, h4⟩ := h
  obtain ⟨b1, b2, b3⟩ := h'
  refine ⟨b1, b2, a2.trans h3, fun i => ?_⟩
  rw [a3 i]
  by_cases q : i = k
  · rw [if_pos q]
    subst q
    have hk := b3 (i, mr_v X v) List.mem_cons_self
    refine ⟨fun x e => ?_, fun a e => ?_, fun x e => ?_, fun x e => ?_⟩
    · subst e; exact hk
    · subst e; exact hk
    · subst e; rcases hv with ⟨_, e⟩ | ⟨_, e⟩ <;> cases e
    · subst e; rcases hv with ⟨_, e⟩ | ⟨_, e⟩ <;> cases e
  · rw [if_neg q]
    refine ⟨fun x e => ?_, fun a e => ?_, (h4 i).2.2.1, (h4 i).2.2.2⟩
    · exact b3 (i, .int x) (List.mem_cons_of_mem _ (List.mem_filter.mpr ⟨mr_lv_in.1 x e, by simp [q, Value.category]⟩))
    · exact b3 (i, mr_v X (.ref a)) (List.mem_cons_of_mem _ (List.mem_filter.mpr ⟨mr_lv_in.2 a e, by simp [q, mr_cat]⟩))
theorem mr_S_lc {X : mr_X} {xs : Nat → Int32} {L : Nat} {R : Room} {s : State} {y : Nat} {lc lc' : List Value} {h : mj_H} {H : Heap} {locs : List Loc} {cells slots : Nat} {ls ls' : Array Slot} (hS : mr_S X xs L R s y lc h H locs cells slots ls) (hl : mr_L X ls' lc' (mj_ml y)) : mr_S X xs L R s y lc' h H locs cells slots ls' :=
  ⟨hS.1, hS.2.1, hS.2.2.1, hS.2.2.2.1, hS.2.2.2.2.1, hS.2.2.2.2.2.1, hl⟩
theorem mr_set_lt {X : mr_X} {ls : Array Slot} {lc l : List Value} {n k : Nat} {v : Value} (h : mr_L X ls lc n) (hs : mj_set lc k v = some l) : k < n := by
  rw [← h.2.2.1]; exact (mj_set_ok hs).1
theorem mr_istore (q : Nat) : mr_T (.istore q) := by
  intro X xs L p l e R s m args below meth c d y Q pc H locs cells slots ls lc st h n j k S pc' lc' st' h' C hi hS hv hA kk
  obtain ⟨hn, hd⟩ := mj_dd hi rfl
  subst hn
  simp only [mj_do, mj_st1] at hv
  split at hv
  · next x r =>
    split at hv
    · next l' eq =>
      cases hv
      have hl := hS.2.2.2.2.2.2
      exact lv_istore C.1.1 C.1.2.1 hd (mr_lv_has hl) (mr_set_lt hl eq) rfl (fun ls' h2 => kk _ _ _ _ _ (mr_S_lc hS (mr_L_store hl (Or.inl ⟨_, rfl⟩) eq h2)))
    · cases hv
  · cases hv
theorem mr_istore_n (q : Fin 4) : mr_T (.istore_n q) := by
  intro X xs L p l e R s m args below meth c d y Q pc H locs cells slots ls lc st h n j k S pc' lc' st' h' C hi hS hv hA kk
  obtain ⟨hn, hd⟩ := mj_dd hi rfl
  subst hn
  simp only [mj_do, mj_st1] at hv
  split at hv
  · next x r =>
    split at hv
    · next l' eq =>
      cases hv
      have hl := hS.2.2.2.2.2.2
      exact lv_istore_n C.1.1 C.1.2.1 hd rfl (mr_lv_has hl) (mr_set_lt hl eq) rfl (fun ls' h2 => kk _ _ _ _ _ (mr_S_lc hS (mr_L_store hl (Or.inl ⟨_, rfl⟩) eq h2)))
    · cases hv
  · cases hv
theorem mr_astore (q : Nat) : mr_T (.astore q) := by
  intro X xs L p l e R s m args below meth c d y Q pc H locs cells slots ls lc st h n j k S pc' lc' st' h' C hi hS hv hA kk
  obtain ⟨hn, hd⟩ := mj_dd hi rfl
  subst hn
  simp only [mj_do, mj_st2] at hv
  split at hv
  · next x r =>
    split at hv
    · next l' eq =>
      cases hv
      have hl := hS.2.2.2.2.2.2
      have kk : ∀ ls', lv_has ls' (mj_ml y) ((q, va_rf (mr_o X x)) :: (mr_lv X lc).filter (fun z => !(z.1 == q) && !(z.1 + 1 == q && z.2.category == 2))) → W p l e R s m args below meth c H locs cells slots Q (F0 m (pc + 2) ls' (st'.map (mr_v X))) := fun ls' h2 => kk _ _ _ _ _ (mr_S_lc hS (mr_L_store hl (Or.inr ⟨_, rfl⟩) eq h2))
      show W p l e R s m args below meth c H locs cells slots Q (F0 m pc ls (va_rf (mr_o X x) :: st'.map (mr_v X)))
      revert kk
      cases mr_o X x with
      | none => exact fun kk => lv_astoreN C.1.1 C.1.2.1 hd (mr_lv_has hl) (mr_set_lt hl eq) rfl kk
      | some b => exact fun kk => lv_astore C.1.1 C.1.2.1 hd (mr_lv_has hl) (mr_set_lt hl eq) rfl kk
    · cases hv
  · cases hv
theorem mr_astore_n (q : Fin 4) : mr_T (.astore_n q) := by
  intro X xs L p l e R s m args below meth c d y Q pc H locs cells slots ls lc st h n j k S pc' lc' st' h' C hi hS hv hA kk
  obtain ⟨hn, hd⟩ := mj_dd hi rfl
  subst hn
  simp only [mj_do, mj_st2] at hv
  split at hv
  · next x r =>
    split at hv
    · next l' eq =>
      cases hv
      have hl := hS.2.2.2.2.2.2
      have kk : ∀ ls', lv_has ls' (mj_ml y) ((q.val, va_rf (mr_o X x)) :: (mr_lv X lc).filter (fun z => !(z.1 == q.val) && !(z.1 + 1 == q.val && z.2.category == 2))) → W p l e R s m args below meth c H locs cells slots Q (F0 m (pc + 1) ls' (st'.map (mr_v X))) := fun ls' h2 => kk _ _ _ _ _ (mr_S_lc hS (mr_L_store hl (Or.inr ⟨_, rfl⟩) eq h2))
      show W p l e R s m args below meth c H locs cells slots Q (F0 m pc ls (va_rf (mr_o X x) :: st'.map (mr_v X)))
      revert kk
      cases mr_o X x with
      | none => exact fun kk => lv_astore_nN C.1.1 C.1.2.1 hd rfl (mr_lv_has hl) (mr_set_lt hl eq) rfl kk
      | some b => exact fun kk => lv_astore_n C.1.1 C.1.2.1 hd rfl (mr_lv_has hl) (mr_set_lt hl eq) rfl kk
    · cases hv
  · cases hv
theorem mr_inc {X : mr_X} {xs : Nat → Int32} {L : Nat} {p : Program} {l : Launch} {e : Env} {R : Room} {s : State} {m : MethodId} {args : Array Value} {below : List Frame} {meth : Method} {c : Code} {d y : Nat} {Q : State → Prop} {pc : Nat} {H : Heap} {locs : List Loc} {cells slots : Nat} {ls : Array Slot} {lc st : List Value} {h : mj_H} {q : Nat} {z : Int} {x w : Int32} {l' : List Value}
    (C : mr_C X xs L p R s m meth c d y) (hd : decode (mj_by y) pc = .ok (.iinc q z, 3)) (hS : mr_S X xs L R s y lc h H locs cells slots ls) (hx : mj_nth lc q = .int x) (hw : Int32.ofInt z = w) (hs : mj_set lc q (.int (x + w)) = some l')
    (kk : ∀ (ls' : Array Slot), mr_S X xs L R s y l' h H locs cells slots ls' → W p l e R s m args below meth c H locs cells slots Q (F0 m (pc + 3) ls' (st.map (mr_v X)))) : W p l e R s m args below meth c H locs cells slots Q (F0 m pc ls (st.map (mr_v X))) := by
  have hl := hS.2.2.2.2.2.2
  obtain ⟨i, hi⟩ := List.getElem?_of_mem (mr_lv_in (X := X).1 x hx)
  exact lv_iinc C.1.1 C.1.2.1 hd (mr_lv_has hl) hi (by rw [hw]) (mr_set_lt hl hs) rfl (fun ls' h2 => kk _ (mr_S_lc hS (mr_L_store hl (Or.inl ⟨_, rfl⟩) hs h2)))
theorem mr_iinc (q : Nat) (z : Int) : mr_T (.iinc q z) := by
  intro X xs L p l e R s m args below meth c d y Q pc H locs cells slots ls lc st h n j k S pc' lc' st' h' C hi hS hv hA kk
  have c3 := mj_c3_ok hi
  have dd := (mj_dec_ok hi).2
  simp only [mj_c3, Bool.and_eq_true, beq_iff_eq, decide_eq_true_eq] at c3
  obtain ⟨hn, hw⟩ := c3
  subst hn
  rw [show pc + 3 - pc = 3 by omega] at dd
  simp only [mj_do] at hv
  split at hv
  · next x hx =>
    split at hv
    · next l' eq => cases hv; exact mr_inc C dd hS hx hw eq (fun ls' h2 => kk _ _ _ _ _ h2)
    · cases hv
  · cases hv
theorem mr_multianewarray (q z : Nat) : mr_T (.multianewarray q z) := by
  intro X xs L p l e R s m args below meth c d y Q pc H locs cells slots ls lc st h n j k S pc' lc' st' h' C hi hS hv hA kk
  have c3 := mj_c3_ok hi
  have dd := (mj_dec_ok hi).2
  simp only [mj_c3, Bool.and_eq_true, beq_iff_eq, decide_eq_true_eq] at c3
  obtain ⟨hn, hw⟩ := c3
  subst hn
  rw [show pc + 3 - pc = 3 by omega] at dd
  simp only [mj_do] at hv
  split at hv
  · next x hx =>
    split at hv
    · next l' eq => cases hv; exact mr_inc C dd hS hx hw eq (fun ls' h2 => kk _ _ _ _ _ h2)
    · cases hv
  · cases hv
end
section
/-! fields -/
def mj_c4 (y : Nat) (i : Instr) (j k : Nat) (ps : List Nat) : Bool := match i with
  | .getfield t => !(t == 2) || (k == 1 && mj_w (ps.getD 0 0) (.fieldLink (mj_mn y).cls j (mj_F 2 k).1 (mj_F 2 k).2.1 (mj_F 2 k).2.2.1))
  | .fload t => !(t == 2) || (k == 0 && mj_w (ps.getD 0 0) (.fieldLink (mj_mn y).cls j (mj_F 2 k).1 (mj_F 2 k).2.1 (mj_F 2 k).2.2.1))
  | .newarray t => Nat.ble (mj_at t) 19
  | .invokevirtual z => !(z == 901) || (if k = 7 then (mj_mn y).cls == "DotBook$Kind" else !((mj_mn y).cls == "DotBook$Kind"))
  | _ => true
def mj_ck4 (y : Nat) : Bool := (List.range (mj_sz y)).all fun pc => match mj_ins y pc with
  | none => true
  | some (i, _, j, k) => mj_c4 y i j k (mj_pq pc (mj_pl y))
set_option maxRecDepth 100000 in
theorem mj_ck4_0 : (List.range 47).all mj_ck4 = true := by decide +kernel
set_option maxRecDepth 100000 in
theorem mj_ck4_1 : ((List.range 43).map (· + 47)).all mj_ck4 = true := by decide +kernel
set_option maxRecDepth 100000 in
theorem mj_ck4_2 : ((List.range 31).map (· + 90)).all mj_ck4 = true := by decide +kernel
set_option maxRecDepth 100000 in
theorem mj_ck4_3 : ((List.range 27).map (· + 121)).all mj_ck4 = true := by decide +kernel
set_option maxRecDepth 100000 in
theorem mj_ck4_4 : ((List.range 21).map (· + 148)).all mj_ck4 = true := by decide +kernel
theorem mj_c4_ok {y pc : Nat} {i : Instr} {n j k : Nat} (h : mj_ins y pc = some (i, n, j, k)) : mj_c4 y i j k (mj_pq pc (mj_pl y)) = true := by
  obtain ⟨h1, h2⟩ := mj_ins_in h
  have q := List.all_eq_true.mp (mj_part mj_ck4_0 mj_ck4_1 mj_ck4_2 mj_ck4_3 mj_ck4_4 h1) pc (List.mem_range.mpr h2)
  rw [h] at q
  exact q
section
variable {X : mr_X} {xs : Nat → Int32} {L : Nat} {p : Program} {l : Launch} {e : Env} {R : Room} {s : State} {m : MethodId} {args : Array Value} {below : List Frame} {meth : Method} {c : Code} {d y : Nat} {Q : State → Prop} {H : Heap} {locs : List Loc} {cells slots : Nat} {h : mj_H}
theorem mr_Wz {g : JFrame} (k : H.size ≤ s.heap.size + cells → W p l e R s m args below meth c H locs cells slots Q g) : W p l e R s m args below meth c H locs cells slots Q g := fun T hT X => k (by rw [← hT]; exact X.heapSize) T hT X
theorem mr_w (C : mr_C X xs L p R s m meth c d y) {q : Nat} {w : Cond} (h : mj_w q w = true) : w.before args s = true := mj_mv_use (mj_w_ok h).2 (C.2.1.1 w (mj_w_ok h).1 (mj_w_ok h).2)
theorem mr_wN (C : mr_C X xs L p R s m meth c d y) {q : Nat} {w : Cond} (h : mj_w q w = true) : va_Nw w s := C.2.1.1 w (mj_w_ok h).1 (mj_w_ok h).2
theorem mr_ts (C : mr_C X xs L p R s m meth c d y) {t : Nat} (ht : t < 11) : ∀ w ∈ u_ws (mj_CN t) (mj_F t) (mj_nf t), w.before args s = true := by
  intro w hw
  have := List.all_eq_true.mp (mj_wsok t ht) w hw
  simp only [mj_has, Bool.and_eq_true, decide_eq_true_eq] at this
  exact mj_mv_use this.2 (C.2.1.1 w this.1 this.2)
end
def mr_fs (X : mr_X) (h : mj_H) (a t : Nat) : List Value := (List.range (mj_nf t)).map (fun k => bif mj_rf t k then mr_v X (.ref (mj_R h a k)) else .int (mj_I h a k))
theorem mr_en_obj {X : mr_X} {h : mj_H} {a t : Nat} (hT : mj_T h a = t) (ht : t < 11) : mr_en X h a = .inr (t, mr_fs X h a t) := by
  subst hT
  unfold mr_en
  rw [if_pos ht]; rfl
theorem mr_fs_I {X : mr_X} {h : mj_H} {a t k : Nat} (hk : k < mj_nf t) (hr : mj_rf t k = false) : (mr_fs X h a t)[k]? = some (.int (mj_I h a k)) := by
  unfold mr_fs
  rw [List.getElem?_map, List.getElem?_range hk]
  simp [hr]
theorem mr_fs_R {X : mr_X} {h : mj_H} {a t k : Nat} (hk : k < mj_nf t) (hr : mj_rf t k = true) : (mr_fs X h a t)[k]? = some (mr_v X (.ref (mj_R h a k))) := by
  unfold mr_fs
  rw [List.getElem?_map, List.getElem?_range hk]
  simp [hr]
theorem mr_fs_wI {X : mr_X} {h : mj_H} {a t k : Nat} {v : Int32} (hr : mj_rf t k = false) : mr_fs X (mj_wI h a k v) a t = (mr_fs X h a t).set k (.int v) := by
  apply List.ext_getElem?
  intro i
  rw [List.getElem?_set]
  unfold mr_fs
  simp only [List.getElem?_map, List.length_map, List.length_range]
  by_cases hi : k = i
  · subst hi
    rw [if_pos rfl]
    by_cases hl : k < mj_nf t
    · rw [if_pos hl, List.getElem?_range hl]
      simp [hr, mj_I, mj_wI]
    · rw [if_neg hl, List.getElem?_eq_none (by simp; omega)]; rfl
  · rw [if_neg hi]
    by_cases hl : i < mj_nf t
    · rw [List.getElem?_range hl]
      simp only [Option.map_some]
      congr 1
      have e1 : mj_I (mj_wI h a k v) a i = mj_I h a i := by simp [mj_I, mj_wI, Ne.symm hi]
      rw [e1]; rfl
    · rw [List.getElem?_eq_none (by simp; omega)]; rfl
theorem mr_fs_wR {X : mr_X} {h : mj_H} {a t k v : Nat} (hr : mj_rf t k = true) : mr_fs X (mj_wR h a k v) a t = (mr_fs X h a t).set k (mr_v X (.ref v)) := by
  apply List.ext_getElem?
  intro i
  rw [List.getElem?_set]
  unfold mr_fs
  simp only [List.getElem?_map, List.length_map, List.length_range]
  by_cases hi : k = i
  · subst hi
    rw [if_pos rfl]
    by_cases hl : k < mj_nf t
    · rw [if_pos hl, List.getElem?_range hl]
      simp [hr, mj_R, mj_wR]
    · rw [if_neg hl, List.getElem?_eq_none (by simp; omega)]; rfl
  · rw [if_neg hi]
    by_cases hl : i < mj_nf t
    · rw [List.getElem?_range hl]
      simp only [Option.map_some]
      congr 1
      have e1 : mj_R (mj_wR h a k v) a i = mj_R h a i := by simp [mj_R, mj_wR, Ne.symm hi]
      rw [e1]; rfl
    · rw [List.getElem?_eq_none (by simp; omega)]; rfl
theorem mr_en_wI {X : mr_X} {h : mj_H} {a k b : Nat} {v : Int32} (hb : b ≠ a) : mr_en X (mj_wI h a k v) b = mr_en X h b := by
  have e1 : mj_I (mj_wI h a k v) b = mj_I h b := by funext i; simp [mj_I, mj_wI, hb]
  unfold mr_en
  rw [e1]; rfl
theorem mr_en_wR {X : mr_X} {h : mj_H} {a k b v : Nat} (hb : b ≠ a) : mr_en X (mj_wR h a k v) b = mr_en X h b := by
  have e1 : mj_R (mj_wR h a k v) b = mj_R h b := by funext i; simp [mj_R, mj_wR, hb]
  unfold mr_en
  rw [e1]; rfl
theorem mr_en_wL {X : mr_X} {h : mj_H} {a k b : Nat} {v : Int64} (hb : b ≠ a) : mr_en X (mj_wL h a k v) b = mr_en X h b := by
  have e1 : mj_L (mj_wL h a k v) b = mj_L h b := by funext i; simp [mj_L, mj_wL, hb]
  unfold mr_en
  rw [e1]; rfl
theorem mr_H_wI {X : mr_X} {xs : Nat → Int32} {L : Nat} {h : mj_H} {H H1 : Heap} {a k : Nat} {v : Int32} (q : mr_H X xs L h H) (ha : 20 ≤ a) (hb : mj_T h a = 17 → mj_b v = v) (hP : va_P (mr_D X) mj_cls (mr_ws X (mj_wI h a k v)) H1) : mr_H X xs L (mj_wI h a k v) H1 := by
  obtain ⟨q1, q2, q3, q4, q5, -⟩ := q
  refine ⟨q1, q2, q3, fun b hb' => ?_, fun b i hb1 hb2 => ?_, hP⟩
  · obtain ⟨r1, r2, r3, r4⟩ := q4 b hb'
    refine ⟨r1, r2, fun i => ?_, r4⟩
    rw [← r3 i]
    have : b ≠ a := by omega
    simp [mj_I, mj_wI, this]
  · have hb2 : mj_T h b = 17 := hb2
    by_cases e : b = a
    · subst e
      by_cases e2 : i = k
      · subst e2; simp [mj_I, mj_wI, hb hb2]
      · simpa [mj_I, mj_wI, e2] using q5 b i hb1 hb2
    · simpa [mj_I, mj_wI, e] using q5 b i hb1 hb2
theorem mr_H_wR {X : mr_X} {xs : Nat → Int32} {L : Nat} {h : mj_H} {H H1 : Heap} {a k v : Nat} (q : mr_H X xs L h H) (ha : 20 ≤ a) (hP : va_P (mr_D X) mj_cls (mr_ws X (mj_wR h a k v)) H1) : mr_H X xs L (mj_wR h a k v) H1 := by
  obtain ⟨q1, q2, q3, q4, q5, -⟩ := q
  refine ⟨q1, q2, q3, fun b hb' => ?_, q5, hP⟩
  obtain ⟨r1, r2, r3, r4⟩ := q4 b hb'
  refine ⟨r1, r2, r3, fun i => ?_⟩
  rw [← r4 i]
  have : b ≠ a := by omega
  simp [mj_R, mj_wR, this]
theorem mr_H_wL {X : mr_X} {xs : Nat → Int32} {L : Nat} {h : mj_H} {H H1 : Heap} {a k : Nat} {v : Int64} (q : mr_H X xs L h H) (hP : va_P (mr_D X) mj_cls (mr_ws X (mj_wL h a k v)) H1) : mr_H X xs L (mj_wL h a k v) H1 := by
  obtain ⟨q1, q2, q3, q4, q5, -⟩ := q
  exact ⟨q1, q2, q3, q4, q5, hP⟩
theorem mr_S_h {X : mr_X} {xs : Nat → Int32} {L : Nat} {R : Room} {s : State} {y : Nat} {lc : List Value} {h h' : mj_H} {H H1 : Heap} {locs locs1 : List Loc} {cells slots : Nat} {ls : Array Slot} (hS : mr_S X xs L R s y lc h H locs cells slots ls) (hu : mj_U h' = mj_U h) (hz : mj_Z h' = mj_Z h) (h1 : mr_H X xs L h' H1) (h2 : va_S (fun q => mr_B X ≤ q) s.heap H1 locs1) : mr_S X xs L R s y lc h' H1 locs1 cells slots ls :=
  ⟨by rw [hu]; exact hS.1, by rw [hu]; exact hS.2.1, by rw [hu]; exact hS.2.2.1, h1, h2, by rw [hz]; exact hS.2.2.2.2.2.1, hS.2.2.2.2.2.2⟩
/-- a constant string is 3 or 5 -/
theorem mc_T_obj : ∀ a, a < 20 → mc_T a < 11 → a = 3 ∨ a = 5 := by decide
theorem mr_at_obj {X : mr_X} {xs : Nat → Int32} {L : Nat} {h : mj_H} {H : Heap} {a t : Nat} (q : mr_H X xs L h H) (ha : 20 ≤ a) (hT : mj_T h a = t) (ht : t < 11) : (mr_ws X h)[a - 20]? = some (mr_B X + (a - 20), .inr (t, mr_fs X h a t)) := by
  rw [q.at ha (by rw [hT]; omega), mr_en_obj hT ht]
theorem mr_get1 {X : mr_X} {xs : Nat → Int32} {L : Nat} {p : Program} {l : Launch} {e : Env} {R : Room} {s : State} {m : MethodId} {args : Array Value} {below : List Frame} {meth : Method} {c : Code} {d y : Nat} {Q : State → Prop} {pc : Nat} {H : Heap} {locs : List Loc} {cells slots : Nat} {ls : Array Slot} {h : mj_H} {a t k j : Nat} {ps : List Nat} {v : Value} {r : List Value}
    (C : mr_C X xs L p R s m meth c d y) (hd : decode (mj_by y) pc = .ok (.getfield j, 3)) (q : mr_H X xs L h H) (ha : 20 ≤ a) (hT : mj_T h a = t) (ht : t < 11) (hk : k < mj_nf t) (hf : mj_flk (mj_mn y).cls j t k ps = true) (hv : (mr_fs X h a t)[k]? = some v)
    (kk : W p l e R s m args below meth c H locs cells slots Q (F0 m (pc + 3) ls (v :: r))) : W p l e R s m args below meth c H locs cells slots Q (F0 m pc ls (mr_v X (.ref a) :: r)) := by
  have he := mr_at_obj q ha hT ht
  rw [mr_v_new ha]
  simp only [mj_flk, Bool.or_eq_true, Bool.and_eq_true] at hf
  rcases hf with hf | hf | ⟨hf, hf2⟩
  · exact va_get C.1.1 C.1.2.1 (mr_ts C ht) (fun _ z => z) C.1.2.2.2.1 C.2.1.2.1 q.2.2.2.2.2 (a - 20) he (mj_cls_at t ht) k hk (mr_w C hf) (fun _ z => z) hv hd kk
  · exact va_getN C.1.1 C.1.2.1 (mr_ts C ht) (fun _ z => z) C.1.2.2.2.1 C.2.1.2.1 q.2.2.2.2.2 (a - 20) he (mj_cls_at t ht) k hk (mr_w C hf) (fun _ z => z) hv hd kk
  · exact va_get C.1.1 C.1.2.1 (mr_ts C ht) (fun _ z => z) C.1.2.2.2.1 C.2.1.2.1 q.2.2.2.2.2 (a - 20) he (mj_cls_at t ht) k hk (mr_w C hf) (fun x9 h9 => u_same (mr_w (args := args) C hf2) x9 h9) hv hd kk
theorem mr_getfield (t : Nat) : mr_T (.getfield t) := by
  intro X xs L p l e R s m args below meth c d y Q pc H locs cells slots ls lc st h n j k S pc' lc' st' h' C hi hS hv hA kk
  obtain ⟨hn, hd⟩ := mj_dd hi rfl
  subst hn
  have hl := mj_lok_ok hi
  have h4 := mj_c4_ok hi
  simp only [mj_lok, Bool.and_eq_true, decide_eq_true_eq, beq_iff_eq] at hl
  obtain ⟨ht, hk, hr, hf⟩ := hl
  simp only [mj_do] at hv
  split at hv
  · next a r =>
    cases hv
    have hT : mj_T h a = t := hA
    have kk := kk _ _ _ _ _ hS
    have qH := hS.2.2.2.1
    show W p l e R s m args below meth c H locs cells slots Q (F0 m pc ls (mr_v X (.ref a) :: r.map (mr_v X)))
    rcases Nat.lt_or_ge a 20 with ha | ha
    · obtain ⟨r1, -, r3, -⟩ := qH.2.2.2.1 a ha
      have h35 := mc_T_obj a ha (by rw [← r1, hT]; exact ht)
      have ht2 : t = 2 := by rw [← hT, r1]; rcases h35 with rfl | rfl <;> rfl
      subst ht2
      simp only [mj_c4, beq_self_eq_true, Bool.not_true, Bool.false_or, Bool.and_eq_true, beq_iff_eq] at h4
      obtain ⟨hk1, h4⟩ := h4
      subst hk1
      have hE := ((C.2.1.2.2.1.2.2.1 a ha (by rw [← r1, hT])).2.1)
      have ev : mj_I h a 1 = 0 := by rw [r3 1]; rcases h35 with rfl | rfl <;> rfl
      rw [ev] at kk
      rw [mr_v_con (by omega) (by omega) ha]
      exact vk_getf C.1.1 C.1.2.1 hE hS.2.2.2.2.1 C.1.2.2.2.1 (mr_w C h4) (fun _ z => z) hd kk
    · exact mr_get1 C hd qH ha hT ht hk hf (mr_fs_I hk hr) kk
  · cases hv
theorem mr_fload (t : Nat) : mr_T (.fload t) := by
  intro X xs L p l e R s m args below meth c d y Q pc H locs cells slots ls lc st h n j k S pc' lc' st' h' C hi hS hv hA kk
  obtain ⟨hn, hd⟩ := mj_dd hi rfl
  subst hn
  have hl := mj_lok_ok hi
  have h4 := mj_c4_ok hi
  simp only [mj_lok, Bool.and_eq_true, decide_eq_true_eq, beq_iff_eq] at hl
  obtain ⟨ht, hk, hr, hf⟩ := hl
  simp only [mj_do] at hv
  split at hv
  · next a r =>
    cases hv
    have hT : mj_T h a = t := hA
    have k2 : W p l e R s m args below meth c H locs cells slots Q (F0 m (pc + 3) ls (mr_v X (.ref (mj_R h a k)) :: r.map (mr_v X))) := kk _ _ _ _ _ hS
    clear kk
    have qH := hS.2.2.2.1
    show W p l e R s m args below meth c H locs cells slots Q (F0 m pc ls (mr_v X (.ref a) :: r.map (mr_v X)))
    rcases Nat.lt_or_ge a 20 with ha | ha
    · obtain ⟨r1, -, -, r3⟩ := qH.2.2.2.1 a ha
      have h35 := mc_T_obj a ha (by rw [← r1, hT]; exact ht)
      have ht2 : t = 2 := by rw [← hT, r1]; rcases h35 with rfl | rfl <;> rfl
      subst ht2
      simp only [mj_c4, beq_self_eq_true, Bool.not_true, Bool.false_or, Bool.and_eq_true, beq_iff_eq] at h4
      obtain ⟨hk1, h4⟩ := h4
      subst hk1
      have hE := ((C.2.1.2.2.1.2.2.1 a ha (by rw [← r1, hT])).1)
      have ev : mj_R h a 0 = a + 1 := by rw [r3 0]; rcases h35 with rfl | rfl <;> rfl
      rw [ev, mr_v_con (by omega) (by omega) (by omega)] at k2
      rw [mr_v_con (by omega) (by omega) ha]
      exact vk_getf C.1.1 C.1.2.1 hE hS.2.2.2.2.1 C.1.2.2.2.1 (mr_w C h4) (fun _ z => z) hd k2
    · exact mr_get1 C hd qH ha hT ht hk hf (mr_fs_R hk hr) k2
  · cases hv
theorem mr_fs_len {X : mr_X} {h : mj_H} {a t : Nat} : (mr_fs X h a t).length = mj_nf t := by simp [mr_fs]
theorem mr_put1 {X : mr_X} {xs : Nat → Int32} {L : Nat} {p : Program} {l : Launch} {e : Env} {R : Room} {s : State} {m : MethodId} {args : Array Value} {below : List Frame} {meth : Method} {c : Code} {d y : Nat} {Q : State → Prop} {pc : Nat} {H : Heap} {locs : List Loc} {cells slots : Nat} {ls : Array Slot} {h : mj_H} {a t k j : Nat} {ps : List Nat} {v : Value} {r : List Value}
    (C : mr_C X xs L p R s m meth c d y) (hd : decode (mj_by y) pc = .ok (.putfield j, 3)) (q : mr_H X xs L h H) (hs : va_S (fun q => mr_B X ≤ q) s.heap H locs) (ha : 20 ≤ a) (hT : mj_T h a = t) (ht : t < 11) (hk : k < mj_nf t) (hf : mj_flkF y (mj_mn y).cls j t k ps = true) (hn : narrow (mj_ty t k) v = v) (hfit : fits (mj_ty t k) v = true)
    (kk : ∀ (H1 : Heap) (locs1 : List Loc), va_P (mr_D X) mj_cls ((mr_ws X h).set (a - 20) (mr_B X + (a - 20), .inr (t, (mr_fs X h a t).set k v))) H1 → va_S (fun q => mr_B X ≤ q) s.heap H1 locs1 → W p l e R s m args below meth c H1 locs1 cells slots Q (F0 m (pc + 3) ls r)) : W p l e R s m args below meth c H locs cells slots Q (F0 m pc ls (v :: mr_v X (.ref a) :: r)) := by
  have he := mr_at_obj q ha hT ht
  rw [mr_v_new ha]
  simp only [mj_flkF, mj_flk, Bool.or_eq_true, Bool.and_eq_true, beq_iff_eq] at hf
  obtain ⟨hf, hfin⟩ := hf
  rcases hfin with hfin | ⟨hA, hin, hdc⟩
  · rcases hf with hf | hf | ⟨hf, hf2⟩
    · exact va_put C.1.1 C.1.2.1 (mr_ts C ht) (fun _ z => z) (mj_ty t) (mj_tyok t ht) (mj_nmok t ht) C.1.2.2.2.1 C.2.1.2.1 q.2.2.2.2.2 mr_ws_D hs (a - 20) he (mj_cls_at t ht) k hk (mr_w C hf) (fun _ z => z) hfin (mj_tyok t ht k hk) hn hfit (by rw [mr_fs_len]; exact hk) hd (fun H1 locs1 w1 _ w3 => kk H1 locs1 w1 w3)
    · exact va_putN C.1.1 C.1.2.1 (mr_ts C ht) (fun _ z => z) (mj_ty t) (mj_tyok t ht) (mj_nmok t ht) C.1.2.2.2.1 C.2.1.2.1 q.2.2.2.2.2 mr_ws_D hs (a - 20) he (mj_cls_at t ht) k hk (mr_w C hf) (fun _ z => z) hfin (mj_tyok t ht k hk) hn hfit (by rw [mr_fs_len]; exact hk) hd (fun H1 locs1 w1 _ w3 => kk H1 locs1 w1 w3)
    · exact va_put C.1.1 C.1.2.1 (mr_ts C ht) (fun _ z => z) (mj_ty t) (mj_tyok t ht) (mj_nmok t ht) C.1.2.2.2.1 C.2.1.2.1 q.2.2.2.2.2 mr_ws_D hs (a - 20) he (mj_cls_at t ht) k hk (mr_w C hf) (fun x9 h9 => u_same (mr_w (args := args) C hf2) x9 h9) hfin (mj_tyok t ht k hk) hn hfit (by rw [mr_fs_len]; exact hk) hd (fun H1 locs1 w1 _ w3 => kk H1 locs1 w1 w3)
  · by_cases hfin : (mj_F t k).2.2.2 = false
    · exact va_put C.1.1 C.1.2.1 (mr_ts C ht) (fun _ z => z) (mj_ty t) (mj_tyok t ht) (mj_nmok t ht) C.1.2.2.2.1 C.2.1.2.1 q.2.2.2.2.2 mr_ws_D hs (a - 20) he (mj_cls_at t ht) k hk (mr_w C hA) (fun _ z => z) hfin (mj_tyok t ht k hk) hn hfit (by rw [mr_fs_len]; exact hk) hd (fun H1 locs1 w1 _ w3 => kk H1 locs1 w1 w3)
    · exact va_putF C.1.1 C.1.2.1 (mr_ts C ht) (fun _ z => z) (mj_ty t) (mj_tyok t ht) (mj_nmok t ht) C.1.2.2.2.1 C.2.1.2.1 q.2.2.2.2.2 mr_ws_D hs (a - 20) he (mj_cls_at t ht) k hk (mr_w C hA) (fun _ z => z) (by simpa using hfin) (by rw [C.1.2.2.2.2.2.2.1]; exact hin) hdc (mj_tyok t ht k hk) hn hfit (by rw [mr_fs_len]; exact hk) hd (fun H1 locs1 w1 _ w3 => kk H1 locs1 w1 w3)
theorem mr_putI {X : mr_X} {xs : Nat → Int32} {L : Nat} {p : Program} {l : Launch} {e : Env} {R : Room} {s : State} {m : MethodId} {args : Array Value} {below : List Frame} {meth : Method} {c : Code} {d y : Nat} {Q : State → Prop} {pc : Nat} {H : Heap} {locs : List Loc} {cells slots : Nat} {ls : Array Slot} {lc : List Value} {h : mj_H} {a t k j : Nat} {ps : List Nat} {v : Int32} {r : List Value}
    (C : mr_C X xs L p R s m meth c d y) (hd : decode (mj_by y) pc = .ok (.putfield j, 3)) (hS : mr_S X xs L R s y lc h H locs cells slots ls) (ha : 20 ≤ a) (hT : mj_T h a = t) (ht : t < 11) (hk : k < mj_nf t) (hr : mj_rf t k = false) (hf : mj_flkF y (mj_mn y).cls j t k ps = true) (hn : narrow (mj_ty t k) (.int v) = .int v) (hfit : fits (mj_ty t k) (.int v) = true)
    (kk : ∀ (H1 : Heap) (locs1 : List Loc), mr_S X xs L R s y lc (mj_wI h a k v) H1 locs1 cells slots ls → W p l e R s m args below meth c H1 locs1 cells slots Q (F0 m (pc + 3) ls r)) : W p l e R s m args below meth c H locs cells slots Q (F0 m pc ls (.int v :: mr_v X (.ref a) :: r)) := by
  refine mr_put1 C hd hS.2.2.2.1 hS.2.2.2.2.1 ha hT ht hk hf hn hfit (fun H1 locs1 w1 w2 => kk H1 locs1 (mr_S_h hS rfl rfl (mr_H_wI hS.2.2.2.1 ha (fun z => by omega) ?_) w2))
  rw [← mr_ws_set (X := X) (h := h) (h' := mj_wI h a k v) rfl ha (fun b hb => mr_en_wI hb), mr_en_obj (show mj_T (mj_wI h a k v) a = t from hT) ht, mr_fs_wI hr]
  exact w1
theorem mr_rf_ty {t k : Nat} (ht : t < 11) (hk : k < mj_nf t) : mj_rf t k = true → (∃ n, mj_ty t k = .object n) ∨ ∃ z, mj_ty t k = .array z := by
  intro hr
  have := mj_rfok t ht k hk
  rw [hr] at this
  split at this
  · next n e => exact Or.inl ⟨n, e⟩
  · next z e => exact Or.inr ⟨z, e⟩
  · cases this
theorem mr_rf_false {t k : Nat} (ht : t < 11) (hk : k < mj_nf t) (h : mj_ty t k = .int ∨ mj_ty t k = .boolean ∨ mj_ty t k = .byte) : mj_rf t k = false := by
  rw [mj_rfok t ht k hk]
  rcases h with h | h | h <;> rw [h]
theorem mr_putfield (t : Nat) : mr_T (.putfield t) := by
  intro X xs L p l e R s m args below meth c d y Q pc H locs cells slots ls lc st h n j k S pc' lc' st' h' C hi hS hv hA kk
  obtain ⟨hn, hd⟩ := mj_dd hi rfl
  subst hn
  have hl := mj_lok_ok hi
  simp only [mj_lok, Bool.and_eq_true, decide_eq_true_eq, beq_iff_eq] at hl
  obtain ⟨ht, hk, hr, hf⟩ := hl
  simp only [mj_do] at hv
  split at hv
  · next v a r =>
    cases hv
    obtain ⟨ha, hT⟩ : 20 ≤ a ∧ mj_T h a = t := hA
    exact mr_putI C hd hS ha hT ht hk (mr_rf_false ht hk (Or.inl hr)) hf (by rw [hr]; rfl) (by rw [hr]; rfl) (fun H1 locs1 w => kk _ _ _ _ _ w)
  · cases hv
theorem mr_lstore (t : Nat) : mr_T (.lstore t) := by
  intro X xs L p l e R s m args below meth c d y Q pc H locs cells slots ls lc st h n j k S pc' lc' st' h' C hi hS hv hA kk
  obtain ⟨hn, hd⟩ := mj_dd hi rfl
  subst hn
  have hl := mj_lok_ok hi
  simp only [mj_lok, Bool.and_eq_true, decide_eq_true_eq, beq_iff_eq, Bool.or_eq_true] at hl
  obtain ⟨ht, hk, hr, hf⟩ := hl
  simp only [mj_do] at hv
  split at hv
  · next v a r =>
    cases hv
    obtain ⟨ha, hT, h01⟩ : 20 ≤ a ∧ mj_T h a = t ∧ mj_01 v := hA
    refine mr_putI C hd hS ha hT ht hk (mr_rf_false ht hk (Or.inr hr)) hf ?_ ?_ (fun H1 locs1 w => kk _ _ _ _ _ w)
    · rcases hr with hr | hr <;> rw [hr] <;> rcases h01 with rfl | rfl <;> decide +kernel
    · rcases hr with hr | hr <;> rw [hr] <;> rcases h01 with rfl | rfl <;> decide +kernel
  · cases hv
theorem mr_fstore (t : Nat) : mr_T (.fstore t) := by
  intro X xs L p l e R s m args below meth c d y Q pc H locs cells slots ls lc st h n j k S pc' lc' st' h' C hi hS hv hA kk
  obtain ⟨hn, hd⟩ := mj_dd hi rfl
  subst hn
  have hl := mj_lok_ok hi
  simp only [mj_lok, Bool.and_eq_true, decide_eq_true_eq, beq_iff_eq] at hl
  obtain ⟨ht, hk, hr, hf⟩ := hl
  simp only [mj_do] at hv
  split at hv
  · next v a r =>
    cases hv
    obtain ⟨ha, hT⟩ : 20 ≤ a ∧ mj_T h a = t := hA
    refine mr_put1 C hd hS.2.2.2.1 hS.2.2.2.2.1 ha hT ht hk hf ?_ ?_ (fun H1 locs1 w1 w2 => kk _ _ _ _ _ (mr_S_h hS rfl rfl (mr_H_wR hS.2.2.2.1 ha ?_) w2))
    · show narrow _ (va_rf (mr_o X v)) = va_rf (mr_o X v)
      rcases mr_rf_ty ht hk hr with ⟨z, ez⟩ | ⟨z, ez⟩ <;> rw [ez] <;> cases mr_o X v <;> rfl
    · show fits _ (va_rf (mr_o X v)) = true
      rcases mr_rf_ty ht hk hr with ⟨z, ez⟩ | ⟨z, ez⟩ <;> rw [ez] <;> cases mr_o X v <;> rfl
    · rw [← mr_ws_set (X := X) (h := h) (h' := mj_wR h a k v) rfl ha (fun b hb => mr_en_wR hb), mr_en_obj (show mj_T (mj_wR h a k v) a = t from hT) ht, mr_fs_wR hr]
      exact w1
  · cases hv
theorem mr_getstatic (q : Nat) : mr_T (.getstatic q) := by
  intro X xs L p l e R s m args below meth c d y Q pc H locs cells slots ls lc st h n j k S pc' lc' st' h' C hi hS hv hA kk
  obtain ⟨hn, hd⟩ := mj_dd hi rfl
  subst hn
  have hl := mj_lok_ok hi
  simp only [mj_lok, Bool.and_eq_true, decide_eq_true_eq] at hl
  obtain ⟨hq, hf⟩ := hl
  simp only [mj_do] at hv
  cases hv
  exact va_gets C.1.1 C.1.2.1 (C.2.1.2.2.1.2.2.2.2.2.2.2.1 q hq) hS.2.2.2.2.1 C.1.2.2.2.1 (mr_w C hf) (fun _ z => z) hd (kk _ _ _ _ _ hS)
theorem mr_ldc (q : Nat) : mr_T (.ldc q) := by
  intro X xs L p l e R s m args below meth c d y Q pc H locs cells slots ls lc st h n j k S pc' lc' st' h' C hi hS hv hA kk
  obtain ⟨hn, hd⟩ := mj_dd hi rfl
  subst hn
  have hl := mj_lok_ok hi
  simp only [mj_lok] at hl
  simp only [mj_do] at hv
  cases hv
  have kk := kk _ _ _ _ _ hS
  have hown := C.1.2.2.2.1
  have K := C.2.1.2.2.1
  split at hl
  · simp only [Bool.and_eq_true, beq_iff_eq] at hl
    rw [hl.1] at hown
    rw [hl.2] at hd
    exact va_ldcS C.1.1 C.1.2.1 hown K.2.2.2.2.2.2.2.2.1 hd kk
  · simp only [Bool.and_eq_true, beq_iff_eq] at hl
    rw [hl.1] at hown
    rw [hl.2] at hd
    exact va_ldcS C.1.1 C.1.2.1 hown K.2.2.2.2.2.2.2.2.2.1 hd kk
  · exact va_ldcM C.1.1 C.1.2.1 hown (mr_w C hl) K.2.2.2.2.2.2.2.2.2.2.1 hd kk
  · exact lv_ldc C.1.1 C.1.2.1 hown (mr_w C hl) hd kk
  · exact lv_ldc C.1.1 C.1.2.1 hown (mr_w C hl) hd kk
  · cases hl
end
section
/-! arrays -/
theorem mr_en_int {X : mr_X} {h : mj_H} {a t : Nat} (hT : mj_T h a = t) (h1 : t = 16 ∨ t = 17 ∨ t = 18) : mr_en X h a = .inl (mr_dA X t, (mj_N h a, .inl (mj_I h a))) := by
  subst hT
  unfold mr_en
  rw [if_neg (by omega), if_neg (by omega), if_pos (by omega)]
theorem mr_en_lng {X : mr_X} {h : mj_H} {a : Nat} (hT : mj_T h a = 19) : mr_en X h a = .inl (mr_dA X 19, (mj_N h a, .inr (.inl (mj_L h a)))) := by
  unfold mr_en
  rw [if_neg (by omega), if_pos hT]
theorem mr_en_ref {X : mr_X} {h : mj_H} {a t : Nat} (hT : mj_T h a = t) (h1 : 20 ≤ t) : mr_en X h a = .inl (mr_dA X t, (mj_N h a, .inr (.inr (.inr (.inr (fun i => mr_o X (mj_R h a i))))))) := by
  subst hT
  unfold mr_en
  rw [if_neg (by omega), if_neg (by omega), if_neg (by omega)]
theorem mc_T_16 : ∀ a, a < 20 → mc_T a = 16 → a ≠ 0 ∧ a ≠ 15 := by decide
theorem mc_T_17 : ∀ a, a < 20 → mc_T a = 17 → a ≠ 0 ∧ a ≠ 15 := by decide
theorem mc_T_18 : ∀ a, a < 20 → mc_T a ≠ 18 := by decide
theorem mc_T_19 : ∀ a, a < 20 → mc_T a ≠ 19 := by decide
theorem mc_T_20 : ∀ a, a < 20 → 20 ≤ mc_T a → mc_T a ≤ 23 → a = 7 ∨ a = 12 := by decide
theorem mr_iaload : mr_T .iaload := by
  intro X xs L p l e R s m args below meth c d y Q pc H locs cells slots ls lc st h n j k S pc' lc' st' h' C hi hS hv hA kk
  obtain ⟨hn, hd⟩ := mj_dd hi rfl
  subst hn
  simp only [mj_do, mj_ld1] at hv
  split at hv
  · next i a r =>
    cases hv
    obtain ⟨hT, hin⟩ : mj_T h a = 16 ∧ vp_in i (mj_N h a) := hA
    have k2 := kk _ _ _ _ _ hS
    have qH := hS.2.2.2.1
    show W p l e R s m args below meth c H locs cells slots Q (F0 m pc ls (.int i :: mr_v X (.ref a) :: r.map (mr_v X)))
    rcases Nat.lt_or_ge a 20 with ha | ha
    · obtain ⟨r1, r2, r3, -⟩ := qH.2.2.2.1 a ha
      have hc : mc_T a = 16 := by rw [← r1, hT]
      rw [mr_v_con (mc_T_16 a ha hc).1 (mc_T_16 a ha hc).2 ha]
      exact va_ti C.1.1 C.1.2.1 (C.2.1.2.2.1.1 a ha hc) hS.2.2.2.2.1 (by rw [← r2]; exact hin) (by rw [← r3]; rfl) hd k2
    · rw [mr_v_new ha]
      have he := qH.at ha (by rw [hT]; omega)
      rw [mr_en_int hT (Or.inl rfl)] at he
      exact va_iald C.1.1 C.1.2.1 C.2.1.2.1 qH.2.2.2.2.2 (a - 20) 0 he rfl hin hd k2
  · cases hv
theorem mr_baload : mr_T .baload := by
  intro X xs L p l e R s m args below meth c d y Q pc H locs cells slots ls lc st h n j k S pc' lc' st' h' C hi hS hv hA kk
  obtain ⟨hn, hd⟩ := mj_dd hi rfl
  subst hn
  simp only [mj_do, mj_ld1] at hv
  split at hv
  · next i a r =>
    cases hv
    obtain ⟨hT, hin⟩ : mj_T h a = 17 ∧ vp_in i (mj_N h a) := hA
    have k2 := kk _ _ _ _ _ hS
    have qH := hS.2.2.2.1
    show W p l e R s m args below meth c H locs cells slots Q (F0 m pc ls (.int i :: mr_v X (.ref a) :: r.map (mr_v X)))
    rcases Nat.lt_or_ge a 20 with ha | ha
    · obtain ⟨r1, r2, r3, -⟩ := qH.2.2.2.1 a ha
      have hc : mc_T a = 17 := by rw [← r1, hT]
      rw [mr_v_con (mc_T_17 a ha hc).1 (mc_T_17 a ha hc).2 ha]
      exact va_tb C.1.1 C.1.2.1 (C.2.1.2.2.1.2.1 a ha hc) hS.2.2.2.2.1 (by rw [← r2]; exact hin) (by rw [← r3]; rfl) hd k2
    · rw [mr_v_new ha]
      have he := qH.at ha (by rw [hT]; omega)
      rw [mr_en_int hT (Or.inr (Or.inl rfl))] at he
      exact va_bald C.1.1 C.1.2.1 C.2.1.2.1 qH.2.2.2.2.2 (a - 20) 1 he rfl hin hd k2
  · cases hv
theorem mr_caload : mr_T .caload := by
  intro X xs L p l e R s m args below meth c d y Q pc H locs cells slots ls lc st h n j k S pc' lc' st' h' C hi hS hv hA kk
  obtain ⟨hn, hd⟩ := mj_dd hi rfl
  subst hn
  simp only [mj_do, mj_ld1] at hv
  split at hv
  · next i a r =>
    cases hv
    obtain ⟨hT, hin⟩ : mj_T h a = 18 ∧ vp_in i (mj_N h a) := hA
    have k2 := kk _ _ _ _ _ hS
    have qH := hS.2.2.2.1
    show W p l e R s m args below meth c H locs cells slots Q (F0 m pc ls (.int i :: mr_v X (.ref a) :: r.map (mr_v X)))
    rcases Nat.lt_or_ge a 20 with ha | ha
    · obtain ⟨r1, r2, r3, -⟩ := qH.2.2.2.1 a ha
      exact absurd (show mc_T a = 18 by rw [← r1, hT]) (mc_T_18 a ha)
    · rw [mr_v_new ha]
      have he := qH.at ha (by rw [hT]; omega)
      rw [mr_en_int hT (Or.inr (Or.inr rfl))] at he
      exact va_cald C.1.1 C.1.2.1 C.2.1.2.1 qH.2.2.2.2.2 (a - 20) 2 he rfl hin hd k2
  · cases hv
theorem mr_laload : mr_T .laload := by
  intro X xs L p l e R s m args below meth c d y Q pc H locs cells slots ls lc st h n j k S pc' lc' st' h' C hi hS hv hA kk
  obtain ⟨hn, hd⟩ := mj_dd hi rfl
  subst hn
  simp only [mj_do] at hv
  split at hv
  · next i a r =>
    cases hv
    obtain ⟨hT, hin⟩ : mj_T h a = 19 ∧ vp_in i (mj_N h a) := hA
    have k2 := kk _ _ _ _ _ hS
    have qH := hS.2.2.2.1
    show W p l e R s m args below meth c H locs cells slots Q (F0 m pc ls (.int i :: mr_v X (.ref a) :: r.map (mr_v X)))
    rcases Nat.lt_or_ge a 20 with ha | ha
    · obtain ⟨r1, r2, r3, -⟩ := qH.2.2.2.1 a ha
      exact absurd (show mc_T a = 19 by rw [← r1, hT]) (mc_T_19 a ha)
    · rw [mr_v_new ha]
      have he := qH.at ha (by rw [hT]; omega)
      rw [mr_en_lng hT] at he
      exact va_lald C.1.1 C.1.2.1 C.2.1.2.1 qH.2.2.2.2.2 (a - 20) 3 he rfl hin hd k2
  · cases hv
theorem mr_tys_ref {X : mr_X} {t : Nat} (h : mj_ra t) : (mr_tys X)[t - 16]? = some (mr_dA X t, .object (mj_AN t)) := by
  rcases h with rfl | rfl | rfl | rfl <;> rfl
theorem mr_aaload : mr_T .aaload := by
  intro X xs L p l e R s m args below meth c d y Q pc H locs cells slots ls lc st h n j k S pc' lc' st' h' C hi hS hv hA kk
  obtain ⟨hn, hd⟩ := mj_dd hi rfl
  subst hn
  simp only [mj_do] at hv
  split at hv
  · next i a r =>
    cases hv
    obtain ⟨ha, hT, hin⟩ : 20 ≤ a ∧ mj_ra (mj_T h a) ∧ vp_in i (mj_N h a) := hA
    have k2 := kk _ _ _ _ _ hS
    have qH := hS.2.2.2.1
    show W p l e R s m args below meth c H locs cells slots Q (F0 m pc ls (.int i :: mr_v X (.ref a) :: r.map (mr_v X)))
    rw [mr_v_new ha]
    have h20 : 20 ≤ mj_T h a ∧ mj_T h a ≤ 23 := by unfold mj_ra at hT; omega
    have he := qH.at ha (by omega)
    rw [mr_en_ref rfl h20.1] at he
    exact va_aldq C.1.1 C.1.2.1 C.2.1.2.1 qH.2.2.2.2.2 (a - 20) (mj_T h a - 16) he (mr_tys_ref hT) hin hd k2
  · cases hv
theorem mr_stI {X : mr_X} {xs : Nat → Int32} {L : Nat} {R : Room} {s : State} {y : Nat} {lc : List Value} {h : mj_H} {H H1 : Heap} {locs locs1 : List Loc} {cells slots : Nat} {ls : Array Slot} {a t i : Nat} {v : Int32} (hS : mr_S X xs L R s y lc h H locs cells slots ls) (ha : 20 ≤ a) (hT : mj_T h a = t) (ht : t = 16 ∨ t = 17 ∨ t = 18) (hb : t = 17 → mj_b v = v)
    (w1 : va_P (mr_D X) mj_cls ((mr_ws X h).set (a - 20) (mr_B X + (a - 20), .inl (mr_dA X t, mj_N h a, .inl (upd (mj_I h a) i v)))) H1) (w2 : va_S (fun q => mr_B X ≤ q) s.heap H1 locs1) : mr_S X xs L R s y lc (mj_wI h a i v) H1 locs1 cells slots ls := by
  refine mr_S_h hS rfl rfl (mr_H_wI hS.2.2.2.1 ha (fun z => hb (by omega)) ?_) w2
  rw [← mr_ws_set (X := X) (h := h) (h' := mj_wI h a i v) rfl ha (fun b hb => mr_en_wI hb), mr_en_int (show mj_T (mj_wI h a i v) a = t from hT) ht]
  have e1 : mj_I (mj_wI h a i v) a = upd (mj_I h a) i v := by funext z; simp [mj_I, mj_wI, upd]
  rw [e1]
  exact w1
theorem mj_bb (x : Int32) : mj_b (mj_b x) = mj_b x := by unfold mj_b; simp
theorem mr_iastore : mr_T .iastore := by
  intro X xs L p l e R s m args below meth c d y Q pc H locs cells slots ls lc st h n j k S pc' lc' st' h' C hi hS hv hA kk
  obtain ⟨hn, hd⟩ := mj_dd hi rfl
  subst hn
  simp only [mj_do] at hv
  split at hv
  · next v i a r =>
    cases hv
    obtain ⟨ha, hT, hin⟩ : 20 ≤ a ∧ mj_T h a = 16 ∧ vp_in i (mj_N h a) := hA
    have qH := hS.2.2.2.1
    have he := qH.at ha (by rw [hT]; omega)
    rw [mr_en_int hT (Or.inl rfl)] at he
    show W p l e R s m args below meth c H locs cells slots Q (F0 m pc ls (.int v :: .int i :: mr_v X (.ref a) :: st'.map (mr_v X)))
    rw [mr_v_new ha]
    exact va_iast C.1.1 C.1.2.1 C.2.1.2.1 qH.2.2.2.2.2 mr_ws_D hS.2.2.2.2.1 (a - 20) 0 he rfl hin hd (fun H1 locs1 w1 _ w3 => kk _ _ _ _ _ (mr_stI hS ha hT (Or.inl rfl) (fun z => by omega) w1 w3))
  · cases hv
theorem mr_bastore : mr_T .bastore := by
  intro X xs L p l e R s m args below meth c d y Q pc H locs cells slots ls lc st h n j k S pc' lc' st' h' C hi hS hv hA kk
  obtain ⟨hn, hd⟩ := mj_dd hi rfl
  subst hn
  simp only [mj_do] at hv
  split at hv
  · next v i a r =>
    cases hv
    obtain ⟨ha, hT, hin⟩ : 20 ≤ a ∧ mj_T h a = 17 ∧ vp_in i (mj_N h a) := hA
    have qH := hS.2.2.2.1
    have he := qH.at ha (by rw [hT]; omega)
    rw [mr_en_int hT (Or.inr (Or.inl rfl))] at he
    show W p l e R s m args below meth c H locs cells slots Q (F0 m pc ls (.int v :: .int i :: mr_v X (.ref a) :: st'.map (mr_v X)))
    rw [mr_v_new ha]
    exact va_bast C.1.1 C.1.2.1 C.2.1.2.1 qH.2.2.2.2.2 mr_ws_D hS.2.2.2.2.1 (a - 20) 1 he rfl hin hd (fun H1 locs1 w1 _ w3 => kk _ _ _ _ _ (mr_stI hS ha hT (Or.inr (Or.inl rfl)) (fun z => mj_bb v) w1 w3))
  · cases hv
theorem mj_cc (x : Int32) : vp_nar .char x = mj_c x := by
  rw [vp_nar_char]
  unfold mj_c
  congr 1
theorem mr_castore : mr_T .castore := by
  intro X xs L p l e R s m args below meth c d y Q pc H locs cells slots ls lc st h n j k S pc' lc' st' h' C hi hS hv hA kk
  obtain ⟨hn, hd⟩ := mj_dd hi rfl
  subst hn
  simp only [mj_do] at hv
  split at hv
  · next v i a r =>
    cases hv
    obtain ⟨ha, hT, hin⟩ : 20 ≤ a ∧ mj_T h a = 18 ∧ vp_in i (mj_N h a) := hA
    have qH := hS.2.2.2.1
    have he := qH.at ha (by rw [hT]; omega)
    rw [mr_en_int hT (Or.inr (Or.inr rfl))] at he
    show W p l e R s m args below meth c H locs cells slots Q (F0 m pc ls (.int v :: .int i :: mr_v X (.ref a) :: st'.map (mr_v X)))
    rw [mr_v_new ha]
    exact va_cast C.1.1 C.1.2.1 C.2.1.2.1 qH.2.2.2.2.2 mr_ws_D hS.2.2.2.2.1 (a - 20) 2 he rfl hin hd (fun H1 locs1 w1 _ w3 => kk _ _ _ _ _ (mr_stI hS ha hT (Or.inr (Or.inr rfl)) (fun z => by omega) (by rw [← mj_cc]; exact w1) w3))
  · cases hv
theorem mr_lastore : mr_T .lastore := by
  intro X xs L p l e R s m args below meth c d y Q pc H locs cells slots ls lc st h n j k S pc' lc' st' h' C hi hS hv hA kk
  obtain ⟨hn, hd⟩ := mj_dd hi rfl
  subst hn
  simp only [mj_do] at hv
  split at hv
  · next v i a r =>
    cases hv
    obtain ⟨ha, hT, hin⟩ : 20 ≤ a ∧ mj_T h a = 19 ∧ vp_in i (mj_N h a) := hA
    have qH := hS.2.2.2.1
    have he := qH.at ha (by rw [hT]; omega)
    rw [mr_en_lng hT] at he
    show W p l e R s m args below meth c H locs cells slots Q (F0 m pc ls (.long v :: .int i :: mr_v X (.ref a) :: st'.map (mr_v X)))
    rw [mr_v_new ha]
    refine va_last C.1.1 C.1.2.1 C.2.1.2.1 qH.2.2.2.2.2 mr_ws_D hS.2.2.2.2.1 (a - 20) 3 he rfl hin hd (fun H1 locs1 w1 _ w3 => kk _ _ _ _ _ (mr_S_h hS rfl rfl (mr_H_wL qH ?_) w3))
    rw [← mr_ws_set (X := X) (h := h) (h' := mj_wL h a i.toNatClampNeg v) rfl ha (fun b hb => mr_en_wL hb), mr_en_lng (show mj_T (mj_wL h a i.toNatClampNeg v) a = 19 from hT)]
    have e1 : mj_L (mj_wL h a i.toNatClampNeg v) a = vp_updL (mj_L h a) i.toNatClampNeg v := by funext z; simp [mj_L, mj_wL, vp_updL]
    rw [e1]
    exact w1
  · cases hv
theorem mr_stR {X : mr_X} {xs : Nat → Int32} {L : Nat} {R : Room} {s : State} {y : Nat} {lc : List Value} {h : mj_H} {H H1 : Heap} {locs locs1 : List Loc} {cells slots : Nat} {ls : Array Slot} {a t i v : Nat} (hS : mr_S X xs L R s y lc h H locs cells slots ls) (ha : 20 ≤ a) (hT : mj_T h a = t) (ht : 20 ≤ t) (hv : 20 ≤ v)
    (w1 : va_P (mr_D X) mj_cls ((mr_ws X h).set (a - 20) (mr_B X + (a - 20), .inl (mr_dA X t, mj_N h a, .inr (.inr (.inr (.inr (va_up (fun i => mr_o X (mj_R h a i)) i (some (mr_B X + (v - 20)))))))))) H1) (w2 : va_S (fun q => mr_B X ≤ q) s.heap H1 locs1) : mr_S X xs L R s y lc (mj_wR h a i v) H1 locs1 cells slots ls := by
  refine mr_S_h hS rfl rfl (mr_H_wR hS.2.2.2.1 ha ?_) w2
  rw [← mr_ws_set (X := X) (h := h) (h' := mj_wR h a i v) rfl ha (fun b hb => mr_en_wR hb), mr_en_ref (show mj_T (mj_wR h a i v) a = t from hT) ht]
  have e1 : (fun z => mr_o X (mj_R (mj_wR h a i v) a z)) = va_up (fun i => mr_o X (mj_R h a i)) i (some (mr_B X + (v - 20))) := by
    funext z
    by_cases q : z = i
    · subst q; simp [mj_R, mj_wR, va_up, mr_o_new hv]
    · simp [mj_R, mj_wR, va_up, q]
  rw [e1]
  exact w1
theorem mj_castLO : mj_has (.castable "DotBook$Line" "java/lang/Object") = true := by decide +kernel
theorem mj_castLN : mj_has (.castable ((mj_CN 4, mj_F 4, mj_nf 4) : vw_C).1 "java/lang/Object") = true := by decide +kernel
theorem mr_ty7 {X : mr_X} : (mr_tys X)[7]? = some (mr_dA X 23, .object "java/lang/Object") := rfl
theorem mr_has {X : mr_X} {xs : Nat → Int32} {L : Nat} {p : Program} {R : Room} {s : State} {m : MethodId} {meth : Method} {c : Code} {d y : Nat} (C : mr_C X xs L p R s m meth c d y) {w : Cond} (h : mj_has w = true) : va_Nw w s := by
  simp only [mj_has, Bool.and_eq_true, decide_eq_true_eq] at h
  exact C.2.1.1 w h.1 h.2
theorem mr_aastore : mr_T .aastore := by
  intro X xs L p l e R s m args below meth c d y Q pc H locs cells slots ls lc st h n j k S pc' lc' st' h' C hi hS hv hA kk
  obtain ⟨hn, hd⟩ := mj_dd hi rfl
  subst hn
  simp only [mj_do] at hv
  split at hv
  · next v i a r =>
    cases hv
    obtain ⟨ha, hv2, hT, hin⟩ : 20 ≤ a ∧ 20 ≤ v ∧ mj_el (mj_T h a) (mj_T h v) ∧ vp_in i (mj_N h a) := hA
    have qH := hS.2.2.2.1
    have h20 : 20 ≤ mj_T h a := by unfold mj_el at hT; omega
    have he := qH.at ha (by unfold mj_el at hT; omega)
    rw [mr_en_ref rfl h20] at he
    show W p l e R s m args below meth c H locs cells slots Q (F0 m pc ls (mr_v X (.ref v) :: .int i :: mr_v X (.ref a) :: st'.map (mr_v X)))
    rw [mr_v_new ha, mr_v_new hv2]
    rcases hT with ⟨h1, h2⟩ | ⟨h1, h2⟩ | ⟨h1, h2⟩
    · have hvv := mr_at_obj qH hv2 h2 (by omega)
      rw [h1] at he
      exact va_astq C.1.1 C.1.2.1 C.2.1.2.1 qH.2.2.2.2.2 mr_ws_D hS.2.2.2.2.1 (a - 20) 5 (v - 20) 5 he rfl hvv (mj_cls_at 5 (by omega)) hin hd (fun H1 locs1 w1 _ w3 => kk _ _ _ _ _ (mr_stR hS ha h1 (by omega) hv2 w1 w3))
    · have hvv := mr_at_obj qH hv2 h2 (by omega)
      rw [h1] at he
      exact va_astq C.1.1 C.1.2.1 C.2.1.2.1 qH.2.2.2.2.2 mr_ws_D hS.2.2.2.2.1 (a - 20) 6 (v - 20) 6 he rfl hvv (mj_cls_at 6 (by omega)) hin hd (fun H1 locs1 w1 _ w3 => kk _ _ _ _ _ (mr_stR hS ha h1 (by omega) hv2 w1 w3))
    · have hvv := mr_at_obj qH hv2 h2 (by omega)
      rw [h1] at he
      exact va_astqO C.1.1 C.1.2.1 C.2.1.2.1 qH.2.2.2.2.2 mr_ws_D hS.2.2.2.2.1 (a - 20) 7 (v - 20) 4 (r := (mj_CN 4, mj_F 4, mj_nf 4)) (E := "java/lang/Object") he mr_ty7 (mr_has C mj_castLN) hvv (mj_cls_at 4 (by omega)) hin hd (fun H1 locs1 w1 _ w3 => kk _ _ _ _ _ (mr_stR hS ha h1 (by omega) hv2 w1 w3))
  · cases hv
theorem mr_arraylength : mr_T .arraylength := by
  intro X xs L p l e R s m args below meth c d y Q pc H locs cells slots ls lc st h n j k S pc' lc' st' h' C hi hS hv hA kk
  obtain ⟨hn, hd⟩ := mj_dd hi rfl
  subst hn
  simp only [mj_do] at hv
  split at hv
  · next a r =>
    cases hv
    obtain ⟨hT1, hT2⟩ : 16 ≤ mj_T h a ∧ mj_T h a ≤ 23 := hA
    have k2 := kk _ _ _ _ _ hS
    have qH := hS.2.2.2.1
    have K := C.2.1.2.2.1
    show W p l e R s m args below meth c H locs cells slots Q (F0 m pc ls (mr_v X (.ref a) :: r.map (mr_v X)))
    rcases Nat.lt_or_ge a 20 with ha | ha
    · obtain ⟨r1, r2, -, -⟩ := qH.2.2.2.1 a ha
      rw [r1] at hT1 hT2
      rw [r2] at k2
      rcases (show mc_T a = 16 ∨ mc_T a = 17 ∨ mc_T a = 18 ∨ mc_T a = 19 ∨ 20 ≤ mc_T a by omega) with q | q | q | q | q
      · rw [mr_v_con (mc_T_16 a ha q).1 (mc_T_16 a ha q).2 ha]
        exact va_tlen C.1.1 C.1.2.1 (K.1 a ha q) hS.2.2.2.2.1 rfl hd k2
      · rw [mr_v_con (mc_T_17 a ha q).1 (mc_T_17 a ha q).2 ha]
        exact va_tlen C.1.1 C.1.2.1 (K.2.1 a ha q) hS.2.2.2.2.1 rfl hd k2
      · exact absurd q (mc_T_18 a ha)
      · exact absurd q (mc_T_19 a ha)
      · rcases mc_T_20 a ha q hT2 with rfl | rfl
        · rw [mr_v_con (by omega) (by omega) ha]
          exact va_tlen C.1.1 C.1.2.1 K.2.2.2.2.1 hS.2.2.2.2.1 rfl hd k2
        · rw [mr_v_con (by omega) (by omega) ha]
          exact va_tlen C.1.1 C.1.2.1 K.2.2.2.2.2.2.1 hS.2.2.2.2.1 rfl hd k2
    · rw [mr_v_new ha]
      have he := qH.at ha (by omega)
      rcases (show (mj_T h a = 16 ∨ mj_T h a = 17 ∨ mj_T h a = 18) ∨ mj_T h a = 19 ∨ 20 ≤ mj_T h a by omega) with q | q | q
      · rw [mr_en_int rfl q] at he
        rcases q with q | q | q
        · rw [q] at he; exact va_alen C.1.1 C.1.2.1 C.2.1.2.1 qH.2.2.2.2.2 (a - 20) 0 he rfl rfl hd k2
        · rw [q] at he; exact va_alen C.1.1 C.1.2.1 C.2.1.2.1 qH.2.2.2.2.2 (a - 20) 1 he rfl rfl hd k2
        · rw [q] at he; exact va_alen C.1.1 C.1.2.1 C.2.1.2.1 qH.2.2.2.2.2 (a - 20) 2 he rfl rfl hd k2
      · rw [mr_en_lng q] at he
        exact va_alen C.1.1 C.1.2.1 C.2.1.2.1 qH.2.2.2.2.2 (a - 20) 3 he rfl rfl hd k2
      · rw [mr_en_ref rfl q] at he
        exact va_alen C.1.1 C.1.2.1 C.2.1.2.1 qH.2.2.2.2.2 (a - 20) (mj_T h a - 16) he (mr_tys_ref (by unfold mj_ra; omega)) rfl hd k2
  · cases hv
end
section
/-! new cells -/
theorem mr_qx {X : mr_X} {h : mj_H} {s : State} {H1 : Heap} {q cells : Nat} {en : va_E} (hex : s.heap.size + cells + 20 = mr_B X + mj_Z h) (h20 : 20 ≤ mj_Z h) (hz : H1.size ≤ s.heap.size + (cells + 1)) (hP : va_P (mr_D X) mj_cls (mr_ws X h ++ [(q, en)]) H1) (hD : va_D (fun q => mr_B X ≤ q) (mr_ws X h ++ [(q, en)])) : q = mr_B X + (mj_Z h - 20) := by
  have hlen : (mr_ws X h).length = mj_Z h - 20 := by simp [mr_ws]
  have hn : (mr_ws X h ++ [(q, en)])[mj_Z h - 20]? = some (q, en) := by
    rw [List.getElem?_append_right (by omega), hlen]; simp
  have h1 := (hP _ _ hn).lt
  have h2 : mr_B X ≤ q := hD.2 _ _ hn
  simp only at h1
  rcases Nat.lt_or_ge q (mr_B X + (mj_Z h - 20)) with hq | hq
  · have hi : (mr_ws X h ++ [(q, en)])[q - mr_B X]? = some (mr_B X + (q - mr_B X), mr_en X h (20 + (q - mr_B X))) := by
      rw [List.getElem?_append_left (by omega)]
      have := mr_ws_at (X := X) (h := h) (a := 20 + (q - mr_B X)) (by omega) (by omega)
      rw [show 20 + (q - mr_B X) - 20 = q - mr_B X by omega] at this
      exact this
    have := hD.1 _ _ _ _ hi hn (by show mr_B X + (q - mr_B X) = q; omega)
    omega
  · omega
theorem mr_en_nw {X : mr_X} {h : mj_H} {t n u b : Nat} (hb : b ≠ mj_Z h) : mr_en X (mj_nw h t n u) b = mr_en X h b := by
  have e1 : mj_I (mj_nw h t n u) b = mj_I h b := by funext i; simp [mj_I, mj_nw, hb]
  have e2 : mj_R (mj_nw h t n u) b = mj_R h b := by funext i; simp [mj_R, mj_nw, hb]
  have e3 : mj_L (mj_nw h t n u) b = mj_L h b := by funext i; simp [mj_L, mj_nw, hb]
  have e4 : mj_T (mj_nw h t n u) b = mj_T h b := by show (if b = mj_Z h then t else mj_T h b) = _; rw [if_neg hb]
  have e5 : mj_N (mj_nw h t n u) b = mj_N h b := by show (if b = mj_Z h then n else mj_N h b) = _; rw [if_neg hb]
  unfold mr_en
  rw [e1, e2, e3, e4, e5]
theorem mj_nw_T {h : mj_H} {t n u : Nat} : mj_T (mj_nw h t n u) (mj_Z h) = t := by show (if mj_Z h = mj_Z h then t else _) = _; rw [if_pos rfl]
theorem mj_nw_N {h : mj_H} {t n u : Nat} : mj_N (mj_nw h t n u) (mj_Z h) = n := by show (if mj_Z h = mj_Z h then n else _) = _; rw [if_pos rfl]
theorem mj_nw_I {h : mj_H} {t n u : Nat} : mj_I (mj_nw h t n u) (mj_Z h) = fun _ => 0 := by funext i; simp [mj_I, mj_nw]
theorem mj_nw_R {h : mj_H} {t n u : Nat} : mj_R (mj_nw h t n u) (mj_Z h) = fun _ => 0 := by funext i; simp [mj_R, mj_nw]
theorem mj_nw_L {h : mj_H} {t n u : Nat} : mj_L (mj_nw h t n u) (mj_Z h) = fun _ => 0 := by funext i; simp [mj_L, mj_nw]
theorem mr_H_nw {X : mr_X} {xs : Nat → Int32} {L : Nat} {h : mj_H} {H H1 : Heap} {t n u : Nat} (q : mr_H X xs L h H) (ht : t < 11 ∨ (16 ≤ t ∧ t ≤ 23)) (hP : va_P (mr_D X) mj_cls (mr_ws X (mj_nw h t n u)) H1) : mr_H X xs L (mj_nw h t n u) H1 := by
  obtain ⟨q1, q2, q3, q4, q5, -⟩ := q
  have eT : ∀ b, b ≠ mj_Z h → mj_T (mj_nw h t n u) b = mj_T h b := fun b hb => by show (if b = mj_Z h then t else mj_T h b) = _; rw [if_neg hb]
  refine ⟨Nat.le_succ_of_le q1, fun a ha => ?_, fun a h1 h2 => ?_, fun a ha => ?_, fun a i h1 h2 => ?_, hP⟩
  · have ha : mj_Z h + 1 ≤ a := ha
    rw [eT a (by omega)]; exact q2 a (by omega)
  · have h2 : a < mj_Z h + 1 := h2
    by_cases e : a = mj_Z h
    · subst e; rw [mj_nw_T]; exact ht
    · rw [eT a e]; exact q3 a h1 (by omega)
  · have hb : a ≠ mj_Z h := by omega
    obtain ⟨r1, r2, r3, r4⟩ := q4 a ha
    refine ⟨by rw [eT a hb]; exact r1, ?_, fun i => ?_, fun i => ?_⟩
    · show (if a = mj_Z h then n else mj_N h a) = _; rw [if_neg hb]; exact r2
    · rw [← r3 i]; simp [mj_I, mj_nw, hb]
    · rw [← r4 i]; simp [mj_R, mj_nw, hb]
  · by_cases e : a = mj_Z h
    · subst e; rw [mj_nw_I]; rfl
    · rw [eT a e] at h2
      have := q5 a i h1 h2
      simpa [mj_I, mj_nw, e] using this
theorem mr_S_nw {X : mr_X} {xs : Nat → Int32} {L : Nat} {R : Room} {s : State} {y : Nat} {lc : List Value} {h : mj_H} {H H1 : Heap} {locs locs1 : List Loc} {cells slots : Nat} {ls : Array Slot} {t n u : Nat} (hS : mr_S X xs L R s y lc h H locs cells slots ls) (hu : mj_U h + (1 + u) ≤ mj_M) (h1 : mr_H X xs L (mj_nw h t n u) H1) (h2 : va_S (fun q => mr_B X ≤ q) s.heap H1 locs1) : mr_S X xs L R s y lc (mj_nw h t n u) H1 locs1 (cells + 1) (slots + u) ls := by
  obtain ⟨a1, a2, a3, -, -, a6, a7⟩ := hS
  have eU : mj_U (mj_nw h t n u) = mj_U h + (1 + u) := rfl
  refine ⟨by rw [eU]; exact hu, by rw [eU]; omega, by rw [eU]; omega, h1, h2, ?_, a7⟩
  show s.heap.size + (cells + 1) + 20 = mr_B X + (mj_Z h + 1)
  omega
theorem mr_room {R : Room} {u a cells slots : Nat} (hu : u + (1 + a) ≤ mj_M) (h1 : cells + (mj_M - u) ≤ R.cells) (h2 : slots + (mj_M - u) ≤ R.slots) : cells + 1 ≤ R.cells ∧ slots + a ≤ R.slots := by omega
theorem mj_acI : mj_has (.arrayClass .int) = true := by decide +kernel
theorem mj_acB : mj_has (.arrayClass .byte) = true := by decide +kernel
theorem mj_acC : mj_has (.arrayClass .char) = true := by decide +kernel
theorem mj_acL : mj_has (.arrayClass .long) = true := by decide +kernel
theorem mr_arrC {X : mr_X} {xs : Nat → Int32} {L : Nat} {p : Program} {R : Room} {s : State} {m : MethodId} {args : Array Value} {meth : Method} {c : Code} {d y : Nat} (C : mr_C X xs L p R s m meth c d y) {at' : ArrayType} (h : mj_at at' ≤ 19) : (Cond.arrayClass (newarray.typeOf at')).before args s = true := by
  cases at' with
  | int => exact mj_mv_use (w := .arrayClass .int) rfl (mr_has C mj_acI)
  | byte => exact mj_mv_use (w := .arrayClass .byte) rfl (mr_has C mj_acB)
  | char => exact mj_mv_use (w := .arrayClass .char) rfl (mr_has C mj_acC)
  | long => exact mj_mv_use (w := .arrayClass .long) rfl (mr_has C mj_acL)
  | _ => simp [mj_at] at h
theorem mr_newarray (at' : ArrayType) : mr_T (.newarray at') := by
  intro X xs L p l e R s m args below meth c d y Q pc H locs cells slots ls lc st h n j k S pc' lc' st' h' C hi hS hv hA kk
  obtain ⟨hn, hd⟩ := mj_dd hi rfl
  subst hn
  have h4 := mj_c4_ok hi
  have h19 : mj_at at' ≤ 19 := Nat.le_of_ble_eq_true h4
  simp only [mj_do] at hv
  split at hv
  · next z r =>
    cases hv
    obtain ⟨hz, hu⟩ : ¬ z < 0 ∧ mj_U h + (1 + z.toNatClampNeg) ≤ mj_M := hA
    have qH := hS.2.2.2.1
    obtain ⟨rc, rs⟩ := mr_room hu hS.2.1 hS.2.2.1
    have hzl : z.toNatClampNeg ≤ 600000 := by unfold mj_M at hu; omega
    have hK := C.2.1.2.1
    have go : ∀ (t : Nat) (ty : FieldType) (a0 : vp_A), mj_at at' = t → (16 ≤ t ∧ t ≤ 19) → newarray.typeOf at' = ty → (mr_tys X)[t - 16]? = some (mr_dA X t, ty) → (∀ cA : ClassId, va_RA s cA ty → va_RA s (mr_dA X t) ty → cA = mr_dA X t) → (∀ cA : ClassId, vp_cell cA a0 = arrV cA z.toNatClampNeg (fun _ => defaultValue ty)) → z.toNatClampNeg * componentBytes ty ≤ 536870912 →
        mr_en X (mj_nw h t z.toNatClampNeg z.toNatClampNeg) (mj_Z h) = .inl (mr_dA X t, a0) →
        W p l e R s m args below meth c H locs cells slots Q (F0 m pc ls (List.map (mr_v X) (.int z :: r))) := by
      intro t ty a0 hat ht hty htt hcA ha hby hen
      rw [hat] at kk
      refine va_newa C.1.1 C.1.2.1 (mr_arrC C h19) hty hK qH.2.2.2.2.2 mr_ws_D hS.2.2.2.2.1 (fun q hq => Nat.le_trans C.2.1.2.2.2 hq) ha hz rfl hby rc rs hd (fun q cA H1 hK1 hP1 hD1 hS1 => ?_)
      refine mr_Wz (fun hzz => ?_)
      have eq := mr_qx hS.2.2.2.2.2.1 qH.1 hzz hP1 hD1
      subst eq
      have hl := hK1.2 (mr_tys X).length (cA, ty) (by rw [List.getElem?_append_right (Nat.le_refl _)]; simp)
      have ec := hcA cA hl.2 (hK.2 _ _ htt).2
      subst ec
      have hP2 : va_P (mr_D X) mj_cls (mr_ws X (mj_nw h t z.toNatClampNeg z.toNatClampNeg)) H1 := by
        rw [← mr_ws_push (X := X) (h := h) qH.1 rfl (fun b hb => mr_en_nw hb), hen]; exact hP1
      have := kk _ _ _ _ _ (mr_S_nw hS hu (mr_H_nw qH (Or.inr ⟨ht.1, by omega⟩) hP2) hS1)
      rw [List.map_cons, mr_v_new qH.1] at this
      exact this
    have one : ∀ (ty : FieldType) (t : Nat) (cA : ClassId), va_RA s cA ty = (s.vm.findClass ("[" ++ ty.toString) = some cA) → va_RA s (mr_dA X t) ty = (s.vm.findClass ("[" ++ ty.toString) = some (mr_dA X t)) → va_RA s cA ty → va_RA s (mr_dA X t) ty → cA = mr_dA X t := by
      intro ty t cA e1 e2 g1 g2
      rw [e1] at g1
      rw [e2] at g2
      exact Option.some.inj (g1.symm.trans g2)
    cases at' with
    | int => exact go 16 .int (z.toNatClampNeg, .inl (fun _ => 0)) rfl (by omega) rfl rfl (fun cA => one .int 16 cA rfl rfl) (fun cA => rfl) (by show _ * 4 ≤ _; omega) (by rw [mr_en_int mj_nw_T (Or.inl rfl), mj_nw_N, mj_nw_I])
    | byte => exact go 17 .byte (z.toNatClampNeg, .inl (fun _ => 0)) rfl (by omega) rfl rfl (fun cA => one .byte 17 cA rfl rfl) (fun cA => rfl) (by show _ * 1 ≤ _; omega) (by rw [mr_en_int mj_nw_T (Or.inr (Or.inl rfl)), mj_nw_N, mj_nw_I])
    | char => exact go 18 .char (z.toNatClampNeg, .inl (fun _ => 0)) rfl (by omega) rfl rfl (fun cA => one .char 18 cA rfl rfl) (fun cA => rfl) (by show _ * 2 ≤ _; omega) (by rw [mr_en_int mj_nw_T (Or.inr (Or.inr rfl)), mj_nw_N, mj_nw_I])
    | long => exact go 19 .long (z.toNatClampNeg, .inr (.inl (fun _ => 0))) rfl (by omega) rfl rfl (fun cA => one .long 19 cA rfl rfl) (fun cA => rfl) (by show _ * 8 ≤ _; omega) (by rw [mr_en_lng mj_nw_T, mj_nw_N, mj_nw_L])
    | _ => simp [mj_at] at h19
  · cases hv
theorem mr_anewarray (t : Nat) : mr_T (.anewarray t) := by
  intro X xs L p l e R s m args below meth c d y Q pc H locs cells slots ls lc st h n j k S pc' lc' st' h' C hi hS hv hA kk
  obtain ⟨hn, hd⟩ := mj_dd hi rfl
  subst hn
  have hl := mj_lok_ok hi
  simp only [mj_lok, Bool.and_eq_true, decide_eq_true_eq] at hl
  obtain ⟨ht, hcl⟩ := hl
  simp only [mj_do] at hv
  split at hv
  · next z r =>
    cases hv
    obtain ⟨hz, hu⟩ : ¬ z < 0 ∧ mj_U h + (1 + z.toNatClampNeg) ≤ mj_M := hA
    have qH := hS.2.2.2.1
    obtain ⟨rc, rs⟩ := mr_room hu hS.2.1 hS.2.2.1
    have hzl : z.toNatClampNeg ≤ 600000 := by unfold mj_M at hu; omega
    have hK := C.2.1.2.1
    refine va_newq C.1.1 C.1.2.1 C.1.2.2.2.1 (mr_w C hcl) (C.2.1.2.2.1.2.2.2.2.2.2.2.2.2.2.2.1 t ht.1 ht.2) hK qH.2.2.2.2.2 mr_ws_D hS.2.2.2.2.1 (fun q hq => Nat.le_trans C.2.1.2.2.2 hq) hz rfl (by omega) rc rs hd (fun q cA H1 hK1 hP1 hD1 hS1 => ?_)
    refine mr_Wz (fun hzz => ?_)
    have eq := mr_qx hS.2.2.2.2.2.1 qH.1 hzz hP1 hD1
    subst eq
    have hl := (hK1.2 (mr_tys X).length (cA, .object (mj_AN t)) (by rw [List.getElem?_append_right (Nat.le_refl _)]; simp)).2
    have hl2 := (hK.2 _ _ (mr_tys_ref (X := X) (t := t) (by unfold mj_ra; omega))).2
    obtain ⟨_, _, _, _, _, f1⟩ := hl
    obtain ⟨_, _, _, _, _, f2⟩ := hl2
    have ec : cA = mr_dA X t := Option.some.inj (f1.symm.trans f2)
    subst ec
    have hP2 : va_P (mr_D X) mj_cls (mr_ws X (mj_nw h t z.toNatClampNeg z.toNatClampNeg)) H1 := by
      rw [← mr_ws_push (X := X) (h := h) qH.1 rfl (fun b hb => mr_en_nw hb), mr_en_ref mj_nw_T ht.1, mj_nw_N, mj_nw_R]
      exact hP1
    have := kk _ _ _ _ _ (mr_S_nw hS hu (mr_H_nw qH (Or.inr ⟨by omega, by omega⟩) hP2) hS1)
    rw [List.map_cons, mr_v_new qH.1] at this
    exact this
  · cases hv
theorem mj_nf_sl : ∀ t, t < 8 → mj_nf t = mj_sl t := by decide
theorem mj_ty_dec : ∀ t, t < 11 → ∀ k, k < mj_nf t → mj_rf t k = false → mj_ty t k = .int ∨ mj_ty t k = .boolean ∨ mj_ty t k = .byte := by decide +kernel
theorem mr_new (t : Nat) : mr_T (.new t) := by
  intro X xs L p l e R s m args below meth c d y Q pc H locs cells slots ls lc st h n j k S pc' lc' st' h' C hi hS hv hA kk
  obtain ⟨hn, hd⟩ := mj_dd hi rfl
  subst hn
  have hl := mj_lok_ok hi
  simp only [mj_lok, Bool.and_eq_true, decide_eq_true_eq] at hl
  obtain ⟨ht, hcl, hins, hini⟩ := hl
  have ht11 : t < 11 := by omega
  simp only [mj_do] at hv
  cases hv
  have hu : mj_U h + (1 + mj_sl t) ≤ mj_M := hA
  have qH := hS.2.2.2.1
  obtain ⟨rc, rs⟩ := mr_room hu hS.2.1 hS.2.2.1
  refine va_new C.1.1 C.1.2.1 (mr_ts C ht11) (fun _ z => z) (mj_ty t) (mj_tyok t ht11) C.1.2.2.2.1 (mr_w C hcl) (mr_w C hins) (mr_w C hini) C.2.1.2.1 qH.2.2.2.2.2 mr_ws_D hS.2.2.2.2.1 (fun q hq => Nat.le_trans C.2.1.2.2.2 hq) (mj_cls_at t ht11) (fs := mr_fs X (mj_nw h t 0 (mj_sl t)) (mj_Z h) t) (fun z hz => ?_) rc (by rw [mj_nf_sl t ht]; exact rs) hd (fun q H1 hP1 hD1 hS1 => ?_)
  · unfold vp_V
    rw [List.getD_eq_getElem?_getD]
    cases hr : mj_rf t z with
    | true =>
      rw [mr_fs_R hz hr, mj_nw_R]
      rcases mr_rf_ty ht11 hz hr with ⟨w, ew⟩ | ⟨w, ew⟩ <;> rw [ew] <;> rfl
    | false =>
      rw [mr_fs_I hz hr, mj_nw_I]
      rcases mj_ty_dec t ht11 z hz hr with ew | ew | ew <;> rw [ew] <;> rfl
  · refine mr_Wz (fun hzz => ?_)
    have eq := mr_qx hS.2.2.2.2.2.1 qH.1 hzz hP1 hD1
    subst eq
    have hP2 : va_P (mr_D X) mj_cls (mr_ws X (mj_nw h t 0 (mj_sl t))) H1 := by
      rw [← mr_ws_push (X := X) (h := h) qH.1 rfl (fun b hb => mr_en_nw hb), mr_en_obj mj_nw_T ht11]
      exact hP1
    have := kk _ _ _ _ _ (mr_S_nw hS hu (mr_H_nw qH (Or.inl ht11) hP2) hS1)
    rw [List.map_cons, mr_v_new qH.1, ← mj_nf_sl t ht] at this
    exact this
theorem mr_checkcast (t : Nat) : mr_T (.checkcast t) := by
  intro X xs L p l e R s m args below meth c d y Q pc H locs cells slots ls lc st h n j k S pc' lc' st' h' C hi hS hv hA kk
  obtain ⟨hn, hd⟩ := mj_dd hi rfl
  subst hn
  have hl := mj_lok_ok hi
  simp only [mj_lok, Bool.and_eq_true, decide_eq_true_eq] at hl
  obtain ⟨ht, hcl⟩ := hl
  simp only [mj_do] at hv
  split at hv
  · next a r =>
    cases hv
    obtain ⟨hT, ha⟩ : mj_T h a = t ∧ 20 ≤ a := hA
    have qH := hS.2.2.2.1
    have hK := C.2.1.2.1
    have k2 : W p l e R s m args below meth c H locs cells slots Q (F0 m (pc + 3) ls (mr_v X (.ref a) :: r.map (mr_v X))) := kk _ _ _ _ _ hS
    show W p l e R s m args below meth c H locs cells slots Q (F0 m pc ls (mr_v X (.ref a) :: r.map (mr_v X)))
    rw [mr_v_new ha] at k2 ⊢
    rcases ht with rfl | rfl | rfl
    · have he := qH.at ha (by omega)
      rw [mr_en_ref hT (by omega)] at he
      have hl2 := (hK.2 _ _ (mr_tys_ref (X := X) (t := 20) (Or.inl rfl))).2
      obtain ⟨_, _, _, _, _, f2⟩ := hl2
      exact va_castA C.1.1 C.1.2.1 C.1.2.2.2.1 (mr_w C hcl) qH.2.2.2.2.2 (a - 20) he f2 hd k2
    · have he := qH.at ha (by omega)
      rw [mr_en_int hT (Or.inr (Or.inl rfl))] at he
      have f2 : s.vm.findClass ("[" ++ (FieldType.byte).toString) = some (mr_dA X 17) := (hK.2 1 (mr_dA X 17, .byte) rfl).2
      exact va_castA C.1.1 C.1.2.1 C.1.2.2.2.1 (mr_w C hcl) qH.2.2.2.2.2 (a - 20) he f2 hd k2
    · have he := mr_at_obj qH ha hT (by omega)
      exact va_castS C.1.1 C.1.2.1 C.1.2.2.2.1 (mr_w C hcl) (hK.1 4 _ (mj_cls_at 4 (by omega))).2 (va_recv hK qH.2.2.2.2.2 (mj_cls_at 4 (by omega)) he) hd k2
  · cases hv
end
section
/-! natives -/
theorem mr_cats {X : mr_X} : ∀ (r : List Value), ((r.map (mr_v X)).map (fun v => v.category)).sum ≤ 2 * r.length
  | [] => Nat.le_refl _
  | v :: r => by
    have ih := mr_cats (X := X) r
    simp only [List.map_cons, List.sum_cons, List.length_cons]
    have : (mr_v X v).category ≤ 2 := by
      cases hv : mr_v X v <;> simp [Value.category]
    omega
theorem mr_sum8 {X : mr_X} {r : List Value} (h : Nat.ble r.length 8 = true) : ((r.map (mr_v X)).map (fun v => v.category)).sum ≤ 16 := by
  have := mr_cats (X := X) r
  have := Nat.le_of_ble_eq_true h
  omega
theorem mr_ml {X : mr_X} {xs : Nat → Int32} {L : Nat} {p : Program} {R : Room} {s : State} {m : MethodId} {meth : Method} {c : Code} {d y : Nat} {lc : List Value} {h : mj_H} {H : Heap} {locs : List Loc} {cells slots : Nat} {ls : Array Slot} (C : mr_C X xs L p R s m meth c d y) (hS : mr_S X xs L R s y lc h H locs cells slots ls) : c.maxLocals = ls.size := by rw [C.1.2.2.1]; exact hS.2.2.2.2.2.2.1.symm
theorem mr_fitsb {x : Int32} (h : mj_b x = x) : fits .byte (.int x) = true := by rw [← h]; exact pk_fb x
theorem mr_en_cp {X : mr_X} {h : mj_H} {s sp d dp n b : Nat} (hb : b ≠ d) : mr_en X (mj_cp h s sp d dp n) b = mr_en X h b := by
  have e1 : mj_I (mj_cp h s sp d dp n) b = mj_I h b := by funext i; simp [mj_I, mj_cp, hb]
  have e2 : mj_R (mj_cp h s sp d dp n) b = mj_R h b := by funext i; simp [mj_R, mj_cp, hb]
  unfold mr_en
  rw [e1, e2]; rfl
theorem mr_H_cp {X : mr_X} {xs : Nat → Int32} {L : Nat} {h : mj_H} {H H1 : Heap} {s sp d dp n : Nat} (q : mr_H X xs L h H) (hd : 20 ≤ d) (hs : 20 ≤ s) (hT : mj_T h s = mj_T h d) (hP : va_P (mr_D X) mj_cls (mr_ws X (mj_cp h s sp d dp n)) H1) : mr_H X xs L (mj_cp h s sp d dp n) H1 := by
  obtain ⟨q1, q2, q3, q4, q5, -⟩ := q
  refine ⟨q1, q2, q3, fun b hb' => ?_, fun b i hb1 hb2 => ?_, hP⟩
  · obtain ⟨r1, r2, r3, r4⟩ := q4 b hb'
    have : b ≠ d := by omega
    refine ⟨r1, r2, fun i => ?_, fun i => ?_⟩
    · rw [← r3 i]; simp [mj_I, mj_cp, this]
    · rw [← r4 i]; simp [mj_R, mj_cp, this]
  · have hb2 : mj_T h b = 17 := hb2
    by_cases e : b = d
    · subst e
      by_cases e2 : dp ≤ i ∧ i < dp + n
      · have := q5 s (sp + (i - dp)) hs (by rw [hT]; exact hb2)
        simpa [mj_I, mj_cp, e2] using this
      · have := q5 b i hb1 hb2
        simpa [mj_I, mj_cp, e2] using this
    · simpa [mj_I, mj_cp, e] using q5 b i hb1 hb2
theorem mr_cpname : mj_nCP = arraycopyName := rfl
theorem mr_invokestatic (z : Nat) : mr_T (.invokestatic z) := by
  intro X xs L p l e R s m args below meth c d y Q pc H locs cells slots ls lc st h n j k S pc' lc' st' h' C hi hS hv hA kk
  obtain ⟨hn, hd⟩ := mj_dd hi rfl
  subst hn
  have hl := mj_lok_ok hi
  by_cases hz : z = 900
  · subst hz
    simp only [mj_lok, if_pos, Bool.and_eq_true] at hl
    obtain ⟨l1, l2, l3, l4⟩ := hl
    simp only [mj_do, mj_n0, if_pos] at hv
    split at hv
    · next kx dp dd sp ss r =>
      cases hb : Nat.ble r.length 8 with
      | false => rw [hb] at hv; cases hv
      | true =>
        rw [hb] at hv
        cases hv
        obtain ⟨hs, hdd, hTT, hTd, h1, h2, h3, h4, h5, h6⟩ := hA
        have qH := hS.2.2.2.1
        have hK := C.2.1.2.1
        have hsum := mr_sum8 (X := X) hb
        have hloc : ((st'.map (mr_v X)).map (fun v => v.category)).sum + (nativeFrameWords "java/lang/System" "arraycopy" 5 + 11) ≤ R.locals := by
          have : nativeFrameWords "java/lang/System" "arraycopy" 5 = 7 := by decide +kernel
          have := C.2.2.2
          omega
        show W p l e R s m args below meth c H locs cells slots Q (F0 m pc ls (.int kx :: .int dp :: mr_v X (.ref dd) :: .int sp :: mr_v X (.ref ss) :: st'.map (mr_v X)))
        rw [mr_v_new hs, mr_v_new hdd]
        have hes := qH.at hs (by omega)
        have hed := qH.at hdd (by omega)
        rcases hTd with hTd | hTd
        · rw [mr_en_int (hTT.trans hTd) (Or.inr (Or.inl rfl))] at hes
          rw [mr_en_int hTd (Or.inr (Or.inl rfl))] at hed
          refine va_copyi C.1.1 C.1.2.1 (mr_ml C hS) C.1.2.2.2.1 (mr_w C l1) (mr_w C l2) (mr_w C l3) (mr_w C l4) hK qH.2.2.2.2.2 mr_ws_D hS.2.2.2.2.1 (ss - 20) (dd - 20) 1 1 hes hed rfl rfl rfl h1 h2 h3 h4 h5 (fun i _ => mr_fitsb (qH.2.2.2.2.1 ss _ hs (hTT.trans hTd))) (by have := C.2.2.1; omega) hloc hd (fun H1 locs1 w1 _ w3 => kk _ _ _ _ _ (mr_S_h hS rfl rfl (mr_H_cp qH hdd hs hTT ?_) w3))
          rw [← mr_ws_set (X := X) (h := h) (h' := mj_cp h ss sp.toNatClampNeg dd dp.toNatClampNeg kx.toNatClampNeg) rfl hdd (fun b hb => mr_en_cp hb), mr_en_int (show mj_T (mj_cp h ss sp.toNatClampNeg dd dp.toNatClampNeg kx.toNatClampNeg) dd = 17 from hTd) (Or.inr (Or.inl rfl))]
          have e1 : mj_I (mj_cp h ss sp.toNatClampNeg dd dp.toNatClampNeg kx.toNatClampNeg) dd = va_cpy (mj_I h ss) (mj_I h dd) sp.toNatClampNeg dp.toNatClampNeg kx.toNatClampNeg := by funext i; simp [mj_I, mj_cp, va_cpy]
          rw [e1]
          exact w1
        · rw [mr_en_ref (hTT.trans hTd) (by omega)] at hes
          rw [mr_en_ref hTd (by omega)] at hed
          have h6 := h6 hTd
          refine va_copyq C.1.1 C.1.2.1 (mr_ml C hS) C.1.2.2.2.1 (mr_w C l1) (mr_w C l2) (mr_w C l3) (mr_w C l4) hK qH.2.2.2.2.2 mr_ws_D hS.2.2.2.2.1 (ss - 20) (dd - 20) 7 7 (C := "DotBook$Line") hes hed rfl rfl h1 h2 h3 h4 h5 (fun i hi2 yy hy => ?_) (fun comp c0 e1 e2 => ?_) (by have := C.2.2.1; omega) hloc hd (fun H1 locs1 w1 _ w3 => kk _ _ _ _ _ (mr_S_h hS rfl rfl (mr_H_cp qH hdd hs hTT ?_) w3))
          · obtain ⟨g1, g2⟩ := h6 i hi2
            rw [mr_o_new g2] at hy
            cases hy
            exact va_recv hK qH.2.2.2.2.2 (mj_cls_at 4 (by omega)) (mr_at_obj qH g2 g1 (by omega))
          · obtain ⟨c3, c4, g1, g2, g3⟩ := Cond.castable_spec (mr_has C mj_castLO)
            cases g1.symm.trans e2
            cases g2.symm.trans e1
            exact g3
          · rw [← mr_ws_set (X := X) (h := h) (h' := mj_cp h ss sp.toNatClampNeg dd dp.toNatClampNeg kx.toNatClampNeg) rfl hdd (fun b hb => mr_en_cp hb), mr_en_ref (show mj_T (mj_cp h ss sp.toNatClampNeg dd dp.toNatClampNeg kx.toNatClampNeg) dd = 23 from hTd) (by omega)]
            have e1 : (fun i => mr_o X (mj_R (mj_cp h ss sp.toNatClampNeg dd dp.toNatClampNeg kx.toNatClampNeg) dd i)) = va_cpy (fun i => mr_o X (mj_R h ss i)) (fun i => mr_o X (mj_R h dd i)) sp.toNatClampNeg dp.toNatClampNeg kx.toNatClampNeg := by
              funext i
              by_cases q : dp.toNatClampNeg ≤ i ∧ i < dp.toNatClampNeg + kx.toNatClampNeg
              · simp [mj_R, mj_cp, va_cpy, q]
              · simp [mj_R, mj_cp, va_cpy, q]
            rw [e1]
            exact w1
    · cases hv
  · simp only [mj_do, mj_n0, if_neg hz] at hv
    cases hv
theorem mr_invokespecial (z : Nat) : mr_T (.invokespecial z) := by
  intro X xs L p l e R s m args below meth c d y Q pc H locs cells slots ls lc st h n j k S pc' lc' st' h' C hi hS hv hA kk
  obtain ⟨hn, hd⟩ := mj_dd hi rfl
  subst hn
  have hl := mj_lok_ok hi
  by_cases hz : z = 903
  · subst hz
    simp only [mj_lok, if_pos, Bool.and_eq_true] at hl
    obtain ⟨l1, l2⟩ := hl
    simp only [mj_do, mj_n2, if_pos] at hv
    split at hv
    · next a r =>
      cases hb : Nat.ble r.length 8 with
      | false => rw [hb] at hv; cases hv
      | true =>
        rw [hb] at hv
        cases hv
        have ha : 20 ≤ a := hA
        have hsum := mr_sum8 (X := X) hb
        show W p l e R s m args below meth c H locs cells slots Q (F0 m pc ls (mr_v X (.ref a) :: st'.map (mr_v X)))
        rw [mr_v_new ha]
        exact W.objInit C.1.1 C.1.2.1 C.1.2.2.2.1 (mr_w C l1) (mr_w C l2) (mj_mv_use rfl (C.2.1.1 _ (mj_in_1 (List.mem_of_getElem? (i := 39) rfl)) rfl)) rfl (mr_ml C hS).symm rfl hd (by have := C.2.2.1; omega) (by show 2 * 0 + _ + 12 ≤ _; have := C.2.2.2; omega) (kk _ _ _ _ _ hS)
    · cases hv
  · simp only [mj_do, mj_n2, if_neg hz] at hv
    cases hv
theorem mr_en_cl {X : mr_X} {h : mj_H} {a b : Nat} (hb : b ≠ mj_Z h) : mr_en X (mj_cl h a) b = mr_en X h b := by
  have e1 : mj_I (mj_cl h a) b = mj_I h b := by funext i; simp [mj_I, mj_cl, hb]
  have e2 : mj_R (mj_cl h a) b = mj_R h b := by funext i; simp [mj_R, mj_cl, hb]
  have e3 : mj_L (mj_cl h a) b = mj_L h b := by funext i; simp [mj_L, mj_cl, hb]
  have e4 : mj_T (mj_cl h a) b = mj_T h b := by show (if b = mj_Z h then mj_T h a else mj_T h b) = _; rw [if_neg hb]
  have e5 : mj_N (mj_cl h a) b = mj_N h b := by show (if b = mj_Z h then mj_N h a else mj_N h b) = _; rw [if_neg hb]
  unfold mr_en
  rw [e1, e2, e3, e4, e5]
theorem mj_cl_T {h : mj_H} {a : Nat} : mj_T (mj_cl h a) (mj_Z h) = mj_T h a := by show (if mj_Z h = mj_Z h then mj_T h a else _) = _; rw [if_pos rfl]
theorem mj_cl_N {h : mj_H} {a : Nat} : mj_N (mj_cl h a) (mj_Z h) = mj_N h a := by show (if mj_Z h = mj_Z h then mj_N h a else _) = _; rw [if_pos rfl]
theorem mj_cl_I {h : mj_H} {a : Nat} : mj_I (mj_cl h a) (mj_Z h) = mj_I h a := by funext i; simp [mj_I, mj_cl]
theorem mj_cl_R {h : mj_H} {a : Nat} : mj_R (mj_cl h a) (mj_Z h) = mj_R h a := by funext i; simp [mj_R, mj_cl]
theorem mr_H_cl {X : mr_X} {xs : Nat → Int32} {L : Nat} {h : mj_H} {H H1 : Heap} {a : Nat} (q : mr_H X xs L h H) (ht : 16 ≤ mj_T h a ∧ mj_T h a ≤ 23) (h17 : mj_T h a = 17 → 20 ≤ a) (hP : va_P (mr_D X) mj_cls (mr_ws X (mj_cl h a)) H1) : mr_H X xs L (mj_cl h a) H1 := by
  obtain ⟨q1, q2, q3, q4, q5, -⟩ := q
  have eT : ∀ b, b ≠ mj_Z h → mj_T (mj_cl h a) b = mj_T h b := fun b hb => by show (if b = mj_Z h then mj_T h a else mj_T h b) = _; rw [if_neg hb]
  refine ⟨Nat.le_succ_of_le q1, fun b hb => ?_, fun b h1 h2 => ?_, fun b hb' => ?_, fun b i h1 h2 => ?_, hP⟩
  · have hb : mj_Z h + 1 ≤ b := hb
    rw [eT b (by omega)]; exact q2 b (by omega)
  · have h2 : b < mj_Z h + 1 := h2
    by_cases e : b = mj_Z h
    · subst e; rw [mj_cl_T]; exact Or.inr ht
    · rw [eT b e]; exact q3 b h1 (by omega)
  · have hb : b ≠ mj_Z h := by omega
    obtain ⟨r1, r2, r3, r4⟩ := q4 b hb'
    refine ⟨by rw [eT b hb]; exact r1, ?_, fun i => ?_, fun i => ?_⟩
    · show (if b = mj_Z h then mj_N h a else mj_N h b) = _; rw [if_neg hb]; exact r2
    · rw [← r3 i]; simp [mj_I, mj_cl, hb]
    · rw [← r4 i]; simp [mj_R, mj_cl, hb]
  · by_cases e : b = mj_Z h
    · subst e
      rw [mj_cl_T] at h2
      rw [mj_cl_I]
      exact q5 a i (h17 h2) h2
    · rw [eT b e] at h2
      have := q5 b i h1 h2
      simpa [mj_I, mj_cl, e] using this
theorem mr_S_cl {X : mr_X} {xs : Nat → Int32} {L : Nat} {R : Room} {s : State} {y : Nat} {lc : List Value} {h : mj_H} {H H1 : Heap} {locs locs1 : List Loc} {cells slots : Nat} {ls : Array Slot} {a : Nat} (hS : mr_S X xs L R s y lc h H locs cells slots ls) (hu : mj_U h + (1 + mj_N h a) ≤ mj_M) (h1 : mr_H X xs L (mj_cl h a) H1) (h2 : va_S (fun q => mr_B X ≤ q) s.heap H1 locs1) : mr_S X xs L R s y lc (mj_cl h a) H1 locs1 (cells + 1) (slots + mj_N h a) ls := by
  obtain ⟨a1, a2, a3, -, -, a6, a7⟩ := hS
  have eU : mj_U (mj_cl h a) = mj_U h + (1 + mj_N h a) := rfl
  refine ⟨by rw [eU]; exact hu, by rw [eU]; omega, by rw [eU]; omega, h1, h2, ?_, a7⟩
  show s.heap.size + (cells + 1) + 20 = mr_B X + (mj_Z h + 1)
  omega
end
section
/-! an exception is caught in a method whose catch type may not be resolved yet -/
theorem mt_go_cold {e : Env} {s : State} {f : JFrame} {a : Addr} {Q : Handler → Pre} {E : CtlPost} {d : Bool} {acts : List Action} {x : ExceptionTableEntry} {t : List ExceptionTableEntry} {c : ClassId} {vm' : Vm} {cell : Cell} (hx : covers x f.pc = true) (h0 : x.catchType ≠ 0)
    (hg : (Jvm.resolveClass f.method.cls x.catchType).Gives e.toSetting s.vm (.ok c) vm') (hr : vm'.classReady f.method.cls x.catchType c) (hsz : vm'.classes.size ≤ s.vm.classes.size) (hcell : s.heap[a]? = some cell) (hobj : ∀ k, cell.vm ≠ .statics k)
    (hk : ∃ k, vm'.classes[cell.cls]? = some k) (hc : ∃ k, vm'.classes[c]? = some k) :
    wp (findHandler.go f a (x :: t)) Q E e d acts s ↔ wp (findHandler.go f a (x :: t)) Q E e d acts (s.setVm vm') := by
  obtain ⟨ha, ht⟩ := hg.op (op := VmOp.resolveClass f.method.cls x.catchType) rfl
  rw [W.findHandler_go_class (s := s.setVm vm') hx h0 hr hcell hobj hk hc]
  simp only [covers] at hx
  cases hfit : vm'.assignable cell.cls c <;>
    simp [findHandler.go, hx, h0, ha, ht, hsz, hcell, hobj, hk, hc, hfit, VmOp.dirties, VmOp.acts]
/-- what the search gives, and the tables behind it -/
def mt_Finds (e : Env) (s : State) (f : JFrame) (a : Addr) (pc : Nat) (vm' : Vm) : Prop := ∀ (Q : Handler → Pre) (E : CtlPost) (d : Bool) (acts : List Action), wp (findHandler f a) Q E e d acts s ↔ Q (.found pc) d acts (s.setVm vm')
theorem mt_catch {e : Env} {s : State} {a : Addr} {f : JFrame} {r : List Frame} {pc : Nat} {vm' : Vm} (hfind : mt_Finds e s f a pc vm') :
    (stepThrowing e s a (.java f :: r)).Is ((s.setVm vm').setFrames (.java { f with pc := pc, stack := [.ref a] } :: r)) [] := by
  simp only [stepThrowing, searchFrame, vmDo]
  generalize hr : Sem.go _ e false [] s = res
  obtain ⟨as, rfl, ha⟩ := Sem.eq_ok_of hr (a := Handler.found pc) (s' := s.setVm vm') (acts' := []) (by simp [hfind _ _ _ _])
  exact ⟨rfl, ha⟩
theorem mt_caught {tb : Tables} {e : Env} {s target : State} {g : JFrame} {c : Code} {below : List Frame} {a : Addr} {vm' : Vm} (h : At s g.method c below) {pc : Nat} (hfind : mt_Finds e ((s.setTop g).pushFrame (.throwing a)) g a pc vm')
    (hrest : Steps tb e below ((s.setVm vm').setTop { g with pc := pc, stack := [.ref a] }) target) : Steps tb e below ((s.setTop g).pushFrame (.throwing a)) target := by
  obtain ⟨hgo, hw⟩ := h.throwing a
  refine Steps.head hgo hw ?_
  rw [stepThread_throwing (frames_entered h.top _), (mt_catch (s := (s.setTop g).pushFrame (.throwing a)) hfind).1]
  obtain ⟨g₀, hg⟩ := Option.isSome_iff_exists.mp h.top
  obtain ⟨r, hr⟩ := State.topJava?_eq_some.mp hg
  have hr' : (s.setVm vm').frames = .java g₀ :: r := hr
  rw [State.setTop_of_frames _ hr'] at hrest
  have e1 : ((s.setTop g).pushFrame (.throwing a)).setVm vm' = ((s.setVm vm').setTop g).pushFrame (.throwing a) := rfl
  rw [e1, State.pushFrame, State.setFrames_setFrames, State.setTop_of_frames _ hr', State.setFrames_setFrames]
  have e2 : s.frames.tail = r := by rw [hr]; rfl
  rw [e2]
  exact hrest
theorem mt_weaken {tb : Tables} {e : Env} {mid below : List Frame} {a b : State} (h : Steps tb e (mid ++ below) a b) : Steps tb e below a b := by
  obtain ⟨n, hn, w⟩ := h
  exact ⟨n, hn, fun k hk => (w k hk).weaken⟩
theorem mj_hlk : ∀ y, y < 169 → ((mj_hd y).zip (mj_hi y)).all (fun q => mj_has (.classLink (mj_mn y).cls q.2.2.2.2 (mj_CN q.1.2.2.2)) && (decide (8 ≤ q.1.2.2.2 ∧ q.1.2.2.2 ≤ 10) && (decide (q.1.1 = q.2.1 ∧ q.1.2.1 = q.2.2.1 ∧ q.1.2.2.1 = q.2.2.2.1) && !(q.2.2.2.2 == 0)))) = true := by decide +kernel
theorem mj_hlen : ∀ y, y < 169 → (mj_hd y).length = (mj_hi y).length := by decide +kernel
theorem mj_casts : mj_has (.castable "java/lang/IllegalArgumentException" "java/lang/IllegalArgumentException") = true ∧ mj_has (.castable "java/lang/IllegalStateException" "java/lang/IllegalStateException") = true ∧ mj_has (.castable "java/lang/IndexOutOfBoundsException" "java/lang/IndexOutOfBoundsException") = true := by decide +kernel
theorem mr_hasG {X : mr_X} {xs : Nat → Int32} {L : Nat} {s : State} (G : mr_G X xs L s) {w : Cond} (h : mj_has w = true) : va_Nw w s := by
  simp only [mj_has, Bool.and_eq_true, decide_eq_true_eq] at h
  exact G.1 w h.1 h.2
/-- an exception's class can be assigned to itself -/
theorem mr_self {X : mr_X} {xs : Nat → Int32} {L : Nat} {s : State} (G : mr_G X xs L s) {t : Nat} (ht : 8 ≤ t ∧ t ≤ 10) : s.vm.assignable ((mr_D X).1 t) ((mr_D X).1 t) = true := by
  have go : ∀ {t : Nat}, t < 11 → mj_has (.castable (mj_CN t) (mj_CN t)) = true → s.vm.assignable ((mr_D X).1 t) ((mr_D X).1 t) = true := by
    intro t h11 hh
    obtain ⟨c1, c2, g1, g2, g3⟩ := Cond.castable_spec (mr_hasG G hh)
    have hk := (G.2.1.1 t _ (mj_cls_at t h11)).2.1
    cases hk.symm.trans g1
    cases hk.symm.trans g2
    exact g3
  rcases (show t = 8 ∨ t = 9 ∨ t = 10 by omega) with rfl | rfl | rfl
  · exact go (by omega) mj_casts.1
  · exact go (by omega) mj_casts.2.1
  · exact go (by omega) mj_casts.2.2
section
variable {X : mr_X} {xs : Nat → Int32} {L : Nat} {p : Program} {l : Launch} {e : Env} {R : Room} {s : State} {m : MethodId} {args : Array Value} {below : List Frame} {meth : Method} {c : Code} {T : State} {locs : List Loc} {cells slots y : Nat}
theorem mt_go (hpl : e.platform.magicAccessors = ({} : Platform).magicAccessors) (hown : s.vm.findClass (mj_mn y).cls = some m.cls) (G : mr_G X xs L s) {S0 : State} {g : JFrame} (hg : g.method = m) {x : Addr} {cell : Cell} (hcell : S0.heap[x]? = some cell) (hvm : cell.vm = .none) {t hp : Nat} (ht : 8 ≤ t ∧ t ≤ 10) (hcls : cell.cls = (mr_D X).1 t) :
    ∀ (tb : List ExceptionTableEntry) (hd : List (Nat × Nat × Nat × Nat)), tb.length = hd.length → (hd.zip (tb.map (fun x => (x.startPc, x.endPc, x.handlerPc, x.catchType)))).all (fun q => mj_has (.classLink (mj_mn y).cls q.2.2.2.2 (mj_CN q.1.2.2.2)) && (decide (8 ≤ q.1.2.2.2 ∧ q.1.2.2.2 ≤ 10) && (decide (q.1.1 = q.2.1 ∧ q.1.2.1 = q.2.2.1 ∧ q.1.2.2.1 = q.2.2.2.1) && !(q.2.2.2.2 == 0)))) = true → mj_hg g.pc t hd = some (some hp) →
      ∀ v : Vm, s.WarmedH v → ∃ v' : Vm, s.WarmedH v' ∧ ∀ (Q : Handler → Pre) (E : CtlPost) (d : Bool) (acts : List Action), wp (findHandler.go g x tb) Q E e d acts (S0.setVm v) ↔ Q (.found hp) d acts (S0.setVm v')
  | [], [], _, _, h, _, _ => by cases h
  | [], _ :: _, hl, _, _, _, _ => by simp at hl
  | _ :: _, [], hl, _, _, _, _ => by simp at hl
  | en :: tb, (a, b, hp', u) :: hd, hl, hc, hh, v, hW => by
    rw [List.map_cons, List.zip_cons_cons, List.all_cons, Bool.and_eq_true] at hc
    obtain ⟨hc1, hc2⟩ := hc
    simp only [Bool.and_eq_true, decide_eq_true_eq, Bool.not_eq_true', beq_eq_false_iff_ne] at hc1
    obtain ⟨w1, hu, ⟨e1, e2, e3⟩, h0⟩ := hc1
    have hl' : tb.length = hd.length := by simpa using hl
    unfold mj_hg at hh
    by_cases hcov : a ≤ g.pc ∧ g.pc < b
    · rw [if_pos hcov] at hh
      have hx : covers en g.pc = true := by simp only [covers]; rw [← e1, ← e2]; simp [hcov]
      have hown' : s.vm.findClass (mj_mn y).cls = some g.method.cls := by rw [hg]; exact hown
      obtain ⟨cc, hfcc, hcl⟩ := Cond.classLink_spec hown' (mr_hasG G w1) e.platform hpl
      have hcu := (G.2.1.1 u _ (mj_cls_at u (by omega))).2
      cases hcu.1.symm.trans hfcc
      obtain ⟨hg₁, hwarm₁, hready₁⟩ := State.classEntry (e := e) (vm₀ := v) hW hcl
      generalize hv1 : v.noted g.method.cls en.catchType (.cls ((mr_D X).1 u)) = v1 at hg₁ hwarm₁ hready₁
      have hsz : v1.classes.size ≤ v.classes.size := by
        have a1 := hwarm₁.alike.2.1
        have a2 := hW.alike.2.1
        omega
      have hk1 : ∃ k, v1.classes[cell.cls]? = some k := by
        obtain ⟨-, kC, hkC, -⟩ := (G.2.1.1 t _ (mj_cls_at t (by omega))).2
        obtain ⟨k', hk', -⟩ := hwarm₁.alike.2.2 _ _ hkC
        exact ⟨k', by rw [hcls]; exact hk'⟩
      have hk2 : ∃ k, v1.classes[(mr_D X).1 u]? = some k := by
        obtain ⟨-, kC, hkC, -⟩ := hcu
        obtain ⟨k', hk', -⟩ := hwarm₁.alike.2.2 _ _ hkC
        exact ⟨k', hk'⟩
      have hobj : ∀ k, cell.vm ≠ .statics k := fun k q => by rw [hvm] at q; cases q
      by_cases hut : u = t
      · rw [if_pos hut] at hh
        cases hh
        refine ⟨v1, hwarm₁, fun Q E d acts => ?_⟩
        rw [mt_go_cold (s := S0.setVm v) hx h0 hg₁ hready₁ hsz hcell hobj hk1 hk2]
        show wp _ _ _ _ _ _ (S0.setVm v1) ↔ _
        rw [W.findHandler_go_class (s := S0.setVm v1) hx h0 hready₁ hcell hobj hk1 hk2]
        have hfit : v1.assignable cell.cls ((mr_D X).1 u) = true := by
          rw [hcls, hut, hwarm₁.alike.assignable]; exact mr_self G ht
        rw [if_pos (show (S0.setVm v1).vm.assignable cell.cls ((mr_D X).1 u) = true from hfit), ← e3]
      · rw [if_neg hut] at hh
        by_cases h98 : t = 9 ∧ u = 8
        · rw [if_pos h98] at hh
          obtain ⟨v', hw', hq⟩ := mt_go hpl hown G hg hcell hvm ht hcls tb hd hl' hc2 hh v1 hwarm₁
          refine ⟨v', hw', fun Q E d acts => ?_⟩
          rw [mt_go_cold (s := S0.setVm v) hx h0 hg₁ hready₁ hsz hcell hobj hk1 hk2]
          show wp _ _ _ _ _ _ (S0.setVm v1) ↔ _
          rw [W.findHandler_go_class (s := S0.setVm v1) hx h0 hready₁ hcell hobj hk1 hk2]
          have hfit : v1.assignable cell.cls ((mr_D X).1 u) = false := by
            obtain ⟨rfl, rfl⟩ := h98
            rw [hcls, hwarm₁.alike.assignable]
            obtain ⟨n1, n2, f1, f2, f3⟩ := G.2.2.1.2.2.2.2.2.2.2.2.2.2.2.2.2.2.1
            have i1 := (G.2.1.1 9 _ (mj_cls_at 9 (by omega))).2.1
            have i2 := (G.2.1.1 8 _ (mj_cls_at 8 (by omega))).2.1
            cases i1.symm.trans f1
            cases i2.symm.trans f2
            exact f3
          rw [if_neg (show ¬ (S0.setVm v1).vm.assignable cell.cls ((mr_D X).1 u) = true from by show ¬ v1.assignable _ _ = true; rw [hfit]; decide)]
          exact hq Q E d acts
        · rw [if_neg h98] at hh; cases hh
    · rw [if_neg hcov] at hh
      have hx : covers en g.pc = false := by
        simp only [covers]
        rw [← e1, ← e2]
        simp only [Bool.and_eq_false_iff, decide_eq_false_iff_not]
        omega
      obtain ⟨v', hw', hq⟩ := mt_go hpl hown G hg hcell hvm ht hcls tb hd hl' hc2 hh v hW
      refine ⟨v', hw', fun Q E d acts => ?_⟩
      rw [W.findHandler_go_skip hx]
      exact hq Q E d acts
end
end
section
/-! calls -/
theorem mj_plain : ∀ z, z < 169 → plainFor (mj_mn z) = true := by decide +kernel
theorem mj_naml : ∀ z, z < 169 → mj_na z ≤ mj_ml z ∧ mj_ml z ≤ 20 := by decide +kernel
theorem mj_cw_mv (z : Nat) : mj_mv (mj_cw z) = true := by
  unfold mj_cw
  split <;> rfl
theorem mr_callee {X : mr_X} {xs : Nat → Int32} {L : Nat} {p : Program} {s U : State} {z : Nat} {mk : MethodId} (hx : p.tables.exec = Jvm.exec) (g : mr_G X xs L s) (hW : s.WarmedH U.vm) (hz : z < 168) (hn : U.methodNamed? (mj_mn z) = some mk) :
    ∃ (methk : Method) (ck : Code), U.vm.method? mk = some methk ∧ methk.code = some ck ∧ methk.locks = false ∧ U.plainMethod mk ∧ ∀ V : State, V.vm = U.vm → mr_F z p V mk methk ck := by
  have hpl : ∀ {methk : Method}, U.vm.method? mk = some methk → U.plainMethod mk := fun h => State.plainMethod.of_named (mj_plain z (by omega)) hn h
  have hw : (mj_cw z).before #[] U = true := mj_mv_use (mj_cw_mv z) (mj_mv_warm (mj_cw_mv z) hW (g.1 _ (mj_cw_in hz) (mj_cw_mv z)))
  unfold mj_cw at hw
  split at hw
  · next e =>
    obtain ⟨meth, c, h1, h2, h3, h4, h5, h6, h7, h8⟩ := Cond.code_spec hn hw
    refine ⟨meth, c, h1, h2, h6, hpl h1, fun V hV => ⟨hx, h3, h4, by rw [hV]; exact findClass_of_methodNamed hn, h5, h6, (name_of_methodNamed hn h1).1, ?_⟩⟩
    rw [e]
    have : c.exceptionTable.toList = [] := by simpa using h7
    rw [this]; rfl
  · obtain ⟨m9, meth, c, hn9, h1, h2, h3, h4, h5, h6, h7, h8⟩ := Cond.codeWith_spec hw
    cases hn.symm.trans hn9
    exact ⟨meth, c, h1, h2, h7, hpl h1, fun V hV => ⟨hx, h3, h4, by rw [hV]; exact findClass_of_methodNamed hn, h6, h7, (name_of_methodNamed hn h1).1, h5⟩⟩
theorem mr_a1_cat {X : mr_X} {v : Value} (h : mj_a1 v = true) : (mr_v X v).category = 1 := by
  cases v <;> first | rfl | exact mr_cat | (simp [mj_a1] at h)
theorem mr_sl {X : mr_X} : ∀ {as : List Value}, as.all mj_a1 = true → lg_sl (as.map (mr_v X)) = (as.map (mr_v X)).map Slot.val
  | [], _ => rfl
  | v :: as, h => by
    rw [List.all_cons, Bool.and_eq_true] at h
    have ih := mr_sl (X := X) (as := as) h.2
    show (if (mr_v X v).category = 2 then [Slot.val (mr_v X v), Slot.second] else [Slot.val (mr_v X v)]) ++ lg_sl (as.map (mr_v X)) = _
    rw [mr_a1_cat h.1, ih]; rfl
theorem mj_nth_app : ∀ {as : List Value} {k i : Nat}, mj_nth (as ++ List.replicate k (.retAddr 0)) i = (as[i]?).getD (.retAddr 0)
  | [], k, i => by
    simp only [List.nil_append, List.getElem?_nil, Option.getD_none]
    induction k generalizing i with
    | zero => unfold mj_nth; rfl
    | succ k ih =>
      cases i with
      | zero => rfl
      | succ i => exact ih i
  | v :: as, k, 0 => rfl
  | v :: as, k, i + 1 => mj_nth_app (as := as) (k := k) (i := i)
theorem mr_ent {X : mr_X} {z : Nat} {as : List Value} (hlen : as.length ≤ mj_ml z) (ha : as.all mj_a1 = true) : mr_L X ((lg_sl (as.map (mr_v X)) ++ List.replicate (mj_ml z - (lg_sl (as.map (mr_v X))).length) Slot.unset).toArray) (mj_ent z as) (mj_ml z) := by
  have hl : (lg_sl (as.map (mr_v X))).length = as.length := by rw [mr_sl ha]; simp
  have hh := lv_entry (as.map (mr_v X)) (n := mj_ml z) (by omega)
  refine ⟨hh.1, hh.2.1, by simp [mj_ent]; omega, fun i => ?_⟩
  unfold mj_ent
  rw [mj_nth_app]
  have at' : ∀ v, as[i]? = some v → ((lg_sl (as.map (mr_v X)) ++ List.replicate (mj_ml z - (lg_sl (as.map (mr_v X))).length) Slot.unset).toArray)[i]? = some (.val (mr_v X v)) := by
    intro v hv
    have hi : i < as.length := (List.getElem?_eq_some_iff.mp hv).1
    rw [List.getElem?_toArray, List.getElem?_append_left (by omega), mr_sl ha, List.getElem?_map, List.getElem?_map, hv]
    rfl
  have h1 : ∀ v, as[i]? = some v → mj_a1 v = true := fun v hv => List.all_eq_true.mp ha v (List.mem_of_getElem? hv)
  cases hv : as[i]? with
  | none =>
    rw [Option.getD_none]
    exact ⟨fun x q => (by cases q), fun a q => (by cases q), fun x q => (by cases q), fun x q => (by cases q)⟩
  | some v =>
    rw [Option.getD_some]
    refine ⟨fun x q => by rw [at' v hv, q]; rfl, fun a q => by rw [at' v hv, q], fun x q => ?_, fun x q => ?_⟩
    · have := h1 v hv; rw [q] at this; cases this
    · have := h1 v hv; rw [q] at this; cases this
theorem mr_size_ge {X : mr_X} {xs : Nat → Int32} {L : Nat} {h : mj_H} {H : Heap} (q : mr_H X xs L h H) (hB : mr_B X ≤ H.size) : mr_B X + mj_Z h ≤ H.size + 20 := by
  rcases Nat.lt_or_ge 20 (mj_Z h) with hz | hz
  · have := (q.2.2.2.2.2 _ _ (mr_ws_at (X := X) (h := h) (a := mj_Z h - 1) (by omega) (by omega))).lt
    simp only at this
    omega
  · omega
theorem mj_sp_ok : ∀ {n : Nat} {acc st as r : List Value}, mj_sp n acc st = some (as, r) → ∃ pre, st = pre ++ r ∧ pre.length = n ∧ as = pre.reverse ++ acc
  | 0, acc, st, as, r, h => by cases h; exact ⟨[], rfl, rfl, rfl⟩
  | n + 1, acc, [], as, r, h => by cases h
  | n + 1, acc, v :: st, as, r, h => by
    have h : mj_sp n (v :: acc) st = some (as, r) := h
    obtain ⟨pre, h1, h2, h3⟩ := mj_sp_ok h
    exact ⟨v :: pre, by rw [h1]; rfl, by simp [h2], by rw [h3]; simp⟩
theorem mr_hcov {y pc : Nat} {c : Code} (hy : y < 169) (ht : c.exceptionTable.toList.map (fun x => (x.startPc, x.endPc, x.handlerPc, x.catchType)) = mj_hi y) (h : mj_cov pc (mj_hd y) = false) : ∀ x ∈ c.exceptionTable.toList, covers x pc = false := by
  intro x hx
  have h1 : (x.startPc, x.endPc, x.handlerPc, x.catchType) ∈ mj_hi y := by rw [← ht]; exact List.mem_map.mpr ⟨x, hx, rfl⟩
  obtain ⟨i, hi⟩ := List.getElem?_of_mem h1
  have hlt : i < (mj_hd y).length := by rw [mj_hlen y hy]; exact (List.getElem?_eq_some_iff.mp hi).1
  have hz : ((mj_hd y).zip (mj_hi y))[i]? = some ((mj_hd y)[i], (x.startPc, x.endPc, x.handlerPc, x.catchType)) := by
    rw [List.getElem?_zip_eq_some]
    exact ⟨List.getElem?_eq_getElem hlt, hi⟩
  have hq := List.all_eq_true.mp (mj_hlk y hy) _ (List.mem_of_getElem? hz)
  simp only [Bool.and_eq_true, decide_eq_true_eq] at hq
  obtain ⟨-, -, ⟨e1, e2, -⟩, -⟩ := hq
  have hn := List.any_eq_false.mp h _ (List.getElem_mem hlt)
  simp only [decide_eq_true_eq] at hn
  simp only [covers]
  rw [← e1, ← e2]
  simp only [Bool.and_eq_false_iff, decide_eq_false_iff_not]
  omega
section
variable {X : mr_X} {xs : Nat → Int32} {L : Nat} {p : Program} {l : Launch} {e : Env} {R : Room} {s : State} {m : MethodId} {args : Array Value} {below : List Frame} {meth : Method} {c : Code} {H : Heap} {locs : List Loc} {cells slots y pc : Nat} {ls : Array Slot} {lc : List Value} {h : mj_H} {P Q : mj_P}
theorem mr_call {d z n len : Nat} {as r : List Value} {ig : Instr} {g0 : JFrame} (C : mr_C X xs L p R s m meth c (d + 1) y) (hy : y < 169) (hS : mr_S X xs L R s y lc h H locs cells slots ls) (hd : decode (mj_by y) pc = .ok (ig, len)) (hn : n = pc + len) (hz : z < 168) (has : as.all mj_a1 = true) (hlen : as.length = mj_na z) (hr : Nat.ble r.length 8 = true)
    (hcall : ∀ T : State, T.heap = H → Stand p l e R s m args below meth c T locs cells slots → ∃ (vm₁ : Vm) (mk : MethodId), Stand p l e R s m args below meth c (T.setVm vm₁) locs cells slots ∧ (T.setVm vm₁).methodNamed? (mj_mn z) = some mk ∧
      ∀ target, Steps p.tables e below (doInvoke e ((T.setVm vm₁).setTop (F0 m pc ls (r.map (mr_v X)))) [] mk (as.map (mr_v X)).toArray).1 target → Steps p.tables e below (T.setTop g0) target)
    (k1 : mr_Z X xs L p l e d z 0 (mj_ent z as) [] h Q) (k2 : ∀ v h', Q (.inl v) h' → mr_Z X xs L p l e (d + 1) y n lc (v.toList ++ r) h' P)
    (k3 : ∀ a h', Q (.inr a) h' → (∃ hp, mj_hf pc (mj_T h' a) (mj_hd y) = some (some hp) ∧ mr_Z X xs L p l e (d + 1) y hp lc [.ref a] h' P) ∨ (mj_hf pc (mj_T h' a) (mj_hd y) = some none ∧ P (.inr a) h')) :
    W p l e R s m args below meth c H locs cells slots (mr_Q X xs L R s below P) g0 := by
  intro T hT X0
  obtain ⟨vm₁, mk, X₁, hnm, st⟩ := hcall T hT X0
  obtain ⟨⟨hx, hb, hml, hown, hret, hlocks, hname, hexc⟩, G, hfr, hlo⟩ := id C
  obtain ⟨sU, sc, ss, sH, sS, sE, sL⟩ := id hS
  obtain ⟨methk, ck, hmk, hck, hlk, hpk, F⟩ := mr_callee hx G X₁.warmed hz hnm
  have hsum := mr_sum8 (X := X) hr
  have hna := mj_naml z (by omega)
  have hckl : ck.maxLocals = mj_ml z := (F _ rfl).2.2.1
  have hdg : decode c.code pc = .ok (ig, len) := by rw [hb]; exact hd
  have hHs : H.size ≤ s.heap.size + cells := by rw [← hT]; exact X0.heapSize
  have hHB : mr_B X ≤ H.size := Nat.le_trans G.2.2.2 sS.1
  have hHex : H.size + 20 = mr_B X + mj_Z h := by have := mr_size_ge sH hHB; omega
  obtain ⟨Y₀, hin⟩ := X₁.into (g := F0 m pc ls (r.map (mr_v X))) rfl (by show ls.size = c.maxLocals; rw [hml]; exact sL.1) hdg (as.map (mr_v X)).toArray (R' := { frames := R.frames - 1, cells := mj_M - mj_U h, slots := mj_M - mj_U h, locals := R.locals - 64 }) hmk hck hlk hpk (by show R.frames - 1 + 1 ≤ _; omega) (by show 2 * 0 + ((r.map (mr_v X)).map (fun v => v.category)).sum + (ck.maxLocals + 11) + (R.locals - 64) ≤ R.locals; rw [hckl]; omega) sc ss
  have hcall' : ((T.setVm vm₁).calling (F0 m pc ls (r.map (mr_v X))) mk (as.map (mr_v X)).toArray).heap = H := hT
  have hheap : (((T.setVm vm₁).setTop (F0 m pc ls (r.map (mr_v X)))).pushFrame (.java (entryFrame mk (as.map (mr_v X)).toArray ck.maxLocals))).heap = H := hT
  have W1 := k1 { frames := R.frames - 1, cells := mj_M - mj_U h, slots := mj_M - mj_U h, locals := R.locals - 64 } ((T.setVm vm₁).calling (F0 m pc ls (r.map (mr_v X))) mk (as.map (mr_v X)).toArray) mk (as.map (mr_v X)).toArray (.java (F0 m pc ls (r.map (mr_v X))) :: below) methk ck H [] 0 0 _
    ⟨F _ rfl, G.moved X₁.warmed (by rw [hcall']; exact sS.1) (fun q h1 h2 => by rw [hcall']; exact sS.2.1 q h1 h2), by show d + 8 ≤ R.frames - 1; omega, by show 64 * d + 400 ≤ R.locals - 64; omega⟩
    ⟨sU, by show 0 + _ ≤ mj_M - mj_U h; omega, by show 0 + _ ≤ mj_M - mj_U h; omega, sH, by rw [hcall']; exact va_S.rf, by rw [hcall']; omega, mr_ent (by omega) has⟩
  obtain ⟨t, st1, o, h', Lc, kc, nc, hrun, hend, hWt, hsame, hLc, hU', hc', hs', hex1, hex2, hH', hsz', hold', hthr, hP⟩ := W1 _ hheap Y₀
  rw [hcall'] at hex1 hsz' hold'
  have hcc : kc + (mj_M - mj_U h') ≤ mj_M - mj_U h := hc'
  have hss : nc + (mj_M - mj_U h') ≤ mj_M - mj_U h := hs'
  have hstep : Steps p.tables e below (doInvoke e ((T.setVm vm₁).setTop (F0 m pc ls (r.map (mr_v X)))) [] mk (as.map (mr_v X)).toArray).1 t := by
    rw [hin [], lg_entry_eq, hckl]
    rw [hckl, lg_entry_eq] at st1
    exact mt_weaken (mid := [.java (F0 m pc ls (r.map (mr_v X)))]) st1
  have newS : ∀ (T' : State), T'.heap = t.heap → mr_S X xs L R s y lc h' T'.heap (locs ++ Lc) (cells + kc) (slots + nc) ls := by
    intro T' hT'
    rw [hT']
    refine ⟨hU', by omega, by omega, hH', ⟨Nat.le_trans sS.1 hsz', fun q h1 h2 => ?_, fun q hq => ?_⟩, by omega, sL⟩
    · rw [hold' q (Nat.lt_of_lt_of_le h1 sS.1) h2]; exact sS.2.1 q h1 h2
    · rcases List.mem_append.mp hq with hq | hq
      · exact sS.2.2 q hq
      · exact hLc q hq
  cases o with
  | inl v =>
    obtain ⟨T', X', hW', hB', ht⟩ := X₁.outOf (g := F0 m pc ls (r.map (mr_v X))) rfl hdg hend hWt hsame
    have hth : T'.heap = t.heap := by rw [ht]; rfl
    obtain ⟨t2, s2, q2⟩ := k2 v h' hP R s m args below meth c T'.heap (locs ++ Lc) (cells + kc) (slots + nc) ls C (newS T' hth) T' rfl X'
    refine ⟨t2, st _ (hstep.trans ?_), q2⟩
    rw [ht]
    subst hn
    have hst : (v.toList ++ r).map (mr_v X) = (v.map (mr_v X)).toList ++ r.map (mr_v X) := by cases v <;> rfl
    rw [hst] at s2
    exact s2
  | inr a =>
    obtain ⟨ha20, hT8, hT10⟩ := hthr a rfl
    obtain ⟨T', X', hW', hB', ht⟩ := X₁.outOfThrown (g := F0 m pc ls (r.map (mr_v X))) rfl hend hWt hsame
    have hth : T'.heap = t.heap := by rw [ht]; rfl
    have hS' := newS T' hth
    rcases k3 a h' hP with ⟨hp, hhf, kk⟩ | ⟨hhf, hPx⟩
    · have hcov : mj_cov pc (mj_hd y) = true := by
        cases hcv : mj_cov pc (mj_hd y) with
        | true => rfl
        | false => unfold mj_hf at hhf; rw [hcv] at hhf; cases hhf
      unfold mj_hf at hhf
      rw [hcov] at hhf
      have hhg : mj_hg pc (mj_T h' a) (mj_hd y) = some (some hp) := hhf
      have he := mr_at_obj (t := mj_T h' a) hH' ha20 rfl (by omega)
      obtain ⟨_, r1, cell, g1, g2, g3, -⟩ := hH'.2.2.2.2.2 _ _ he
      have g1 : T'.heap[mr_B X + (a - 20)]? = some cell := by rw [hth]; exact g1
      have hpl : e.platform.magicAccessors = ({} : Platform).magicAccessors := by rw [X'.admits.platform]
      obtain ⟨v', hw', hq⟩ := mt_go (y := y) (S0 := (T'.setTop (F0 m pc ls (r.map (mr_v X)))).pushFrame (.throwing (mr_B X + (a - 20)))) hpl hown G (g := F0 m pc ls (r.map (mr_v X))) rfl (x := mr_B X + (a - 20)) g1 g3 (t := mj_T h' a) (hp := hp) ⟨hT8, hT10⟩ g2 c.exceptionTable.toList (mj_hd y)
        (by rw [mj_hlen y hy, ← hexc, List.length_map]) (by rw [hexc]; exact mj_hlk y hy) hhg T'.vm X'.warmed
      have hfinds : mt_Finds e ((T'.setTop (F0 m pc ls (r.map (mr_v X)))).pushFrame (.throwing (mr_B X + (a - 20)))) (F0 m pc ls (r.map (mr_v X))) (mr_B X + (a - 20)) hp v' := by
        intro Qh E dd acts
        rw [W.findHandler_eq (meth := meth) (code := c) X'.method' X'.code]
        exact hq Qh E dd acts
      have X'' := X'.noted hw'
      obtain ⟨t2, s2, q2⟩ := kk R s m args below meth c T'.heap (locs ++ Lc) (cells + kc) (slots + nc) ls C hS' (T'.setVm v') rfl X''
      refine ⟨t2, st _ (hstep.trans ?_), q2⟩
      rw [ht]
      refine mt_caught X'.here hfinds ?_
      rw [List.map_cons, mr_v_new ha20] at s2
      exact s2
    · have hcov : mj_cov pc (mj_hd y) = false := by
        cases hcv : mj_cov pc (mj_hd y) with
        | false => rfl
        | true =>
          exfalso
          unfold mj_hf at hhf
          rw [hcv] at hhf
          have hhf : mj_hg pc (mj_T h' a) (mj_hd y) = some none := hhf
          revert hhf
          generalize mj_hd y = l
          induction l with
          | nil => intro q; cases q
          | cons q l ih =>
            obtain ⟨a1, b1, c1, u1⟩ := q
            intro w
            unfold mj_hg at w
            split at w
            · split at w
              · cases w
              · split at w
                · exact ih w
                · cases w
            · exact ih w
      obtain ⟨l1, l2, l3, l4, l5⟩ := X'.leaveThrown (mr_B X + (a - 20)) (g := F0 m pc ls (r.map (mr_v X))) rfl rfl rfl (mr_hcov hy hexc hcov) hlocks
      refine ⟨_, st _ (hstep.trans (by rw [ht]; exact l1)), .inr a, h', locs ++ Lc, cells + kc, slots + nc, l2, l3, l4, l5, ?_, hU', by omega, by omega, by omega, ?_, ?_, ?_, ?_, fun b hb => by cases hb; exact ⟨ha20, hT8, hT10⟩, hPx⟩
      · intro q hq
        exact hS'.2.2.2.2.1.2.2 q hq
      · show T'.heap.size + 20 = _; rw [hth]; exact hex2
      · show mr_H X xs L h' T'.heap; rw [hth]; exact hH'
      · exact hS'.2.2.2.2.1.1
      · exact hS'.2.2.2.2.1.2.1
end
end
section
/-! clone and getClass -/
theorem mr_nmB {X : mr_X} {s : State} (hK : va_K (mr_D X) mj_cls (mr_tys X) s) : s.vm.findClass "[B" = some (mr_dA X 17) := (hK.2 1 _ rfl).2
theorem mr_nmK {X : mr_X} {s : State} (hK : va_K (mr_D X) mj_cls (mr_tys X) s) : s.vm.findClass "[LDotBook$Kind;" = some (mr_dA X 20) := va_nmO (hK.2 4 _ rfl).2 rfl
theorem mr_nmO {X : mr_X} {s : State} (hK : va_K (mr_D X) mj_cls (mr_tys X) s) : s.vm.findClass "[Ljava/lang/Object;" = some (mr_dA X 23) := va_nmO (hK.2 7 _ rfl).2 rfl
theorem mr_invokevirtual (z : Nat) : mr_T (.invokevirtual z) := by
  intro X xs L p l e R s m args below meth c d y Q pc H locs cells slots ls lc st h n j k S pc' lc' st' h' C hi hS hv hA kk
  obtain ⟨hn, hd⟩ := mj_dd hi rfl
  subst hn
  have hl := mj_lok_ok hi
  have h4 := mj_c4_ok hi
  have qH := hS.2.2.2.1
  have hK := C.2.1.2.1
  by_cases hz : z = 901
  · subst hz
    simp only [mj_lok, if_pos, Bool.and_eq_true] at hl
    obtain ⟨l1, l2, l3, l4, l5, l6⟩ := hl
    simp only [mj_c4, beq_self_eq_true, Bool.not_true, Bool.false_or] at h4
    simp only [mj_do, mj_n1, if_pos] at hv
    split at hv
    · next a r =>
      cases hb : Nat.ble r.length 8 with
      | false => rw [hb] at hv; cases hv
      | true =>
        rw [hb] at hv
        cases hv
        obtain ⟨ha, hu⟩ := hA
        have hsum := mr_sum8 (X := X) hb
        obtain ⟨rc, rs⟩ := mr_room hu hS.2.1 hS.2.2.1
        have hfr : 1 ≤ R.frames := by have := C.2.2.1; omega
        have hlo : ((r.map (mr_v X)).map fun v => v.category).sum + 14 ≤ R.locals := by have := C.2.2.2; omega
        by_cases hk : k = 7
        · rw [if_pos hk] at ha h4
          subst ha
          have ho : (mj_mn y).cls = "DotBook$Kind" := by simpa using h4
          rw [if_pos ho] at l1 l2 l5 l6
          obtain ⟨r1, r2, -, r4⟩ := qH.2.2.2.1 7 (by omega)
          have hN : mj_N h 7 = 4 := r2
          have hT7 : mj_T h 7 = 20 := r1
          obtain ⟨cell, c1, c2, c3, c4⟩ := C.2.1.2.2.1.2.2.2.2.2.1
          obtain ⟨cell', d1, d2, d3, d4, d5, d6, d7⟩ := C.2.1.2.2.1.2.2.2.2.1
          cases c1.symm.trans d1
          have hcellE : ({ cls := cell.cls, slots := cell.slots } : Cell) = vp_cell (mr_dA X 20) (mj_N h 7, .inr (.inr (.inr (.inr (fun i => mr_o X (mj_R h 7 i)))))) := by
            rw [hN]
            have es : cell.slots = (vp_cell (mr_dA X 20) (4, .inr (.inr (.inr (.inr (fun i => mr_o X (mj_R h 7 i))))))).slots := by
              apply Array.ext_getElem?
              intro i
              by_cases hi4 : i < 4
              · rw [d6 i hi4]
                show _ = (arrV (mr_dA X 20) 4 (fun i => va_rf (mr_o X (mj_R h 7 i)))).slots[i]?
                rw [arrV_read _ _ hi4, r4 i]
                show _ = some (va_rf (mr_o X (8 + i)))
                rw [mr_o_con (by omega) (by omega) (by omega)]; rfl
              · rw [Array.getElem?_eq_none (by omega)]
                show _ = (arrV (mr_dA X 20) 4 (fun i => va_rf (mr_o X (mj_R h 7 i)))).slots[i]?
                rw [Array.getElem?_eq_none (by rw [arrV_size]; omega)]
            rw [es, c2]; rfl
          have hfit : ∀ (i : Nat) (v : Value), cell.slots[i]? = some v → fits (.object "DotBook$Kind") v = true := by
            intro i v hv
            have hi4 : i < 4 := by rw [← c3]; exact (Array.getElem?_eq_some_iff.mp hv).1
            rw [d6 i hi4] at hv
            cases hv
            rfl
          obtain ⟨c0, t0', f1, f2, f3⟩ := Cond.castable_spec (mr_w (args := args) C l6)
          have hnm := mr_nmK hK
          cases hnm.symm.trans f1
          show W p l e R s m args below meth c H locs cells slots Q (F0 m pc ls (mr_v X (.ref 7) :: r.map (mr_v X)))
          rw [mr_v_con (by omega) (by omega) (by omega)]
          intro T hT XX
          have hB7 : ¬ mr_B X ≤ mr_ad X 7 := by omega
          have hcellT : T.heap[mr_ad X 7]? = some cell := by
            rw [hT, hS.2.2.2.2.1.2.1 _ (by have := C.2.1.2.2.2; omega) hB7]; exact c1
          obtain ⟨-, kA, hkA, comp, hkind⟩ := State.isArrayOf_alike XX.warmed.alike ((hK.2 4 _ rfl).1 0 (fun _ => .null))
          obtain ⟨-, kS, hkS, compS, hkindS⟩ := (hK.2 4 _ rfl).1 0 (fun _ => .null)
          have hHH : H.size = mr_B X + (mj_Z h - 20) := by
            have h1 := XX.heapSize
            rw [hT] at h1
            have h2 := mr_size_ge qH (Nat.le_trans C.2.1.2.2.2 hS.2.2.2.2.1.1)
            have h3 := hS.2.2.2.2.2.1
            have h4 := qH.1
            omega
          obtain ⟨vm', X', st⟩ := XX.cloneArray C.1.1 C.1.2.2.2.1 (mr_w C (by rw [ho] at l1 ⊢; exact l1)) (mr_w C l2) (mr_w C l3) (mr_w C l4) (mr_w C l5) (a := mr_ad X 7) (cell := cell) hcellT d2.1 d3 (by rw [c2]; exact hnm) f2 (by rw [c2]; exact f3)
            (fun i v hv => by
              rw [c2]
              have hk' : T.vm.classes[mr_dA X 20]? = some kA := hkA
              simpa [State.fitsSlot, State.slotType?, hk', hkind] using hfit i v hv)
            (g := F0 m pc ls (.ref (mr_ad X 7) :: r.map (mr_v X))) rfl (by rw [mr_ml C hS]) rfl (by rw [C.1.2.1]; exact hd) hfr (by show 2 * 0 + _ + 14 ≤ _; omega) rc (by rw [c3, ← hN]; exact rs) (hloader := by rw [c2]; exact Vm.clonesLoader_of_array hkS hkindS)
          rw [hcellE, c3, ← hN] at X'
          rw [hcellE] at st
          generalize hH1 : H.push (vp_cell (mr_dA X 20) (mj_N h 7, .inr (.inr (.inr (.inr (fun i => mr_o X (mj_R h 7 i))))))) = H1
          have z1 : H1.size = H.size + 1 := by rw [← hH1, Array.size_push]
          have e1 : H1[H.size]? = some (vp_cell (mr_dA X 20) (mj_N h 7, .inr (.inr (.inr (.inr (fun i => mr_o X (mj_R h 7 i))))))) := by rw [← hH1, Array.getElem?_push_size]
          have o1 : ∀ q : Nat, q < H.size → H1[q]? = H[q]? := fun q hq => by rw [← hH1, Array.getElem?_push, if_neg (Nat.ne_of_lt hq)]
          have hP2 : va_P (mr_D X) mj_cls (mr_ws X (mj_cl h 7)) H1 := by
            rw [← mr_ws_push (X := X) (h := h) qH.1 rfl (fun b hb => mr_en_cl hb), mr_en_ref (mj_cl_T.trans hT7) (by omega), mj_cl_N, mj_cl_R, ← hHH]
            refine (qH.2.2.2.2.2.kept (fun k y hy => o1 y.1 ((qH.2.2.2.2.2 k y hy).lt))).app (fun k y hy => ?_)
            have hz : k < 1 := (List.getElem?_eq_some_iff.mp hy).1
            rw [show k = 0 by omega] at hy
            cases hy
            exact e1
          have hS1 : va_S (fun q => mr_B X ≤ q) s.heap H1 locs := ⟨Nat.le_trans hS.2.2.2.2.1.1 (by omega), fun y h1 h2 => (o1 y (Nat.lt_of_lt_of_le h1 hS.2.2.2.2.1.1)).trans (hS.2.2.2.2.1.2.1 y h1 h2), hS.2.2.2.2.1.2.2⟩
          have k2 := kk _ _ _ _ _ (mr_S_cl hS hu (mr_H_cl qH (by omega) (fun z => by omega) hP2) hS1)
          rw [List.map_cons, mr_v_new qH.1, ← hHH] at k2
          obtain ⟨t, b1, b2⟩ := k2 ((T.setVm vm').pushCell (vp_cell (mr_dA X 20) (mj_N h 7, .inr (.inr (.inr (.inr (fun i => mr_o X (mj_R h 7 i)))))))) (by rw [← hH1, ← hT]; rfl) X'
          refine ⟨t, st t ?_, b2⟩
          rw [hT]
          exact b1
        · rw [if_neg hk] at ha h4
          obtain ⟨hT, ha⟩ := ha
          have ho : (mj_mn y).cls ≠ "DotBook$Kind" := by simpa using h4
          rw [if_neg ho] at l1 l2 l5 l6
          show W p l e R s m args below meth c H locs cells slots Q (F0 m pc ls (mr_v X (.ref a) :: r.map (mr_v X)))
          rw [mr_v_new ha]
          have hes := qH.at ha (by omega)
          rw [mr_en_int hT (Or.inr (Or.inl rfl))] at hes
          refine va_clone C.1.1 C.1.2.1 (mr_ml C hS) C.1.2.2.2.1 (mr_w C l1) (mr_w C l2) (mr_w C l3) (mr_w C l4) (mr_w C l5) (mr_wN C l6) hK qH.2.2.2.2.2 mr_ws_D hS.2.2.2.2.1 (fun q hq => Nat.le_trans C.2.1.2.2.2 hq) (a - 20) 1 hes rfl (mr_nmB hK) (fun i v hv => ?_) hfr hlo rc rs hd (fun q H1 hK1 hP1 hD1 hS1 => ?_)
          · have hi4 : i < mj_N h a := by
              have := (Array.getElem?_eq_some_iff.mp hv).1
              have e : (vp_cell (mr_dA X 17) (mj_N h a, .inl (mj_I h a))).slots.size = mj_N h a := arrV_size _ _ _
              omega
            have hv : (arrV (mr_dA X 17) (mj_N h a) (fun i => .int (mj_I h a i))).slots[i]? = some v := hv
            rw [arrV_read _ _ hi4] at hv
            cases hv
            exact mr_fitsb (qH.2.2.2.2.1 a i ha hT)
          · refine mr_Wz (fun hzz => ?_)
            have eq := mr_qx hS.2.2.2.2.2.1 qH.1 hzz hP1 hD1
            subst eq
            have hP2 : va_P (mr_D X) mj_cls (mr_ws X (mj_cl h a)) H1 := by
              rw [← mr_ws_push (X := X) (h := h) qH.1 rfl (fun b hb => mr_en_cl hb), mr_en_int (mj_cl_T.trans hT) (Or.inr (Or.inl rfl)), mj_cl_N, mj_cl_I]; exact hP1
            have := kk _ _ _ _ _ (mr_S_cl hS hu (mr_H_cl qH (by omega) (fun _ => ha) hP2) hS1)
            rw [List.map_cons, mr_v_new qH.1] at this
            exact this
    · cases hv
  · by_cases hz2 : z = 902
    · subst hz2
      simp only [mj_lok, if_neg hz, if_pos, Bool.and_eq_true] at hl
      obtain ⟨l1, l2, l3, l4, l5⟩ := hl
      simp only [mj_do, mj_n1, if_neg hz, if_pos] at hv
      split at hv
      · next a r =>
        cases hb : Nat.ble r.length 8 with
        | false => rw [hb] at hv; cases hv
        | true =>
          rw [hb] at hv
          cases hv
          obtain ⟨hT, ha⟩ := hA
          have hsum := mr_sum8 (X := X) hb
          show W p l e R s m args below meth c H locs cells slots Q (F0 m pc ls (mr_v X (.ref a) :: r.map (mr_v X)))
          rw [mr_v_new ha]
          have hes := qH.at ha (by omega)
          rw [mr_en_ref hT (by omega)] at hes
          have k2 := kk _ _ _ _ _ hS
          rw [List.map_cons, mr_v_con (by omega) (by omega) (by omega)] at k2
          refine va_getC C.1.1 C.1.2.1 (mr_ml C hS) C.1.2.2.2.1 (mr_w C l1) (mr_w C l2) (mr_w C l3) (mr_w C l4) (mr_w C l5) C.2.1.2.2.1.2.2.2.2.2.2.2.2.2.2.1 ⟨_, qH.2.2.2.2.2 _ _ hes, rfl, mr_nmO hK⟩ (by have := C.2.2.1; omega) (by have := C.2.2.2; omega) hd k2
      · cases hv
    · simp only [mj_do, mj_n1, if_neg hz, if_neg hz2] at hv
      cases hv
end
section
/-! calls are resolved -/
def mj_asb (z : Nat) : MethodName := ⟨"java/lang/AbstractStringBuilder", (mj_mn z).name, (mj_mn z).desc⟩
def mj_c5 (y : Nat) (i : Instr) (j : Nat) (ps : List Nat) : Bool := match i with
  | .invokestatic z => !(z == 168)
  | .invokespecial z => Nat.ble 900 z || (!(z == 168) && (!((mj_mn z).name == "<init>") || ((mj_hi z == []) && decide (mj_rg z < 12))))
  | .invokevirtual z => Nat.ble 900 z || (!(z == 168) && (!(mj_w (ps.getD 0 0) (.methodLink (mj_mn y).cls j (mj_asb z))) || (decide (mj_mn z = mj_asb z) || decide (mj_mn (z - 1) = mj_asb z))))
  | .ireturn => match mj_rt y with
    | some .int => true
    | some .boolean => true
    | some .char => true
    | some .byte => true
    | _ => false
  | .areturn => match mj_rt y with
    | some (.object _) => true
    | some (.array _) => true
    | _ => false
  | .return_ => match mj_rt y with
    | none => true
    | _ => false
  | _ => true
def mj_ck5 (y : Nat) : Bool := (List.range (mj_sz y)).all fun pc => match mj_ins y pc with
  | none => true
  | some (i, _, j, _) => mj_c5 y i j (mj_pq pc (mj_pl y))
set_option maxRecDepth 100000 in
theorem mj_ck5_0 : (List.range 47).all mj_ck5 = true := by decide +kernel
set_option maxRecDepth 100000 in
theorem mj_ck5_1 : ((List.range 43).map (· + 47)).all mj_ck5 = true := by decide +kernel
set_option maxRecDepth 100000 in
theorem mj_ck5_2 : ((List.range 31).map (· + 90)).all mj_ck5 = true := by decide +kernel
set_option maxRecDepth 100000 in
theorem mj_ck5_3 : ((List.range 27).map (· + 121)).all mj_ck5 = true := by decide +kernel
set_option maxRecDepth 100000 in
theorem mj_ck5_4 : ((List.range 21).map (· + 148)).all mj_ck5 = true := by decide +kernel
theorem mj_c5_ok {y pc : Nat} {i : Instr} {n j k : Nat} (h : mj_ins y pc = some (i, n, j, k)) : mj_c5 y i j (mj_pq pc (mj_pl y)) = true := by
  obtain ⟨h1, h2⟩ := mj_ins_in h
  have q := List.all_eq_true.mp (mj_part mj_ck5_0 mj_ck5_1 mj_ck5_2 mj_ck5_3 mj_ck5_4 h1) pc (List.mem_range.mpr h2)
  rw [h] at q
  exact q
theorem mr_sig {X : mr_X} {xs : Nat → Int32} {L : Nat} {s : State} {z : Nat} {mk : MethodId} {methk : Method} (g : mr_G X xs L s) (hz : z < 168) (hn : s.methodNamed? (mj_mn z) = some mk) (hm : s.vm.method? mk = some methk) : parseMethodDescriptor (mj_mn z).desc = some methk.sig := by
  have hw : (mj_cw z).before #[] s = true := mj_mv_use (mj_cw_mv z) (g.1 _ (mj_cw_in hz) (mj_cw_mv z))
  unfold mj_cw at hw
  split at hw
  · obtain ⟨meth, c, h1, h2, h3, h4, h5, h6, h7, h8⟩ := Cond.code_spec hn hw
    cases hm.symm.trans h1
    exact h8
  · obtain ⟨m9, meth, c, hn9, h1, h2, h3, h4, h5, h6, h7, h8⟩ := Cond.codeWith_spec hw
    cases hn.symm.trans hn9
    cases hm.symm.trans h1
    exact h8
theorem mr_named {X : mr_X} {xs : Nat → Int32} {L : Nat} {s : State} {z : Nat} (g : mr_G X xs L s) (hz : z < 168) : ∃ (mk : MethodId) (methk : Method), s.methodNamed? (mj_mn z) = some mk ∧ s.vm.method? mk = some methk := by
  have hw : (mj_cw z).before #[] s = true := mj_mv_use (mj_cw_mv z) (g.1 _ (mj_cw_in hz) (mj_cw_mv z))
  unfold mj_cw at hw
  split at hw
  · cases hn : s.methodNamed? (mj_mn z) with
    | none => simp [Cond.before, Cond.holds, Cond.value, hn] at hw
    | some mk =>
      obtain ⟨meth, c, h1, -⟩ := Cond.code_spec hn hw
      exact ⟨mk, meth, rfl, h1⟩
  · obtain ⟨m9, meth, c, hn9, h1, -⟩ := Cond.codeWith_spec hw
    exact ⟨m9, meth, hn9, h1⟩
theorem mj_npar_ok {z n : Nat} (h : mj_npar z n = true) {sig : MethodDescriptor} (hs : parseMethodDescriptor (mj_mn z).desc = some sig) : sig.parameters.length = n := by
  unfold mj_npar at h
  rw [hs] at h
  simpa using h
theorem mj_notMH_ok {c : String} (h : mj_notMH c = true) : c ≠ "java/lang/invoke/MethodHandle" ∧ c ≠ "java/lang/invoke/VarHandle" := by
  simp only [mj_notMH, Bool.and_eq_true, Bool.not_eq_true', beq_eq_false_iff_ne] at h
  exact h
theorem mc_T_12 : ∀ a, a < 20 → mc_T a < 12 → (mc_T a = 2 ∨ mc_T a = 11) ∧ a ≠ 0 ∧ a ≠ 15 := by decide
section
variable {X : mr_X} {xs : Nat → Int32} {L : Nat} {p : Program} {l : Launch} {e : Env} {R : Room} {s : State} {m : MethodId} {args : Array Value} {below : List Frame} {meth : Method} {c : Code} {H : Heap} {locs : List Loc} {cells slots d y pc : Nat} {ls : Array Slot} {lc : List Value} {h : mj_H}
theorem mr_recv (G : mr_G X xs L s) (hS : mr_S X xs L R s y lc h H locs cells slots ls) {a t : Nat} (hT : mj_T h a = t) (ht : t < 12) : ∃ (b : Nat) (cell : Cell), mr_v X (.ref a) = .ref b ∧ H[b]? = some cell ∧ cell.vm.isStatics = false ∧ s.vm.findClass (mj_RN t) = some cell.cls := by
  have qH := hS.2.2.2.1
  rcases Nat.lt_or_ge a 20 with ha | ha
  · obtain ⟨r1, -⟩ := qH.2.2.2.1 a ha
    obtain ⟨h12, h0, h15⟩ := mc_T_12 a ha (by rw [← r1, hT]; exact ht)
    have htt : t = mc_T a := by rw [← hT, r1]
    rcases h12 with hc | hc
    · obtain ⟨cell, g1, g2, g3, -⟩ := (G.2.2.1.2.2.1 a ha hc).2.2.kept hS.2.2.2.2.1.2.1
      exact ⟨mr_ad X a, cell, mr_v_con h0 h15 ha, g1, g2, by rw [htt, hc]; exact g3⟩
    · obtain ⟨cell, g1, g2, g3, -⟩ := (G.2.2.1.2.2.2.1 a ha hc).kept hS.2.2.2.2.1.2.1
      exact ⟨mr_ad X a, cell, mr_v_con h0 h15 ha, g1, g2, by rw [htt, hc]; exact g3⟩
  · have h11 : t < 11 := by
      rcases qH.2.2.1 a ha (qH.lt (by omega)) with q | q
      · omega
      · omega
    obtain ⟨cell, g1, g2, g3⟩ := va_recv G.2.1 qH.2.2.2.2.2 (mj_cls_at t h11) (mr_at_obj qH ha hT h11)
    exact ⟨_, cell, mr_v_new ha, g1, g2, by unfold mj_RN; rw [if_neg (by omega)]; exact g3⟩
/-- what a resolved call gives -/
def mr_HC (X : mr_X) (p : Program) (l : Launch) (e : Env) (R : Room) (s : State) (m : MethodId) (args : Array Value) (below : List Frame) (meth : Method) (c : Code) (H : Heap) (locs : List Loc) (cells slots pc : Nat) (ls : Array Slot) (z : Nat) (as r st : List Value) : Prop :=
  ∀ T : State, T.heap = H → Stand p l e R s m args below meth c T locs cells slots → ∃ (vm₁ : Vm) (mk : MethodId), Stand p l e R s m args below meth c (T.setVm vm₁) locs cells slots ∧ (T.setVm vm₁).methodNamed? (mj_mn z) = some mk ∧
      ∀ target, Steps p.tables e below (doInvoke e ((T.setVm vm₁).setTop (F0 m pc ls (r.map (mr_v X)))) [] mk (as.map (mr_v X)).toArray).1 target → Steps p.tables e below (T.setTop (F0 m pc ls (st.map (mr_v X)))) target
theorem mr_res_static {z n j k : Nat} {as r st : List Value} (C : mr_C X xs L p R s m meth c d y) (hi : mj_ins y pc = some (.invokestatic z, n, j, k)) (h900 : ¬ z = 900) (hsp : mj_sp (mj_na z) [] st = some (as, r)) : z < 168 ∧ mr_HC X p l e R s m args below meth c H locs cells slots pc ls z as r st := by
  obtain ⟨hn, hd⟩ := mj_dd hi rfl
  have hl := mj_lok_ok hi
  have h5 := mj_c5_ok hi
  simp only [mj_lok, if_neg h900, Bool.and_eq_true, decide_eq_true_eq] at hl
  simp only [mj_c5, Bool.not_eq_true', beq_eq_false_iff_ne] at h5
  obtain ⟨l0, l1, l2, l3, l4, l5⟩ := hl
  have hz : z < 168 := by unfold mj_NM at l0; omega
  refine ⟨hz, ?_⟩
  obtain ⟨pre, e1, e2, e3⟩ := mj_sp_ok hsp
  rw [List.append_nil] at e3
  intro T hT X0
  obtain ⟨⟨hx, hb, hml, hown, -⟩, G, -⟩ := C
  have hstat : (Cond.static (mj_mn z)).before args s = true := mj_mv_use (mj_w_ok l2).2 (G.1 _ (mj_w_ok l2).1 (mj_w_ok l2).2)
  have hlink : (Cond.methodLink (mj_mn y).cls j (mj_mn z)).before args s = true := mj_mv_use (mj_w_ok l1).2 (G.1 _ (mj_w_ok l1).1 (mj_w_ok l1).2)
  have hini : (Cond.initialized (mj_mn z).cls).before args s = true := mj_mv_use (mj_w_ok l3).2 (G.1 _ (mj_w_ok l3).1 (mj_w_ok l3).2)
  obtain ⟨mk, methk, hnm, hm⟩ := mr_named G hz
  have hst := Cond.static_spec hnm hm hstat
  obtain ⟨kk, hkk, -⟩ := className_of_methodNamed hnm
  have hinit := Cond.initialized_spec (findClass_of_methodNamed hnm) hkk hini
  obtain ⟨vm₁, X₁, st1⟩ := X0.invokestatic hx hown hlink hnm hm hst hkk hinit (mj_notMH_ok l5) (g := F0 m pc ls (st.map (mr_v X))) rfl (argsL := as.map (mr_v X)) (rest := r.map (mr_v X)) (by rw [mj_npar_ok l4 (mr_sig G hz hnm hm), List.length_map, e3, List.length_reverse, e2]) (by show st.map (mr_v X) = _; rw [e1, e3]; simp) (by rw [hb]; exact hd)
  exact ⟨vm₁, mk, X₁, X₁.named hnm, fun target hs => st1 target (fun acts => by rw [doInvoke_state]; exact hs)⟩
theorem mr_wG (G : mr_G X xs L s) {q : Nat} {w : Cond} (h : mj_w q w = true) : w.before args s = true := mj_mv_use (mj_w_ok h).2 (G.1 w (mj_w_ok h).1 (mj_w_ok h).2)
theorem mj_spv {n : Nat} {st as r : List Value} {a : Nat} (h : mj_sp n [] st = some (.ref a :: as, r)) : as.length + 1 = n ∧ st.map (mr_v X) = (as.map (mr_v X)).reverse ++ mr_v X (.ref a) :: r.map (mr_v X) := by
  obtain ⟨pre, e1, e2, e3⟩ := mj_sp_ok h
  rw [List.append_nil] at e3
  have e4 : pre = as.reverse ++ [.ref a] := by
    have := congrArg List.reverse e3
    rw [List.reverse_reverse] at this
    rw [← this]; simp
  subst e4
  refine ⟨by rw [← e2]; simp, ?_⟩
  rw [e1]; simp
theorem mr_res_special {z n j k a : Nat} {as r st : List Value} (C : mr_C X xs L p R s m meth c d y) (hS : mr_S X xs L R s y lc h H locs cells slots ls) (hi : mj_ins y pc = some (.invokespecial z, n, j, k)) (h900 : ¬ 900 ≤ z) (hsp : mj_sp (mj_na z) [] st = some (.ref a :: as, r)) (hT : mj_T h a = mj_rg z) : z < 168 ∧ mr_HC X p l e R s m args below meth c H locs cells slots pc ls z (.ref a :: as) r st := by
  obtain ⟨hn, hd⟩ := mj_dd hi rfl
  have hl := mj_lok_ok hi
  have h5 := mj_c5_ok hi
  have h903 : ¬ z = 903 := by omega
  simp only [mj_lok, if_neg h903, Bool.and_eq_true, decide_eq_true_eq] at hl
  simp only [mj_c5, Bool.or_eq_true, Bool.and_eq_true, Bool.not_eq_true', beq_eq_false_iff_ne, beq_iff_eq, decide_eq_true_eq] at h5
  have h5 := h5.resolve_left (fun q => h900 (Nat.le_of_ble_eq_true q))
  obtain ⟨l0, l1, l2, l3, l4⟩ := hl
  have hz : z < 168 := by unfold mj_NM at l0; omega
  refine ⟨hz, ?_⟩
  obtain ⟨e1, e2⟩ := mj_spv (X := X) hsp
  intro T hT0 X0
  obtain ⟨⟨hx, hb, hml, hown, -⟩, G, -⟩ := id C
  obtain ⟨mk, methk, hnm, hm⟩ := mr_named G hz
  have hsg := mr_sig G hz hnm hm
  have hlen : ∀ sig, parseMethodDescriptor (mj_mn z).desc = some sig → (as.map (mr_v X)).length = sig.parameters.length := by
    intro sig hs
    rw [mj_npar_ok l1 hs, List.length_map]
    omega
  by_cases hin : (mj_mn z).name = "<init>"
  · rw [if_pos hin] at l4
    simp only [Bool.and_eq_true, Bool.or_eq_true, beq_iff_eq] at l4
    obtain ⟨q1, q2, q3⟩ := l4
    obtain ⟨hhi, h12⟩ : mj_hi z = [] ∧ mj_rg z < 12 := by
      rcases h5.2 with q | q
      · exact absurd hin q
      · exact q
    have hcode : (Cond.code (mj_mn z) (mj_by z) (mj_ml z) none).before args s = true := by
      have hw : (mj_cw z).before args s = true := mj_mv_use (mj_cw_mv z) (G.1 _ (mj_cw_in hz) (mj_cw_mv z))
      unfold mj_cw at hw
      rw [hhi, q3] at hw
      exact hw
    have hpl : e.platform.magicAccessors = ({} : Platform).magicAccessors := by rw [X0.admits.platform]
    obtain ⟨b, cell, hab, -⟩ := mr_recv G hS hT h12
    rw [hab] at e2
    rcases q1 with q1 | q1
    · obtain ⟨mk', methM, cM, kP, vm₁, hnamed, -, -, -, -, -, -, -, hW₁, hstep₁⟩ := Steps.initColdArgs (e := e) X0.here hx X0.warmed hpl hown hin (mj_notMH_ok l3) (mr_wG (args := args) G q1) (mr_wG (args := args) G q2) hcode (f := F0 m pc ls (st.map (mr_v X))) rfl (a := b) (argsL := as.map (mr_v X)) (rest := r.map (mr_v X)) hlen e2 (by rw [hb]; exact hd)
      cases hnm.symm.trans hnamed
      have X₁ := X0.noted hW₁
      exact ⟨vm₁, mk, X₁, X₁.named hnm, fun target hs => hstep₁ target (fun acts => by rw [doInvoke_state]; rw [List.map_cons, hab] at hs; exact hs)⟩
    · obtain ⟨mk', methM, cM, kP, vm₁, hnamed, -, -, -, -, -, -, -, hW₁, hstep₁⟩ := Steps.initColdArgsNest (e := e) X0.here hx X0.warmed hpl hown hin (mj_notMH_ok l3) (mr_wG (args := args) G q1) (mr_wG (args := args) G q2) hcode (f := F0 m pc ls (st.map (mr_v X))) rfl (a := b) (argsL := as.map (mr_v X)) (rest := r.map (mr_v X)) hlen e2 (by rw [hb]; exact hd)
      cases hnm.symm.trans hnamed
      have X₁ := X0.noted hW₁
      exact ⟨vm₁, mk, X₁, X₁.named hnm, fun target hs => hstep₁ target (fun acts => by rw [doInvoke_state]; rw [List.map_cons, hab] at hs; exact hs)⟩
  · rw [if_neg hin] at l4
    simp only [Bool.and_eq_true, decide_eq_true_eq] at l4
    obtain ⟨q1, q2, q3, q4, q5⟩ := l4
    obtain ⟨b, cell, hab, hcell, hobj, hcls⟩ := mr_recv G hS hT (by omega)
    rw [hab] at e2
    obtain ⟨kB, hkB, -⟩ := Vm.findClass_spec hcls
    obtain ⟨mk', methM, hnamed, hmethM, hstM, habM⟩ := Cond.instanceMethod_spec (mr_wG (args := args) G q4)
    cases hnm.symm.trans hnamed
    cases hm.symm.trans hmethM
    obtain ⟨ps, dk, kp, hps, hdk, hkp, hsuper, -, -, hnid⟩ := Cond.superclass_spec hown (mr_wG (args := args) G q3)
    have hpm : ps = mk.cls := Option.some.inj (hps.symm.trans (findClass_of_methodNamed hnm))
    have hsub : s.vm.isSubclass ps mk.cls = true := by rw [hpm]; simp [Vm.isSubclass, Vm.isSubclassAux]
    obtain ⟨vm₁, X₁, hstep₁⟩ := X0.invokespecialUp hx hown (mr_wG (args := args) G q1) (mr_wG (args := args) G q2) hnm hm hstM habM hin hdk hnid hps hsuper hsub (a := b) (cell := cell) (by rw [hT0]; exact hcell)
      (fun z h => by rw [h] at hobj; cases hobj) hkB (g := F0 m pc ls (st.map (mr_v X))) rfl (argsL := as.map (mr_v X)) (rest := r.map (mr_v X)) (hlen _ hsg) e2 (by rw [hb]; exact hd)
    exact ⟨vm₁, mk, X₁, X₁.named hnm, fun target hs => hstep₁ target (by rw [List.map_cons, hab] at hs; exact hs)⟩
theorem mr_res_virtual {z n j k a : Nat} {as r st : List Value} (C : mr_C X xs L p R s m meth c d y) (hS : mr_S X xs L R s y lc h H locs cells slots ls) (hi : mj_ins y pc = some (.invokevirtual z, n, j, k)) (h900 : ¬ 900 ≤ z) (hsp : mj_sp (mj_na z) [] st = some (.ref a :: as, r)) (hT : mj_T h a = mj_rg z) : z < 168 ∧ mr_HC X p l e R s m args below meth c H locs cells slots pc ls z (.ref a :: as) r st := by
  obtain ⟨hn, hd⟩ := mj_dd hi rfl
  have hl := mj_lok_ok hi
  have h5 := mj_c5_ok hi
  have h901 : ¬ z = 901 := by omega
  have h902 : ¬ z = 902 := by omega
  simp only [mj_lok, if_neg h901, if_neg h902, Bool.and_eq_true, Bool.or_eq_true, decide_eq_true_eq] at hl
  simp only [mj_c5, Bool.or_eq_true, Bool.and_eq_true, Bool.not_eq_true', beq_eq_false_iff_ne, decide_eq_true_eq] at h5
  have h5 := h5.resolve_left (fun q => h900 (Nat.le_of_ble_eq_true q))
  obtain ⟨l0, l1, l2, l3, l4, l5⟩ := hl
  have hz : z < 168 := by unfold mj_NM at l0; omega
  refine ⟨hz, ?_⟩
  obtain ⟨e1, e2⟩ := mj_spv (X := X) hsp
  intro T hT0 X0
  obtain ⟨⟨hx, hb, hml, hown, -⟩, G, -⟩ := id C
  obtain ⟨mk, methk, hnm, hm⟩ := mr_named G hz
  have hsg := mr_sig G hz hnm hm
  have hlen : ∀ sig, parseMethodDescriptor (mj_mn z).desc = some sig → (as.map (mr_v X)).length = sig.parameters.length := by
    intro sig hs
    rw [mj_npar_ok l1 hs, List.length_map]
    omega
  obtain ⟨b, cell, hab, hcell, hobj, hcls⟩ := mr_recv G hS hT l4
  rw [hab] at e2
  have hobj' : ∀ k, cell.vm ≠ .statics k := fun k h => by rw [h] at hobj; cases hobj
  rcases l5 with ⟨q1, q2, q3⟩ | ⟨q1, q2, q3, q4⟩ | ⟨q1, q2, q3, q4, q5⟩
  · obtain ⟨mk', methM, hnamed, hmethM, hstM, habM⟩ := Cond.instanceMethod_spec (mr_wG (args := args) G q3)
    cases hnm.symm.trans hnamed
    cases hm.symm.trans hmethM
    obtain ⟨c2, r2, m2, w1, w2, w3, w4, kP, hkP, hkPi⟩ := Cond.selects_spec (mr_wG (args := args) G q2)
    cases hcls.symm.trans w1
    cases (State.methodFound?_of_named hnm (mj_notMH_ok l3)).symm.trans w2
    cases hnm.symm.trans w3
    have hselP : selectMethod e.platform s.vm cell.cls mk = .method mk := by rw [Launch.admits_selectMethod X0.admits]; exact w4
    obtain ⟨vm₁, X₁, hstep₁⟩ := X0.invokevirtual hx hown (mr_wG (args := args) G q1) hnm hm hstM hkP hkPi (mj_notMH_ok l3) (a := b) (cell := cell) (by rw [hT0]; exact hcell) hobj' hselP hm habM hkP hkPi (g := F0 m pc ls (st.map (mr_v X))) rfl (argsL := as.map (mr_v X)) (rest := r.map (mr_v X)) (hlen _ hsg) e2 (by rw [hb]; exact hd)
    exact ⟨vm₁, mk, X₁, X₁.named hnm, fun target hs => hstep₁ target (fun acts => by rw [doInvoke_state]; rw [List.map_cons, hab] at hs; exact hs)⟩
  · obtain ⟨mk', methM, hnamed, hmethM, hstM, habM⟩ := Cond.instanceMethod_spec (mr_wG (args := args) G q3)
    cases hnm.symm.trans hnamed
    cases hm.symm.trans hmethM
    obtain ⟨cn, ck, r1, hcn, hck, hni, hf, hn1⟩ := Cond.sameMethod_found (mr_wG (args := args) G q4)
    have hcm : cn = mk.cls := Option.some.inj (hcn.symm.trans (findClass_of_methodNamed hnm))
    subst hcm
    have hselP : selectMethod e.platform s.vm cell.cls mk = .method mk := selectMethod_private hm (Cond.privateMethod_at (mr_wG (args := args) G q2) mk methk hnm hm)
    obtain ⟨vm₁, X₁, hstep₁⟩ := X0.invokevirtual hx hown (mr_wG (args := args) G q1) hnm hm hstM hck hni (mj_notMH_ok l3) (a := b) (cell := cell) (by rw [hT0]; exact hcell) hobj' hselP hm habM hck hni (g := F0 m pc ls (st.map (mr_v X))) rfl (argsL := as.map (mr_v X)) (rest := r.map (mr_v X)) (hlen _ hsg) e2 (by rw [hb]; exact hd)
    exact ⟨vm₁, mk, X₁, X₁.named hnm, fun target hs => hstep₁ target (fun acts => by rw [doInvoke_state]; rw [List.map_cons, hab] at hs; exact hs)⟩
  · have hw : ∃ w, w < 168 ∧ mj_mn w = mj_asb z := by
      rcases h5.2 with q | q | q
      · rw [show mj_w ((mj_pq pc (mj_pl y)).getD 0 0) (.methodLink (mj_mn y).cls j (mj_asb z)) = true from q1] at q; cases q
      · exact ⟨z, hz, q⟩
      · exact ⟨z - 1, by omega, q⟩
    obtain ⟨w, hw1, hw2⟩ := hw
    obtain ⟨r0, rr, hn0, hm0⟩ := mr_named G hw1
    have hs0 := mr_sig G hw1 hn0 hm0
    rw [hw2] at hn0 hs0
    obtain ⟨r0', rr', hn0', hm0', hst0, -⟩ := Cond.instanceMethod_spec (mr_wG (args := args) G q3)
    cases hn0.symm.trans hn0'
    cases hm0.symm.trans hm0'
    obtain ⟨mk', methM, hnamed, hmethM, hstM, habM⟩ := Cond.instanceMethod_spec (mr_wG (args := args) G q5)
    cases hnm.symm.trans hnamed
    cases hm.symm.trans hmethM
    obtain ⟨cn, ck, r1, hcn, hck, hni, hf, hn1⟩ := Cond.sameMethod_found (mr_wG (args := args) G q2)
    cases hn0.symm.trans hn1
    obtain ⟨c2, r2, m2, w1, w2, w3, w4, kP, hkP, hkPi⟩ := Cond.selects_spec (mr_wG (args := args) G q4)
    cases hcls.symm.trans w1
    cases hf.symm.trans w2
    cases hnm.symm.trans w3
    have hselP : selectMethod e.platform s.vm cell.cls r0 = .method mk := by rw [Launch.admits_selectMethod X0.admits]; exact w4
    obtain ⟨vm₁, X₁, hstep₁⟩ := X0.invokevirtualUp hx hown (x := mj_asb z) (mr_wG (args := args) G q1) (mr_wG (args := args) G q2) (by decide) hn0 hm0 hst0 (a := b) (cell := cell) (by rw [hT0]; exact hcell) hobj' hselP hm habM hkP hkPi (g := F0 m pc ls (st.map (mr_v X))) rfl (argsL := as.map (mr_v X)) (rest := r.map (mr_v X)) (hlen _ hs0) e2 (by rw [hb]; exact hd)
    exact ⟨vm₁, mk, X₁, X₁.named hnm, fun target hs => hstep₁ target (fun acts => by rw [doInvoke_state]; rw [List.map_cons, hab] at hs; exact hs)⟩
theorem mr_res_face {i1 i2 n j k a : Nat} {v1 v2 : Int32} {r : List Value} (C : mr_C X xs L p R s m meth c d y) (hS : mr_S X xs L R s y lc h H locs cells slots ls) (hi : mj_ins y pc = some (.invokeinterface i1 i2, n, j, k)) (hT : mj_T h a = 6 ∨ mj_T h a = 4) :
    mr_HC X p l e R s m args below meth c H locs cells slots pc ls (if mj_T h a = 6 then mj_yB else mj_yL) [.ref a, .int v2, .int v1] r (.int v1 :: .int v2 :: .ref a :: r) := by
  obtain ⟨hn, hd⟩ := mj_dd hi rfl
  have hl := mj_lok_ok hi
  simp only [mj_lok, Bool.and_eq_true] at hl
  obtain ⟨l0, l1, l2, a1, a2, a3, a4, a5, b1, b2, b3, b4, b5⟩ := hl
  intro T hT0 X0
  obtain ⟨⟨hx, hb, hml, hown, -⟩, G, -⟩ := id C
  obtain ⟨b, cell, hab, hcell, hobj, hcls⟩ := mr_recv G hS (a := a) rfl (by omega)
  have hobj' : ∀ k, cell.vm ≠ .statics k := fun k h => by rw [h] at hobj; cases hobj
  obtain ⟨r0, rr, hnr, hrm, hstR, hsigR⟩ := Cond.declares_spec (mr_wG (args := args) G l1)
  obtain ⟨cL, kL, r1, hcL, hkL, hiL, hfoundL, hn1⟩ := Cond.interfaceMethod_spec (mr_wG (args := args) G l2)
  cases hnr.symm.trans hn1
  have hr0cls : r0.cls = cL := Option.some.inj ((findClass_of_methodNamed hnr).symm.trans hcL)
  obtain ⟨hnameR, hdescR⟩ := name_of_methodNamed hnr hrm
  obtain ⟨kB, hkB, -⟩ := Vm.findClass_spec hcls
  have hlen : ∀ sig, parseMethodDescriptor mj_nPU.desc = some sig → ([Value.int v2, Value.int v1]).length = sig.parameters.length := by
    intro sig hs
    have : (parseMethodDescriptor "(II)V").map (fun d => d.parameters.length) = some 2 := by decide +kernel
    rw [show parseMethodDescriptor "(II)V" = some sig from hs] at this
    exact (Option.some.inj this).symm
  have go : ∀ (C0 : String) (z : Nat), mj_RN (mj_T h a) = C0 → (Cond.selects C0 mj_nPU (mj_mn z)).before args s = true → (Cond.instanceMethod (mj_mn z)).before args s = true → (Cond.publicMethod (mj_mn z)).before args s = true → (Cond.unhidden C0 "put" "(II)V").before args s = true → (Cond.castable C0 "DotBook$Sink").before args s = true →
      ∃ (vm₁ : Vm) (mk : MethodId), Stand p l e R s m args below meth c (T.setVm vm₁) locs cells slots ∧ (T.setVm vm₁).methodNamed? (mj_mn z) = some mk ∧
        ∀ target, Steps p.tables e below (doInvoke e ((T.setVm vm₁).setTop (F0 m pc ls (r.map (mr_v X)))) [] mk ([Value.ref a, .int v2, .int v1].map (mr_v X)).toArray).1 target → Steps p.tables e below (T.setTop (F0 m pc ls ((Value.int v1 :: .int v2 :: .ref a :: r).map (mr_v X)))) target := by
    intro C0 z hC0 s1 s2 s3 s4 s5
    rw [hC0] at hcls
    obtain ⟨mk, methM, hnamed, hmethM, -, habM⟩ := Cond.instanceMethod_spec s2
    obtain ⟨c2, r2, m2, q1, q2, q3, q4, -⟩ := Cond.selects_spec s1
    cases hcls.symm.trans q1
    cases hfoundL.symm.trans q2
    cases hnamed.symm.trans q3
    have hselP : selectMethod e.platform s.vm cell.cls r0 = .method mk := by rw [Launch.admits_selectMethod X0.admits]; exact q4
    have hpubM : hasFlag methM.accessFlags Acc.public_ = true := Cond.publicMethod_spec hnamed hmethM s3
    have hway : ((cell.cls :: s.vm.superclasses cell.cls).any fun k => (declaredIn s.vm rr.name rr.desc k).any fun (_, z) => z.isPrivate || z.isStatic) = false := by
      rw [hnameR, hdescR]; exact Cond.unhidden_spec hcls s4
    obtain ⟨c3, t3, w1, w2, w3⟩ := Cond.castable_spec s5
    cases hcls.symm.trans w1
    cases hcL.symm.trans w2
    obtain ⟨vm₁, X₁, hstep₁⟩ := X0.invokeinterface hx hown (mr_wG (args := args) G l0) hnr hrm hstR (by rw [hr0cls]; exact hkL) hiL (by decide) (a := b) (cell := cell) (kcell := kB) (by rw [hT0]; exact hcell)
      hobj' hkB (by rw [hr0cls]; exact w3) hselP hmethM hway hpubM habM (g := F0 m pc ls ((Value.int v1 :: .int v2 :: .ref a :: r).map (mr_v X))) rfl (argsL := [.int v2, .int v1]) (rest := r.map (mr_v X)) (hlen _ hsigR) (by show _ :: _ :: mr_v X (.ref a) :: _ = _; rw [hab]; rfl) (by rw [hb]; exact hd)
    exact ⟨vm₁, mk, X₁, X₁.named hnamed, fun target hs => hstep₁ target (fun acts => by rw [doInvoke_state]; rw [List.map_cons, hab] at hs; exact hs)⟩
  by_cases h6 : mj_T h a = 6
  · rw [if_pos h6]
    exact go "DotBook$Block" mj_yB (by rw [h6]; rfl) (mr_wG G a1) (mr_wG G a2) (mr_wG G a3) (mr_wG G a4) (mr_wG G a5)
  · rw [if_neg h6]
    have h4 : mj_T h a = 4 := hT.resolve_left h6
    exact go "DotBook$Line" mj_yL (by rw [h4]; rfl) (mr_wG G b1) (mr_wG G b2) (mr_wG G b3) (mr_wG G b4) (mr_wG G b5)
end
end
section
/-! a method returns -/
section
variable {X : mr_X} {xs : Nat → Int32} {L : Nat} {p : Program} {l : Launch} {e : Env} {R : Room} {s : State} {m : MethodId} {args : Array Value} {below : List Frame} {meth : Method} {c : Code} {H : Heap} {locs : List Loc} {cells slots d y pc : Nat} {ls : Array Slot} {lc : List Value} {h : mj_H} {P : mj_P}
theorem W.monoQ {Q Q' : State → Prop} {g : JFrame} (hq : ∀ t, Q t → Q' t) (w : W p l e R s m args below meth c H locs cells slots Q g) : W p l e R s m args below meth c H locs cells slots Q' g := by
  intro T hT X0
  obtain ⟨t, a, b⟩ := w T hT X0
  exact ⟨t, a, hq t b⟩
theorem mr_retQ (C : mr_C X xs L p R s m meth c d y) (hS : mr_S X xs L R s y lc h H locs cells slots ls) {v : Option Value} (hP : P (.inl v) h) (hz : H.size ≤ s.heap.size + cells) : ∀ t, MQ below (fun _ _ o t => o = .returned (v.map (mr_v X)) ∧ t.heap = H) args s cells slots (fun q => mr_B X ≤ q) t → mr_Q X xs L R s below P t := by
  rintro t ⟨o, h1, h2, ⟨ho, hH⟩, Lc, ⟨_, hW, hf⟩, hLc⟩
  subst ho
  obtain ⟨sU, sc, ss, sH, sS, sE, sL⟩ := id hS
  have hHB : mr_B X ≤ H.size := Nat.le_trans C.2.1.2.2.2 sS.1
  have hge := mr_size_ge sH hHB
  have h20 := sH.1
  refine ⟨.inl v, h, Lc, cells, slots, h1, h2, hW, hf, hLc, sU, sc, ss, by omega, by rw [hH]; omega, by rw [hH]; exact sH, by rw [hH]; exact sS.1, by rw [hH]; exact sS.2.1, fun a q => (by cases q), hP⟩
theorem mr_retW (C : mr_C X xs L p R s m meth c d y) (hS : mr_S X xs L R s y lc h H locs cells slots ls) {st : List Value} {S : List Prop} {v : Option Value} (hv : mj_ret y pc st = some (S, v)) (hA : mj_all S) (hP : P (.inl v) h) : W p l e R s m args below meth c H locs cells slots (mr_Q X xs L R s below P) (F0 m pc ls (st.map (mr_v X))) := by
  refine mr_Wz (fun hz => W.monoQ (mr_retQ (args := args) C hS hP hz) ?_)
  obtain ⟨⟨hx, hb, hml, hown, hret, hlocks, -⟩, G, -⟩ := id C
  have hf : ∀ q ∈ locs, mr_B X ≤ q.base := hS.2.2.2.2.1.2.2
  unfold mj_ret at hv
  split at hv
  · next n j k hi =>
    obtain ⟨hn, hd⟩ := mj_dd hi rfl
    have h5 := mj_c5_ok hi
    split at hv
    · next v' =>
      cases hv
      cases hr : mj_rt y with
      | none => simp [mj_c5, hr] at h5
      | some ty =>
        have hnar : narrow ty (.int v') = .int v' := by
          rw [hr] at hA
          cases ty with
          | int => rfl
          | boolean =>
            rcases hA with q | q
            · rw [q]; decide
            · rw [q]; decide
          | char =>
            have q : mj_c v' = v' := hA
            rw [← q]; exact pk_nc v'
          | byte =>
            have q : mj_b v' = v' := hA
            rw [← q]; exact pk_nb v'
          | _ => simp [mj_c5, hr] at h5
        exact W.zret hx hb (hret.trans hr) hnar (fun t ht _ => ⟨rfl, ht⟩) hf hd hlocks
    · cases hv
  · next n j k hi =>
    obtain ⟨hn, hd⟩ := mj_dd hi rfl
    have h5 := mj_c5_ok hi
    split at hv
    · next v' =>
      cases hv
      cases hr : mj_rt y with
      | none => simp [mj_c5, hr] at h5
      | some ty =>
        have hrt : (∃ n, ty = .object n) ∨ ∃ t, ty = .array t := by
          cases ty with
          | object n => exact Or.inl ⟨n, rfl⟩
          | array t => exact Or.inr ⟨t, rfl⟩
          | _ => simp [mj_c5, hr] at h5
        refine W.aret hx hb (hret.trans hr) hrt ?_ (fun t ht _ => ⟨rfl, ht⟩) hf hd hlocks
        show va_rf (mr_o X v') = _ ∨ ∃ a, va_rf (mr_o X v') = .ref a
        cases mr_o X v' with
        | none => exact Or.inl rfl
        | some b => exact Or.inr ⟨b, rfl⟩
    · cases hv
  · next n j k hi =>
    obtain ⟨hn, hd⟩ := mj_dd hi rfl
    have h5 := mj_c5_ok hi
    split at hv
    · cases hv
      cases hr : mj_rt y with
      | some ty => simp [mj_c5, hr] at h5
      | none => exact W.vret hx hb (hret.trans hr) (fun t ht _ => ⟨rfl, ht⟩) hf hd hlocks
    · cases hv
  · cases hv
end
end
section
/-! an exception is made and thrown -/
theorem mt_restart {p : Program} {l : Launch} {e : Env} {R R' : Room} {s : State} {m : MethodId} {args : Array Value} {below : List Frame} {meth : Method} {c : Code} {T : State} {locs : List Loc} {cells slots : Nat} (X : Stand p l e R s m args below meth c T locs cells slots) (hf : R'.frames ≤ R.frames) (hl : R'.locals ≤ R.locals) (hc : cells + R'.cells ≤ R.cells) (hs : slots + R'.slots ≤ R.slots) :
    Stand p l e R' (T.setFrames (.invoking m args :: below)) m args below meth c T [] 0 0 := by
  obtain ⟨g₀, hg₀⟩ := X.frames_eq
  have hcur : T.cur < T.threads.size := State.cur_lt_of_top X.here.top
  have hF : (T.setFrames (.invoking m args :: below)).frames = .invoking m args :: below := State.frames_setFrames _ hcur
  have hm : (T.setFrames (.invoking m args :: below)).vm.method? m = some meth := X.method'
  have hroom : (T.setFrames (.invoking m args :: below)).hasRoom e.platform R' = true := by
    obtain ⟨r1, r2, r3, r4⟩ := State.hasRoom_stack X.room
    have r5 := State.hasRoom_real X.room
    have h := X.room
    simp only [State.hasRoom, Bool.and_eq_true, decide_eq_true_eq] at h
    rw [State.localsInUse_invoking X.frames X.method X.code] at r3 r4 r5
    rw [X.frames, List.length_cons] at r1 r2
    have hU := State.localsInUse_invoking hF hm X.code
    have h1 := X.heapSize
    have h2 := X.used
    have h3 := X.book
    simp only [State.hasRoom, Bool.and_eq_true, decide_eq_true_eq, hF, hU, List.length_cons, State.stackLimits_setFrames, State.stackBytes_setFrames, X.limits, X.bytes]
    refine ⟨⟨⟨⟨by omega, by omega, by omega, by omega, by omega, h.1.1.1.2.2.2.2.2⟩, ?_⟩, ?_⟩, h3⟩
    · have := h.1.1.2
      show T.heap.size + R'.cells ≤ _
      omega
    · have := h.1.2
      show T.slotsUsed + R'.slots ≤ _
      omega
  have hhears : (T.setFrames (.invoking m args :: below)).hears m below = true := by
    have h := X.hears
    unfold State.hears at h ⊢
    split at h
    · next g r =>
      have e1 : (T.setFrames (.invoking m args :: .java g :: r)).code? g.method = s.code? g.method := by
        rw [State.code?_eq, State.code?_eq]
        show (T.vm.method? g.method).bind _ = _
        rw [X.warmed.alike.method?]
      simp only [e1]
      exact h
    · rfl
    · rfl
    · next h1 h2 h3 =>
      show (T.vm.method? m).any _ = true
      rw [X.warmed.alike.method?]
      exact h
  obtain ⟨x, hx, -⟩ := State.frames_cons hg₀
  refine ⟨X.admits, X.cas, X.clock, hF, hroom, hhears, hm, X.code, X.here, X.tail, State.WarmedH.refl _, ?_, ?_, ?_⟩
  · rw [State.stackLimits_setFrames]
  · rw [State.stackBytes_setFrames]
  · have hcur' : (T.setFrames (.invoking m args :: below)).cur < (T.setFrames (.invoking m args :: below)).threads.size := State.cur_lt_of_frames hF
    obtain ⟨x', hx', -⟩ := State.frames_cons hF
    have h := (State.sameButNew.refl (T.setFrames (.invoking m args :: below)) hx').setFrames T.frames hcur'
    rw [State.setFrames_setFrames, State.setFrames_self hx] at h
    exact h
theorem mt_noLocs {s t : State} {cells slots : Nat} (h : s.sameButNew t [] cells slots) {q : Nat} (hq : q < s.heap.size) : t.heap[q]? = s.heap[q]? := by
  obtain ⟨c, hc⟩ : ∃ c, s.heap[q]? = some c := ⟨_, Array.getElem?_eq_getElem hq⟩
  obtain ⟨c', h1, h2, h3, h4⟩ := h.2.2.2.2.2 q c hc
  rw [h1, hc]
  have : c'.slots = c.slots := Array.ext_getElem? (fun i => h4 i (by simp))
  rw [h2, this]
def mj_exn : List String := ["java/lang/RuntimeException", "java/lang/Exception"]
def mj_isR (w : Cond) : Bool := (decide (w = .isRef (.static "java/lang/Throwable" "UNASSIGNED_STACK" "[Ljava/lang/StackTraceElement;")) || decide (w = .isRef (.static "java/lang/Throwable" "SUPPRESSED_SENTINEL" "Ljava/util/List;"))) ||
  (decide (w = .laysStatic "java/lang/Throwable" "UNASSIGNED_STACK" "[Ljava/lang/StackTraceElement;") || decide (w = .laysStatic "java/lang/Throwable" "SUPPRESSED_SENTINEL" "Ljava/util/List;"))
def mj_exi : Nat → Nat
  | 8 => 112 | 9 => 119 | _ => 233
theorem mj_own8 : (Bundle.ownAtoms0 "DotBook" 112 (mj_CN 8) mj_exn).all (fun w => mj_isR w || mj_has w) = true := by decide +kernel
theorem mj_own9 : (Bundle.ownAtoms0 "DotBook" 119 (mj_CN 9) mj_exn).all (fun w => mj_isR w || mj_has w) = true := by decide +kernel
theorem mj_own10 : (Bundle.ownAtoms0 "DotBook" 233 (mj_CN 10) mj_exn).all (fun w => mj_isR w || mj_has w) = true := by decide +kernel
theorem mj_own {t : Nat} (h8 : 8 ≤ t) (h10 : t ≤ 10) : (Bundle.ownAtoms0 "DotBook" (mj_exi t) (mj_CN t) mj_exn).all (fun w => mj_isR w || mj_has w) = true := by
  rcases (show t = 8 ∨ t = 9 ∨ t = 10 by omega) with rfl | rfl | rfl
  · exact mj_own8
  · exact mj_own9
  · exact mj_own10
theorem mj_exf : ∀ t, t < 11 → 8 ≤ t → Bundle.fit (mj_CN t) = true := by decide +kernel
theorem mt_isRef {C n d : String} {A : Nat → Prop} {s : State} {args : Array Value} (h : va_Zq C n d A s s.heap) : (Cond.isRef (.static C n d)).before args s = true := by
  rcases h with ⟨cf, kf, fi, f, a, cell, h1, h2, h3, h4, h5, h6, h7, h8⟩ | ⟨t, cf, kf, fi, f, a, cell, h1, h2, h3, h4, h5, h6, h7, h8⟩
  · simp [Cond.before, Cond.holds, Cond.value, Term.eval, State.fieldNamed?, h1, h2, h4, h5, h6, h7]
  · simp [Cond.before, Cond.holds, Cond.value, Term.eval, State.fieldNamed?, h1, h2, h4, h5, h6, h7]
section
variable {X : mr_X} {xs : Nat → Int32} {L : Nat} {p : Program} {l : Launch} {e : Env} {R : Room} {s : State} {m : MethodId} {args : Array Value} {below : List Frame} {meth : Method} {c : Code} {H : Heap} {locs : List Loc} {cells slots d y pc : Nat} {ls : Array Slot} {lc : List Value} {h : mj_H} {P : mj_P}
theorem mr_atoms (G : mr_G X xs L s) {t : Nat} (h8 : 8 ≤ t) (h10 : t ≤ 10) : ∀ w ∈ Bundle.ownAtoms0 "DotBook" (mj_exi t) (mj_CN t) mj_exn, w.before args s = true := by
  intro w hw
  have q := List.all_eq_true.mp (mj_own h8 h10) w hw
  rw [Bool.or_eq_true] at q
  rcases q with q | q
  · simp only [mj_isR, Bool.or_eq_true, decide_eq_true_eq] at q
    rcases q with (q | q) | (q | q)
    · subst q
      exact mt_isRef G.2.2.1.2.2.2.2.2.2.2.2.2.2.2.2.1.1
    · subst q
      exact mt_isRef G.2.2.1.2.2.2.2.2.2.2.2.2.2.2.2.2.1.1
    · subst q
      exact G.2.2.1.2.2.2.2.2.2.2.2.2.2.2.2.1.2.use
    · subst q
      exact G.2.2.1.2.2.2.2.2.2.2.2.2.2.2.2.2.1.2.use
  · have := mr_hasG G q
    simp only [mj_has, Bool.and_eq_true, decide_eq_true_eq] at q
    exact mj_mv_use q.2 this
theorem mr_throwW (htr : e.platform.stackTraces = false) (C : mr_C X xs L p R s m meth c d y) (hS : mr_S X xs L R s y lc h H locs cells slots ls) {st : List Value} {S : List Prop} {t : Nat} (hv : mj_thw y pc st h = some (S, t)) (hA : mj_all S) (hP : P (.inr (mj_Z h)) (mj_nw h t 0 6)) : W p l e R s m args below meth c H locs cells slots (mr_Q X xs L R s below P) (F0 m pc ls (st.map (mr_v X))) := by
  obtain ⟨⟨hx, hb, hml, hown, hret, hlocks, hname, hexc⟩, G, hfr, hlo⟩ := id C
  obtain ⟨sU, sc, ss, sH, sS, sE, sL⟩ := id hS
  unfold mj_thw at hv
  split at hv
  · next q n j k hi =>
    cases hble : Nat.ble st.length 8 with
    | false => rw [hble] at hv; cases hv
    | true =>
      rw [hble] at hv
      cases hv
      have hu : mj_U h + 7 ≤ mj_M := hA
      have hl := mj_lok_ok hi
      simp only [mj_lok, Bool.and_eq_true, decide_eq_true_eq, beq_iff_eq] at hl
      obtain ⟨l0, ⟨h8, h10⟩, l1, l2, l3, d1, d2, d3, hhi, hq⟩ := hl
      generalize ht : q.toNat / 65536 = t at *
      have hic : q.toNat % 65536 = mj_exi t := by
        rcases (show t = 8 ∨ t = 9 ∨ t = 10 by omega) with rfl | rfl | rfl <;> simpa [mj_exi] using hq
      obtain ⟨hn, hd⟩ := mj_dd hi rfl
      have hsum := mr_sum8 (X := X) hble
      intro T hT X0
      have hHB : mr_B X ≤ H.size := Nat.le_trans G.2.2.2 sS.1
      have hge := mr_size_ge sH hHB
      have hHs : H.size ≤ s.heap.size + cells := by rw [← hT]; exact X0.heapSize
      have h20 := sH.1
      have hHex : H.size = mr_B X + (mj_Z h - 20) := by omega
      have X1 := mt_restart (R' := { frames := R.frames, cells := 1, slots := 6, locals := R.locals }) X0 (Nat.le_refl _) (Nat.le_refl _) (by show cells + 1 ≤ _; omega) (by show slots + 6 ≤ _; omega)
      generalize hs' : T.setFrames (.invoking m args :: below) = s' at X1
      have hheap' : s'.heap = H := by rw [← hs']; exact hT
      have hvm' : s'.vm = T.vm := by rw [← hs']; rfl
      have hW' : s.WarmedH s'.vm := by rw [hvm']; exact X0.warmed
      have G' : mr_G X xs L s' := G.moved hW' (by rw [hheap']; exact sS.1) (fun q h1 h2 => by rw [hheap']; exact sS.2.1 q h1 h2)
      have hown' : s'.vm.findClass "DotBook" = some m.cls := by rw [hvm', X0.warmed.alike.findClass, ← l0]; exact hown
      have hcu := (G'.2.1.1 t _ (mj_cls_at t (by omega))).2
      have hout : ∀ (pc : Nat), ∀ x ∈ c.exceptionTable.toList, covers x pc = false := by
        intro pc x hx
        have : c.exceptionTable.toList = [] := by
          have := hexc
          rw [hhi] at this
          exact List.map_eq_nil_iff.mp this
        rw [this] at hx
        cases hx
      have key : W p l e { frames := R.frames, cells := 1, slots := 6, locals := R.locals } s' m args below meth c H [] 0 0 (fun U => U.status = .running ∧ Ended U below (.threw H.size) ∧ s'.WarmedH U.vm ∧ s'.sameButNew ({ U with vm := s'.vm } : State) [] 1 6 ∧ ∃ ce : Cell, U.heap[H.size]? = some ce ∧ ce.cls = (mr_D X).1 t ∧ ce.vm = .none) (F0 m pc ls (st.map (mr_v X))) := by
        refine W.newcK (n := 6) hx hb hown' (by rw [l0] at l1; exact mr_wG (args := args) G' l1) (mr_wG (args := args) G' l2) (mr_wG (args := args) G' l3) rfl hd (Nat.le_refl _) (Nat.le_refl _) hcu.1 rfl (fun H1 kC hkC e1 z1 o1 => ?_)
        refine lv_dup hx hb d1 rfl ?_
        intro W0 hW0 X2
        obtain ⟨U, u1, u2, u3, u4, u5, ce, u6, u7⟩ := X2.ctorThrow0 hx htr (cls := mj_CN t) (names := mj_exn) hown' (mj_exf t (by omega) h8) (by decide +kernel) (mr_atoms G' h8 h10) (fun x hx => by cases hx) (a := H.size) hcu.1 hkC (by rw [hW0]; exact e1) (by rw [hheap']; exact Nat.le_refl _)
          (g := F0 m (pc + 3 + 1) ls (.ref H.size :: .ref H.size :: st.map (mr_v X))) rfl (by show ls.size = c.maxLocals; rw [hml]; exact sL.1) rfl rfl (rest := st.map (mr_v X)) rfl (by rw [hb, ← hic]; exact d2) (by rw [hb]; exact d3) (hout _) (by show 2 + 3 < R.frames; omega) (by show 2 * 0 + (1 + ((st.map (mr_v X)).map (fun v => v.category)).sum) + (13 * (2 + 1) + 41) ≤ R.locals; omega) hlocks
        exact ⟨U, u1, u2, u3, u4, u5, ce, u6, Option.some.inj (u7.cls.symm.trans hcu.1), u7.vm⟩
      obtain ⟨U, u1, u2, u3, u4, u5, ce, u6, u7, u8⟩ := key T hT X1
      have o1 : ∀ q : Nat, q < H.size → U.heap[q]? = H[q]? := fun q hq => by
        have := mt_noLocs u5 (q := q) (by rw [hheap']; exact hq)
        rw [hheap'] at this
        exact this
      have hz1 : U.heap.size ≤ H.size + 1 := by
        have := u5.2.2.1
        rw [hheap'] at this
        exact this
      have hz2 : H.size < U.heap.size := (Array.getElem?_eq_some_iff.mp u6).1
      have hsame : s.sameButNew ({ U with vm := s.vm } : State) (locs ++ []) (cells + 1) (slots + 6) := by
        have a1 := X0.same.setFrames (.invoking m args :: below) X0.cur
        have a2 : (T.setVm s.vm).setFrames (.invoking m args :: below) = s'.setVm s.vm := by rw [← hs']; rfl
        rw [a2] at a1
        refine a1.trans ⟨?_, u5.2⟩
        have := congrArg (fun z => State.setVm z s.vm) u5.1
        exact this
      rw [List.append_nil] at hsame
      refine ⟨U, u1, .inr (mj_Z h), mj_nw h t 0 6, locs, cells + 1, slots + 6, u2, ?_, State.WarmedH.trans hW' u4, hsame, sS.2.2, ?_, ?_, ?_, ?_, ?_, ?_, ?_, ?_, ?_, hP⟩
      · rw [hHex] at u3; exact u3
      · show mj_U h + (1 + 6) ≤ mj_M; omega
      · show cells + 1 + (mj_M - (mj_U h + (1 + 6))) ≤ R.cells; omega
      · show slots + 6 + (mj_M - (mj_U h + (1 + 6))) ≤ R.slots; omega
      · show s.heap.size + (cells + 1) + 20 = mr_B X + (mj_Z h + 1); omega
      · show U.heap.size + 20 = mr_B X + (mj_Z h + 1); omega
      · refine mr_H_nw sH (Or.inl (by omega)) ?_
        rw [← mr_ws_push (X := X) (h := h) h20 rfl (fun b hb => mr_en_nw hb), mr_en_obj mj_nw_T (by omega), ← hHex]
        refine (sH.2.2.2.2.2.kept (fun k y hy => o1 y.1 ((sH.2.2.2.2.2 k y hy).lt))).app (fun k y hy => ?_)
        have hz : k < 1 := (List.getElem?_eq_some_iff.mp hy).1
        rw [show k = 0 by omega] at hy
        cases hy
        refine ⟨_, mj_cls_at t (by omega), ce, u6, u7, u8, fun k hk => ?_⟩
        exfalso
        have hk : k < mj_nf t := hk
        rcases (show t = 8 ∨ t = 9 ∨ t = 10 by omega) with rfl | rfl | rfl <;> exact absurd hk (Nat.not_lt_zero _)
      · exact Nat.le_trans sS.1 (Nat.le_of_lt hz2)
      · intro q h1 h2
        rw [o1 q (Nat.lt_of_lt_of_le h1 sS.1)]
        exact sS.2.1 q h1 h2
      · intro a ha
        cases ha
        rw [mj_nw_T]
        exact ⟨h20, h8, h10⟩
  · cases hv
end
end
section
/-! every step of the small machine is a walk of the real one -/
theorem mr_any (i : Instr) : mr_T i := by
  cases i with
  | iadd => exact mr_iadd
  | isub => exact mr_isub
  | imul => exact mr_imul
  | iand => exact mr_iand
  | ior => exact mr_ior
  | ishl => exact mr_ishl
  | ishr => exact mr_ishr
  | idiv => exact mr_idiv
  | irem => exact mr_irem
  | ineg => exact mr_ineg
  | i2b => exact mr_i2b
  | i2c => exact mr_i2c
  | i2l => exact mr_i2l
  | lcmp => exact mr_lcmp
  | dup => exact mr_dup
  | dup_x1 => exact mr_dup_x1
  | dup2 => exact mr_dup2
  | pop => exact mr_pop
  | aconst_null => exact mr_aconst_null
  | iaload => exact mr_iaload
  | baload => exact mr_baload
  | caload => exact mr_caload
  | laload => exact mr_laload
  | aaload => exact mr_aaload
  | iastore => exact mr_iastore
  | bastore => exact mr_bastore
  | castore => exact mr_castore
  | lastore => exact mr_lastore
  | aastore => exact mr_aastore
  | arraylength => exact mr_arraylength
  | dload a => exact mr_dload a
  | dstore a => exact mr_dstore a
  | goto a => exact mr_goto a
  | ifnull a => exact mr_ifnull a
  | ifnonnull a => exact mr_ifnonnull a
  | iload a => exact mr_iload a
  | iload_n a => exact mr_iload_n a
  | aload a => exact mr_aload a
  | aload_n a => exact mr_aload_n a
  | istore a => exact mr_istore a
  | istore_n a => exact mr_istore_n a
  | astore a => exact mr_astore a
  | astore_n a => exact mr_astore_n a
  | getfield a => exact mr_getfield a
  | fload a => exact mr_fload a
  | putfield a => exact mr_putfield a
  | lstore a => exact mr_lstore a
  | fstore a => exact mr_fstore a
  | getstatic a => exact mr_getstatic a
  | ldc a => exact mr_ldc a
  | newarray a => exact mr_newarray a
  | anewarray a => exact mr_anewarray a
  | new a => exact mr_new a
  | checkcast a => exact mr_checkcast a
  | invokestatic a => exact mr_invokestatic a
  | invokespecial a => exact mr_invokespecial a
  | invokevirtual a => exact mr_invokevirtual a
  | ifCond a b => exact mr_ifCond a b
  | if_icmp a b => exact mr_if_icmp a b
  | if_acmp a b => exact mr_if_acmp a b
  | iinc a b => exact mr_iinc a b
  | multianewarray a b => exact mr_multianewarray a b
  | lookupswitch a b => exact mr_lookupswitch a b
  | tableswitch a b c d => exact mr_tableswitch a b c d
  | _ =>
    intro X xs L p l e R s m args below meth c d y Q pc H locs cells slots ls lc st h n j k S pc' lc' st' h' C hi hS hv hA kk
    cases hv
theorem mr_step {X : mr_X} {xs : Nat → Int32} {L : Nat} {p : Program} {l : Launch} {e : Env} (htr : e.platform.stackTraces = false) : ∀ d y pc lc st h P, mj_Step (mr_Z X xs L p l e) d y pc lc st h P → mr_Z X xs L p l e d y pc lc st h P := by
  intro d y pc lc st h P hstep R s m args below meth c H locs cells slots ls C hS
  rcases hstep with ⟨S, pc', lc', st', h', e1, s1, z1⟩ | ⟨S, v, e1, s1, q⟩ | ⟨S, t, e1, s1, q⟩ | ⟨S, z, as, r, pc', d', Q, e1, s1, hd, k1, k2, k3⟩
  · unfold mj_stp at e1
    split at e1
    · next i n j k hi =>
      exact mr_any i X xs L p l e R s m args below meth c d y _ pc H locs cells slots ls lc st h n j k S pc' lc' st' h' C hi hS e1 s1 (fun H' locs' cells' slots' ls' hS' => z1 R s m args below meth c H' locs' cells' slots' ls' C hS')
    · cases e1
  · exact mr_retW C hS e1 s1 q
  · exact mr_throwW htr C hS e1 s1 q
  · subst hd
    have cv : ∀ {z0 n : Nat}, mj_cv z0 n st h = some (S, z, as, r, pc') → z = z0 ∧ pc' = n ∧ ∃ a as', as = .ref a :: as' ∧ mj_sp (mj_na z0) [] st = some (.ref a :: as', r) ∧ Nat.ble r.length 8 = true ∧ (Value.ref a :: as').all mj_a1 = true ∧ mj_T h a = mj_rg z0 := by
      intro z0 n q
      unfold mj_cv at q
      split at q
      · next a as' r' hsp =>
        cases hb : (Nat.ble r'.length 8 && as'.all mj_a1) with
        | false => rw [hb] at q; cases q
        | true =>
          rw [hb] at q
          cases q
          rw [Bool.and_eq_true] at hb
          exact ⟨rfl, rfl, a, as', rfl, hsp, hb.1, by rw [List.all_cons, hb.2]; rfl, s1⟩
      · cases q
    unfold mj_cal at e1
    split at e1
    · next z0 n j k hi =>
      cases h9 : Nat.ble 900 z0 with
      | true => rw [h9] at e1; cases e1
      | false =>
        rw [h9] at e1
        have e1 : (match mj_sp (mj_na z0) [] st with | some (as, r) => bif Nat.ble r.length 8 && as.all mj_a1 then some ([], z0, as, r, n) else none | none => none) = some (S, z, as, r, pc') := e1
        split at e1
        · next as0 r0 hsp =>
          cases hb : (Nat.ble r0.length 8 && as0.all mj_a1) with
          | false => rw [hb] at e1; cases e1
          | true =>
            rw [hb] at e1
            cases e1
            rw [Bool.and_eq_true] at hb
            obtain ⟨hn, hdd⟩ := mj_dd hi rfl
            have h900 : ¬ z = 900 := by intro q; subst q; cases h9
            obtain ⟨hz, hc⟩ := mr_res_static (l := l) (e := e) (args := args) (below := below) (H := H) (locs := locs) (cells := cells) (slots := slots) (ls := ls) C hi h900 hsp
            obtain ⟨pre, p1, p2, p3⟩ := mj_sp_ok hsp
            exact mr_call C (mj_ins_in hi).1 hS hdd hn hz hb.2 (by rw [p3]; simp [p2]) hb.1 hc k1 k2 k3
        · cases e1
    · next z0 n j k hi =>
      cases h9 : Nat.ble 900 z0 with
      | true => rw [h9] at e1; cases e1
      | false =>
        rw [h9] at e1
        obtain ⟨rfl, rfl, a, as', rfl, hsp, hb1, hb2, hT⟩ := cv e1
        obtain ⟨hn, hdd⟩ := mj_dd hi rfl
        have h900 : ¬ 900 ≤ z := by intro q; rw [Nat.ble_eq_true_of_le q] at h9; cases h9
        obtain ⟨hz, hc⟩ := mr_res_special (l := l) (e := e) (args := args) (below := below) C hS hi h900 hsp hT
        exact mr_call C (mj_ins_in hi).1 hS hdd hn hz hb2 (by rw [List.length_cons]; exact (mj_spv (X := X) hsp).1) hb1 hc k1 k2 k3
    · next z0 n j k hi =>
      cases h9 : Nat.ble 900 z0 with
      | true => rw [h9] at e1; cases e1
      | false =>
        rw [h9] at e1
        obtain ⟨rfl, rfl, a, as', rfl, hsp, hb1, hb2, hT⟩ := cv e1
        obtain ⟨hn, hdd⟩ := mj_dd hi rfl
        have h900 : ¬ 900 ≤ z := by intro q; rw [Nat.ble_eq_true_of_le q] at h9; cases h9
        obtain ⟨hz, hc⟩ := mr_res_virtual (l := l) (e := e) (args := args) (below := below) C hS hi h900 hsp hT
        exact mr_call C (mj_ins_in hi).1 hS hdd hn hz hb2 (by rw [List.length_cons]; exact (mj_spv (X := X) hsp).1) hb1 hc k1 k2 k3
    · next i1 i2 n j k hi =>
      split at e1
      · next v1 v2 a r0 =>
        cases hb : Nat.ble r0.length 8 with
        | false => rw [hb] at e1; cases e1
        | true =>
          rw [hb] at e1
          cases e1
          obtain ⟨hn, hdd⟩ := mj_dd hi rfl
          have hT : mj_T h a = 6 ∨ mj_T h a = 4 := s1
          have hc := mr_res_face (l := l) (e := e) (args := args) (below := below) (v1 := v1) (v2 := v2) (r := r) C hS hi hT
          exact mr_call C (mj_ins_in hi).1 hS hdd hn (by split <;> decide) rfl (by split <;> rfl) hb hc k1 k2 k3
      · cases e1
    · cases e1
theorem mr_sound {X : mr_X} {xs : Nat → Int32} {L : Nat} {p : Program} {l : Launch} {e : Env} (htr : e.platform.stackTraces = false) {d y pc : Nat} {lc st : List Value} {h : mj_H} {P : mj_P} (k : Ends d y pc lc st h P) : mr_Z X xs L p l e d y pc lc st h P := k.ind (mr_step htr)
end
section
/-! at the law's entry -/
theorem me_eqR {args : Array Value} {s : State} {t u : Term} {a : Nat} (h : (Cond.eq t u).before args s = true) (hu : u.eval args s none [] s = some (.ref a)) : t.eval args s none [] s = some (.ref a) := by
  cases ht : t.eval args s none [] s with
  | none => simp [Cond.before, Cond.holds, Cond.value, ht] at h
  | some w =>
    simp only [Cond.before, Cond.holds, Cond.value, ht, hu] at h
    cases w <;> simp_all
def me_f : List Cond := flatC (Jvm.Cond.and given_1 narrow_1)
def me_kn : Nat → String
  | 0 => "PARAGRAPH" | 1 => "HEADING" | 2 => "ITEM" | _ => "BREAK"
def me_kt (i : Nat) : Term := .static "DotBook$Kind" (me_kn i) "LDotBook$Kind;"
def me_vt : Term := .static "DotBook$Kind" "$VALUES" "[LDotBook$Kind;"
def me_et : Term := .static "java/util/ArrayList" "DEFAULTCAPACITY_EMPTY_ELEMENTDATA" "[Ljava/lang/Object;"
def me_dt (a : Nat) : Term := .static "java/lang/Integer" (if a = 13 then "DigitTens" else "DigitOnes") "[B"
def me_it (a : Nat) : Term := .static "DotBook" (if a = 1 then "LETTERS" else "MARK_CELLS") "[I"
def me_st (a : Nat) : Term := .string "DotBook" (if a = 3 then 27 else 137)
def me_sv (a : Nat) : Term := .field (me_st a) "java/lang/String" "value" "[B"
def me_in (w : Cond) : Bool := decide (w ∈ me_f)
theorem me_i1 (j : Nat) (hj : j < 26) : Cond.eq (.elem (me_it 1) (.int (Int32.ofNat j))) (.int (nI (mc_lets.getD j 0))) ∈ me_f := va_run (N := 26) (p := 247) (f := fun j => Cond.eq (.elem (me_it 1) (.int (Int32.ofNat j))) (.int (nI (mc_lets.getD j 0)))) (by decide +kernel) j hj
theorem me_i2 (j : Nat) (hj : j < 8) : Cond.eq (.elem (me_it 2) (.int (Int32.ofNat j))) (.int (nI (mc_mrks.getD j 0))) ∈ me_f := va_run (N := 8) (p := 276) (f := fun j => Cond.eq (.elem (me_it 2) (.int (Int32.ofNat j))) (.int (nI (mc_mrks.getD j 0)))) (by decide +kernel) j hj
theorem me_d13 (j : Nat) (hj : j < 100) : Cond.eq (.elem (me_dt 13) (.int (Int32.ofNat j))) (.int (nI (48 + j / 10))) ∈ me_f := va_run (N := 100) (p := 128) (f := fun j => Cond.eq (.elem (me_dt 13) (.int (Int32.ofNat j))) (.int (nI (48 + j / 10)))) (by decide +kernel) j hj
theorem me_d14 (j : Nat) (hj : j < 100) : Cond.eq (.elem (me_dt 14) (.int (Int32.ofNat j))) (.int (nI (48 + j % 10))) ∈ me_f := va_run (N := 100) (p := 25) (f := fun j => Cond.eq (.elem (me_dt 14) (.int (Int32.ofNat j))) (.int (nI (48 + j % 10)))) (by decide +kernel) j hj
theorem me_s3 : (List.range 8).all (fun j => me_in (.eq (.elem (me_sv 3) (.int (Int32.ofNat j))) (.int (nI (mc_mtxt.getD j 0))))) = true := by decide +kernel
theorem me_s5 : (List.range 5).all (fun j => me_in (.eq (.elem (me_sv 5) (.int (Int32.ofNat j))) (.int (nI (mc_ktxt.getD j 0))))) = true := by decide +kernel
theorem me_v : (List.range 4).all (fun j => me_in (.eq (.elem me_vt (.int (Int32.ofNat j))) (me_kt j))) = true := by decide +kernel
theorem me_ne : (List.range 4).all (fun i => (List.range 4).all (fun j => decide (i = j) || (me_in (.not (.eq (me_kt i) (me_kt j))) || me_in (.not (.eq (me_kt j) (me_kt i)))))) = true := by decide +kernel
theorem me_kx : (List.range 4).all (fun j => me_in (.exactly (me_kt j) "DotBook$Kind")) = true := by decide +kernel
theorem me_w : [Cond.arrayOf (me_it 1) .int, .arrayOf (me_it 2) .int, .eq (.length (me_it 1)) (.int (Int32.ofNat 26)), .eq (.length (me_it 2)) (.int (Int32.ofNat 8)), .arrayOf (me_dt 13) .byte, .arrayOf (me_dt 14) .byte, .eq (.length (me_dt 13)) (.int (Int32.ofNat 100)), .eq (.length (me_dt 14)) (.int (Int32.ofNat 100)),
    .exactly (me_st 3) "java/lang/String", .exactly (me_st 5) "java/lang/String", .arrayOf (me_sv 3) .byte, .arrayOf (me_sv 5) .byte, .eq (.length (me_sv 3)) (.int (Int32.ofNat 8)), .eq (.length (me_sv 5)) (.int (Int32.ofNat 5)), .eq (.field (me_st 3) "java/lang/String" "coder" "B") (.int 0), .eq (.field (me_st 5) "java/lang/String" "coder" "B") (.int 0),
    .arrayOf me_vt (.object "DotBook$Kind"), .eq (.length me_vt) (.int (Int32.ofNat 4)), .exactly me_vt "[LDotBook$Kind;", .all me_vt (.le (.index 0) (.int 3)), .arrayOf me_et (.object "java/lang/Object"), .eq (.length me_et) (.int (Int32.ofNat 0)), .eq (.static "java/lang/String" "COMPACT_STRINGS" "Z") (.int (nI 1)),
    .isRef (.static "jdk/internal/util/Preconditions" "SIOOBE_FORMATTER" "Ljava/util/function/BiFunction;"), .isRef (.static "java/lang/Throwable" "UNASSIGNED_STACK" "[Ljava/lang/StackTraceElement;"), .isRef (.static "java/lang/Throwable" "SUPPRESSED_SENTINEL" "Ljava/util/List;"), .isRef (.mirror "[Ljava/lang/Object;"),
    .not (.castable "java/lang/IllegalStateException" "java/lang/IllegalArgumentException")].all me_in = true := by decide +kernel
def me_tb (w : Cond) : Bool := decide (w ∈ lw_tbl)
theorem me_ls : (List.range 12).all (fun q => me_tb (.laysStatic (mj_stn q).1 (mj_stn q).2.1 (mj_stn q).2.2) && me_tb (.initialized (mj_stn q).1)) = true := by decide +kernel
theorem me_t2 : [Cond.laysStatic "java/lang/Throwable" "UNASSIGNED_STACK" "[Ljava/lang/StackTraceElement;", .laysStatic "java/lang/Throwable" "SUPPRESSED_SENTINEL" "Ljava/util/List;", .initialized "java/lang/Throwable", .stringRef "DotBook" 137 "wbmea", .stringRef "DotBook" 27 ".,;:?!-'", .arrayOver (.object "DotBook$Kind"), .arrayOver (.object "DotBook$Rule"), .arrayOver (.object "DotBook$Block"), .arrayOver (.object "java/lang/Object")].all me_tb = true := by decide +kernel
theorem me_ins : (List.range 11).all (fun t => me_tb (.instantiable (mj_CN t) (mj_sl t))) = true := by decide +kernel
theorem me_16 : ∀ a, a < 20 → mc_T a = 16 → a = 1 ∨ a = 2 ∨ a = 17 := by decide
theorem me_17 : ∀ a, a < 20 → mc_T a = 17 → a = 4 ∨ a = 6 ∨ a = 13 ∨ a = 14 := by decide
theorem me_2 : ∀ a, a < 20 → mc_T a = 2 → a = 3 ∨ a = 5 := by decide
theorem me_11 : ∀ a, a < 20 → mc_T a = 11 → a = 8 ∨ a = 9 ∨ a = 10 ∨ a = 11 := by decide
def me_ad (l : List Nat) (n : Nat) : Nat := l.getD n 0
def me_ty : Nat → FieldType
  | 16 => .int | 17 => .byte | 18 => .char | 19 => .long | 20 => .object "DotBook$Kind" | 21 => .object "DotBook$Rule" | 22 => .object "DotBook$Block" | _ => .object "java/lang/Object"
theorem me_Tlt {ty : FieldType} {t N : Nat} {f : Nat → Value} {A : Nat → Prop} {U : State} {H : Heap} (h : va_T ty t N f A U H) : t < H.size := by
  obtain ⟨cell, h1, -⟩ := h
  exact (Array.getElem?_eq_some_iff.mp h1).1
theorem me_start {p : Program} {s : State} {m : MethodId} {meth : Method} {c : Code} {b L : Nat} {xs : Nat → Int32} (h : lw_At p s m meth c b L xs) : ∃ X : mr_X, mr_B X = s.heap.size ∧ mr_ad X 17 = b ∧ mr_G X xs L s := by
  obtain ⟨hx, hb, hr, hml, hown, hts, hX, hbl, hlk, hgv⟩ := h
  have wd := flat_of_before _ hgv
  have wi : ∀ {w : Cond}, me_in w = true → w.before #[Value.ref b] s = true := fun {w} q => wd w (of_decide_eq_true q)
  have wt : ∀ {w : Cond}, me_tb w = true → w.before #[Value.ref b] s = true := fun {w} q => hts w (of_decide_eq_true q)
  have hA : ∀ a : Nat, a < s.heap.size → ¬ (fun q : Nat => s.heap.size ≤ q) a := fun a h => Nat.not_le.mpr h
  have hw := me_w
  simp only [List.all_cons, List.all_nil, Bool.and_true, Bool.and_eq_true] at hw
  obtain ⟨w1, w2, w3, w4, w5, w6, w7, w8, w9, w10, w11, w12, w13, w14, w15, w16, w17, w18, w19, w20, w21, w22, w23, w24, w25, w26, w27, w28⟩ := hw
  have hw2 := me_t2
  simp only [List.all_cons, List.all_nil, Bool.and_true, Bool.and_eq_true] at hw2
  obtain ⟨v1, v2, v3, v4, v5, v6, v7, v8, v9⟩ := hw2
  have lz : ∀ q, q < 12 → ∀ v, (Term.static (mj_stn q).1 (mj_stn q).2.1 (mj_stn q).2.2).eval #[Value.ref b] s none [] s = some v → va_Z (mj_stn q).1 (mj_stn q).2.1 (mj_stn q).2.2 v (fun q => s.heap.size ≤ q) s s.heap := fun q hq v hv => by
    have := List.all_eq_true.mp me_ls q (List.mem_range.mpr hq)
    rw [Bool.and_eq_true] at this
    exact va_Zof (wt this.1) (wt this.2) hv hA
  obtain ⟨t1, e1, T1⟩ := va_Tof (A := fun q => s.heap.size ≤ q) (f := fun i => .int (nI (mc_lets.getD i 0))) (N := 26) (by decide) (wi w1) (va_eqt (wi w3)) (fun j hj => va_eqt (wd _ (me_i1 j hj))) hA
  obtain ⟨t2, e2, T2⟩ := va_Tof (A := fun q => s.heap.size ≤ q) (f := fun i => .int (nI (mc_mrks.getD i 0))) (N := 8) (by decide) (wi w2) (va_eqt (wi w4)) (fun j hj => va_eqt (wd _ (me_i2 j hj))) hA
  obtain ⟨t13, e13, T13⟩ := va_Tof (A := fun q => s.heap.size ≤ q) (f := fun i => .int (nI (48 + i / 10))) (N := 100) (by decide) (wi w5) (va_eqt (wi w7)) (fun j hj => va_eqt (wd _ (me_d13 j hj))) hA
  obtain ⟨t14, e14, T14⟩ := va_Tof (A := fun q => s.heap.size ≤ q) (f := fun i => .int (nI (48 + i % 10))) (N := 100) (by decide) (wi w6) (va_eqt (wi w8)) (fun j hj => va_eqt (wd _ (me_d14 j hj))) hA
  obtain ⟨a3, -, -, -, e3, -⟩ := Cond.exactly_spec (wi w9)
  obtain ⟨a5, -, -, -, e5, -⟩ := Cond.exactly_spec (wi w10)
  have O3 := va_Oof (A := fun q => s.heap.size ≤ q) (wi w9) e3 hA
  have O5 := va_Oof (A := fun q => s.heap.size ≤ q) (wi w10) e5 hA
  obtain ⟨t4, e4, T4⟩ := va_Tof (A := fun q => s.heap.size ≤ q) (f := fun i => .int (nI (mc_mtxt.getD i 0))) (N := 8) (by decide) (wi w11) (va_eqt (wi w13)) (fun j hj => va_eqt (wi (List.all_eq_true.mp me_s3 j (List.mem_range.mpr hj)))) hA
  obtain ⟨t6, e6, T6⟩ := va_Tof (A := fun q => s.heap.size ≤ q) (f := fun i => .int (nI (mc_ktxt.getD i 0))) (N := 5) (by decide) (wi w12) (va_eqt (wi w14)) (fun j hj => va_eqt (wi (List.all_eq_true.mp me_s5 j (List.mem_range.mpr hj)))) hA
  have F3 := vk_OFof (A := fun q => s.heap.size ≤ q) e3 e4 hA
  have F5 := vk_OFof (A := fun q => s.heap.size ≤ q) e5 e6 hA
  have C3 := vk_OFof (A := fun q => s.heap.size ≤ q) e3 (va_eqt (wi w15)) hA
  have C5 := vk_OFof (A := fun q => s.heap.size ≤ q) e5 (va_eqt (wi w16)) hA
  have hk0 : ∀ i : Nat, ∃ a : Nat, i < 4 → (me_kt i).eval #[Value.ref b] s none [] s = some (.ref a) ∧ va_O "DotBook$Kind" a (fun q => s.heap.size ≤ q) s s.heap := by
    intro i
    by_cases hi : i < 4
    · have w := wi (List.all_eq_true.mp me_kx i (List.mem_range.mpr hi))
      obtain ⟨a, -, -, -, e, -⟩ := Cond.exactly_spec w
      exact ⟨a, fun _ => ⟨e, va_Oof w e hA⟩⟩
    · exact ⟨0, fun q => absurd q hi⟩
  obtain ⟨kd, hkd⟩ := Classical.axiomOfChoice hk0
  have hne : ∀ i j, i < 4 → j < 4 → i ≠ j → kd i ≠ kd j := by
    intro i j hi hj hij
    have w := List.all_eq_true.mp (List.all_eq_true.mp me_ne i (List.mem_range.mpr hi)) j (List.mem_range.mpr hj)
    rw [Bool.or_eq_true, Bool.or_eq_true, decide_eq_true_eq] at w
    rcases w with w | w | w
    · exact absurd w hij
    · exact va_neR (wi w) (hkd i hi).1 (hkd j hj).1
    · exact fun e => va_neR (wi w) (hkd j hj).1 (hkd i hi).1 e.symm
  obtain ⟨tv, ev, Tv⟩ := va_Tof (A := fun q => s.heap.size ≤ q) (f := fun i => .ref (kd i)) (N := 4) (by decide) (wi w17) (va_eqt (wi w18)) (fun j hj => me_eqR (wi (List.all_eq_true.mp me_v j (List.mem_range.mpr hj))) (hkd j hj).1) hA
  obtain ⟨te, ee, Te⟩ := va_Tof (A := fun q => s.heap.size ≤ q) (f := fun _ => .null) (N := 0) (by decide) (wi w21) (va_eqt (wi w22)) (fun j hj => absurd hj (Nat.not_lt_zero _)) hA
  obtain ⟨si, e15⟩ : ∃ si : Option Nat, (Term.static "jdk/internal/util/Preconditions" "SIOOBE_FORMATTER" "Ljava/util/function/BiFunction;").eval #[Value.ref b] s none [] s = some (va_rf si) := by
    have h := wi w24
    cases hv : (Term.static "jdk/internal/util/Preconditions" "SIOOBE_FORMATTER" "Ljava/util/function/BiFunction;").eval #[Value.ref b] s none [] s with
    | none => simp [Cond.before, Cond.holds, Cond.value, hv] at h
    | some w =>
      simp only [Cond.before, Cond.holds, Cond.value, hv] at h
      cases w with
      | null => exact ⟨none, rfl⟩
      | ref t => exact ⟨some t, rfl⟩
      | _ => simp at h
  obtain ⟨mi, hmi⟩ := va_Mi.of (wi w27)
  have T17 : va_T .int b L (fun i => .int (xs i)) (fun q => s.heap.size ≤ q) s s.heap := by
    obtain ⟨scr, x1, x2, x3, x4, x5⟩ := hX
    exact ⟨scr, x1, x2, x3, (by omega), (by rw [x4]), x5, hA b hbl⟩
  have hg0 : ∀ t : Nat, ∃ q : ClassId × (Nat → Nat), t < 11 → u_Kn s (mj_CN t) (mj_F t) (mj_nf t) q.1 q.2 := by
    intro t
    by_cases ht : t < 11
    · obtain ⟨cC, iS, hK⟩ := u_known (ws := lw_tbl) (T := mj_F t) (N := mj_nf t) hts (fun w hw => by
        have := List.all_eq_true.mp (mj_wsok t ht) w hw
        simp only [mj_has, Bool.and_eq_true, decide_eq_true_eq] at this
        exact this.1) (wt (List.all_eq_true.mp me_ins t (List.mem_range.mpr ht)))
      exact ⟨(cC, iS), fun _ => hK⟩
    · exact ⟨(0, fun _ => 0), fun q => absurd q ht⟩
  obtain ⟨g, hg⟩ := Classical.axiomOfChoice hg0
  have arrP : ∀ (ty : FieldType), (Cond.arrayClass ty).before #[Value.ref b] s = true → ∃ cA : ClassId, ArrOfT s cA ty ∧ s.vm.findClass ("[" ++ ty.toString) = some cA := by
    intro ty hw
    obtain ⟨cA, k, comp, h1, h2, h3⟩ := Cond.arrayClass_spec hw
    exact ⟨cA, fun n z => ⟨fun _ q => (by cases q), k, h2, comp, h3⟩, h1⟩
  have arrO : ∀ (C : String), (Cond.arrayOver (.object C)).before #[Value.ref b] s = true → ∃ cA : ClassId, ArrOfT s cA (.object C) ∧ va_RA s cA (.object C) := by
    intro C hw
    obtain ⟨comp, cA, k, h1, h2, h3, h4, h5⟩ := Cond.arrayOver_spec hw
    exact ⟨cA, fun n z => ⟨fun _ q => (by cases q), k, h3, comp, h4⟩, k, comp, h3, h4, h1, h5⟩
  have hmvt : ∀ {w : Cond}, mj_has w = true → w.before #[Value.ref b] s = true := fun {w} q => by
    simp only [mj_has, Bool.and_eq_true, decide_eq_true_eq] at q
    exact hts w q.1
  obtain ⟨d16, p16, q16⟩ := arrP .int (hmvt mj_acI)
  obtain ⟨d17, p17, q17⟩ := arrP .byte (hmvt mj_acB)
  obtain ⟨d18, p18, q18⟩ := arrP .char (hmvt mj_acC)
  obtain ⟨d19, p19, q19⟩ := arrP .long (hmvt mj_acL)
  obtain ⟨d20, p20, q20⟩ := arrO "DotBook$Kind" (wt v6)
  obtain ⟨d21, p21, q21⟩ := arrO "DotBook$Rule" (wt v7)
  obtain ⟨d22, p22, q22⟩ := arrO "DotBook$Block" (wt v8)
  obtain ⟨d23, p23, q23⟩ := arrO "java/lang/Object" (wt v9)
  let X : mr_X := (s.heap.size, me_ad [0, t1, t2, a3, t4, a5, t6, tv, kd 0, kd 1, kd 2, kd 3, te, t13, t14, 0, mi, b], si, (fun t => (g t).1, fun t => (g t).2), fun t => [d16, d17, d18, d19, d20, d21, d22, d23].getD (t - 16) 0)
  have had : ∀ i, i < 4 → mr_ad X (8 + i) = kd i := by
    intro i hi
    rcases (show i = 0 ∨ i = 1 ∨ i = 2 ∨ i = 3 by omega) with rfl | rfl | rfl | rfl <;> rfl
  refine ⟨X, rfl, rfl, fun w h1 h2 => mj_mv_of h2 (hts w h1), ⟨fun t q hq => ?_, fun k q hq => ?_⟩, ?_, Nat.le_refl _⟩
  · have ht : t < 11 := (List.getElem?_eq_some_iff.mp hq).1
    cases (mj_cls_at t ht).symm.trans hq
    exact hg t ht
  · have hk : k < 8 := (List.getElem?_eq_some_iff.mp hq).1
    rcases (show k = 0 ∨ k = 1 ∨ k = 2 ∨ k = 3 ∨ k = 4 ∨ k = 5 ∨ k = 6 ∨ k = 7 by omega) with rfl | rfl | rfl | rfl | rfl | rfl | rfl | rfl
    · cases hq; exact ⟨p16, q16⟩
    · cases hq; exact ⟨p17, q17⟩
    · cases hq; exact ⟨p18, q18⟩
    · cases hq; exact ⟨p19, q19⟩
    · cases hq; exact ⟨p20, q20⟩
    · cases hq; exact ⟨p21, q21⟩
    · cases hq; exact ⟨p22, q22⟩
    · cases hq; exact ⟨p23, q23⟩
  · refine ⟨fun a ha hc => ?_, fun a ha hc => ?_, fun a ha hc => ?_, fun a ha hc => ?_, ?_, ?_, Te, fun q hq => lz q hq _ ?_, vk_R.of (wt v4) e5, vk_R.of (wt v5) e3, hmi, fun t h1 h2 => ?_, ⟨va_Zqof (wt v1) (wt v3) (wi w25) hA, mt_LS.of (wt v1) hA⟩, ⟨va_Zqof (wt v2) (wt v3) (wi w26) hA, mt_LS.of (wt v2) hA⟩, va_Nc.of (wi w28), fun x z h1 h2 h3 h4 e => ?_, fun a ha h16 => ?_⟩
    · rcases me_16 a ha hc with rfl | rfl | rfl
      · exact T1
      · exact T2
      · exact T17
    · rcases me_17 a ha hc with rfl | rfl | rfl | rfl
      · exact T4
      · exact T6
      · exact T13
      · exact T14
    · rcases me_2 a ha hc with rfl | rfl
      · exact ⟨F3, C3, O3⟩
      · exact ⟨F5, C5, O5⟩
    · rcases me_11 a ha hc with rfl | rfl | rfl | rfl
      · exact (hkd 0 (by omega)).2
      · exact (hkd 1 (by omega)).2
      · exact (hkd 2 (by omega)).2
      · exact (hkd 3 (by omega)).2
    · obtain ⟨cell, x1, x2, x3, x4, x5, x6, x7⟩ := Tv
      exact ⟨cell, x1, x2, x3, x4, x5, fun j hj => (by show cell.slots[j]? = some (.ref (mr_ad X (8 + j))); rw [had j hj]; exact x6 j hj), x7⟩
    · obtain ⟨a9, c9, cell9, k9, y1, y2, y3, y4, y5, y6, -⟩ := Cond.exactly_spec (wi w19)
      cases ev.symm.trans y1
      obtain ⟨a8, cell8, z1, z2, z3⟩ := Term.length_spec (va_eqt (wi w18))
      cases ev.symm.trans z1
      obtain ⟨hc8, -, -, -⟩ := State.arrayAt?_spec z2
      cases y3.symm.trans hc8
      have hall := Cond.all_elim ev z2 (by simpa [Cond.before, Cond.holds] using wi w20)
      obtain ⟨cell, x1, x2, x3, x4, x5, x6, x7⟩ := Tv
      cases y3.symm.trans x1
      have hs4 : ¬ 4 < cell9.slots.size := by
        intro q
        have := hall 4 q
        simp [Cond.value, Term.eval] at this
        exact absurd this (by decide)
      have hcl : cell9.cls = d20 := by
        rw [y6]
        have := va_nmO (nm := "[LDotBook$Kind;") q20 rfl
        exact Option.some.inj (y2.symm.trans this)
      exact ⟨cell9, x1, hcl, (by omega), (Array.getElem?_eq_some_iff.mp x1).1⟩
    · rcases (show q = 0 ∨ q = 1 ∨ q = 2 ∨ q = 3 ∨ q = 4 ∨ q = 5 ∨ q = 6 ∨ q = 7 ∨ q = 8 ∨ q = 9 ∨ q = 10 ∨ q = 11 by omega) with rfl | rfl | rfl | rfl | rfl | rfl | rfl | rfl | rfl | rfl | rfl | rfl
      · exact va_eqt (wi w23)
      · exact e1
      · exact e2
      · exact ev
      · exact (hkd 0 (by omega)).1
      · exact (hkd 1 (by omega)).1
      · exact (hkd 2 (by omega)).1
      · exact (hkd 3 (by omega)).1
      · exact ee
      · exact e13
      · exact e14
      · exact e15
    · rcases (show t = 20 ∨ t = 21 ∨ t = 22 ∨ t = 23 by omega) with rfl | rfl | rfl | rfl
      · exact va_AO.of (wt v6)
      · exact va_AO.of (wt v7)
      · exact va_AO.of (wt v8)
      · exact va_AO.of (wt v9)
    · obtain ⟨i, rfl⟩ : ∃ i, x = 8 + i := ⟨x - 8, by omega⟩
      obtain ⟨j, rfl⟩ : ∃ j, z = 8 + j := ⟨z - 8, by omega⟩
      rw [had i (by omega), had j (by omega)] at e
      by_cases q : i = j
      · rw [q]
      · exact absurd e (hne i j (by omega) (by omega) q)
    · have olt : ∀ {E : String} {a : Nat}, va_O E a (fun q => s.heap.size ≤ q) s s.heap → a < s.heap.size := fun {E a} q => (Array.getElem?_eq_some_iff.mp q.choose_spec.1).1
      show me_ad [0, t1, t2, a3, t4, a5, t6, tv, kd 0, kd 1, kd 2, kd 3, te, t13, t14, 0, mi, b] a < s.heap.size
      have h0 : 0 < s.heap.size := Nat.lt_of_le_of_lt (Nat.zero_le _) hbl
      rcases (show a = 0 ∨ a = 1 ∨ a = 2 ∨ a = 3 ∨ a = 4 ∨ a = 5 ∨ a = 6 ∨ a = 7 ∨ a = 8 ∨ a = 9 ∨ a = 10 ∨ a = 11 ∨ a = 12 ∨ a = 13 ∨ a = 14 ∨ a = 15 ∨ a = 17 ∨ a = 18 ∨ a = 19 by omega) with rfl | rfl | rfl | rfl | rfl | rfl | rfl | rfl | rfl | rfl | rfl | rfl | rfl | rfl | rfl | rfl | rfl | rfl | rfl
      · exact h0
      · exact me_Tlt T1
      · exact me_Tlt T2
      · exact olt O3
      · exact me_Tlt T4
      · exact olt O5
      · exact me_Tlt T6
      · exact me_Tlt Tv
      · exact olt (hkd 0 (by omega)).2
      · exact olt (hkd 1 (by omega)).2
      · exact olt (hkd 2 (by omega)).2
      · exact olt (hkd 3 (by omega)).2
      · exact me_Tlt Te
      · exact me_Tlt T13
      · exact me_Tlt T14
      · exact h0
      · exact hbl
      · exact h0
      · exact h0
/-- the small machine's heap at the start -/
def me_h (xs : Nat → Int32) (L : Nat) : mj_H := (mc_I xs, mc_R, fun _ _ => 0, mc_T, mc_N L, 20, 0)
theorem me_63 (a : Nat) (h : 20 ≤ a) : mc_T a = 63 := by
  unfold mc_T
  split <;> first | omega | rfl
theorem me_H {X : mr_X} {xs : Nat → Int32} {L : Nat} {H : Heap} : mr_H X xs L (me_h xs L) H := by
  refine ⟨Nat.le_refl _, fun a ha => me_63 a ha, fun a h1 h2 => absurd h2 (Nat.not_lt.mpr h1), fun a ha => ⟨rfl, rfl, fun _ => rfl, fun _ => rfl⟩, fun a i h1 h2 => ?_, fun k q hq => ?_⟩
  · have h2 : mc_T a = 17 := h2
    rw [me_63 a h1] at h2
    cases h2
  · have : mr_ws X (me_h xs L) = [] := rfl
    rw [this] at hq
    cases hq
/-- the law's walk out of the small machine's -/
theorem me_whole {p : Program} (l : Launch) {e : Env} {s : State} {m : MethodId} {below : List Frame} {meth : Method} {c : Code} {b L : Nat} {xs : Nat → Int32} (htr : l.admits e → e.platform.stackTraces = false) (h : lw_At p s m meth c b L xs) (hnm : meth.name = "law") (hex : c.exceptionTable.toList = [])
    (k : Ends 100 168 0 (mj_ent 168 [.ref 17]) [] (me_h xs L) (fun o _ => o = .inl (some (.int 1)))) : W p l e room_1 s m #[Value.ref b] below meth c s.heap [] 0 0 (lw_Z below #[Value.ref b] s) (entryFrame m ([Value.ref b] : List Value).toArray 7) := by
  obtain ⟨X, hB, h17, G⟩ := me_start h
  obtain ⟨hx, hb, hr, hml, hown, hts, hX, hbl, hlk, hgv⟩ := h
  intro T hT X0
  have Z := mr_sound (X := X) (xs := xs) (L := L) (p := p) (l := l) (e := e) (htr X0.admits) k room_1 s m #[Value.ref b] below meth c s.heap [] 0 0 _
    ⟨⟨hx, hb, hml, hown, hr, hlk, hnm, by rw [hex]; rfl⟩, G, by decide, by decide⟩ ⟨Nat.zero_le _, (by show 0 + (600000 - 0) ≤ 600288; omega), (by show 0 + (600000 - 0) ≤ 7295648; omega), me_H, va_S.rf, by rw [hB]; rfl, mr_ent (by decide) rfl⟩
  have hz := W.monoQ (Q' := lw_Z below #[Value.ref b] s) (fun t q => ?_) Z
  · rw [lg_entry_eq]
    have e17 : mr_v X (.ref 17) = .ref b := by rw [mr_v_con (by omega) (by omega) (by omega), h17]
    have := hz T hT X0
    simp only [List.map_cons, List.map_nil, e17] at this
    exact this
  · obtain ⟨o, h', Lc, kc, nc, q1, q2, q3, q4, q5, q6, q7, q8, q9, q10, q11, q12, q13, q14, q15⟩ := q
    subst q15
    refine ⟨_, q1, q2, rfl, ⟨_, rfl⟩, q3, q4.weaken (fun x hx hl => ?_) ?_ ?_⟩
    · have := q5 x hx
      rw [hB] at this
      exact absurd hl (Nat.not_lt.mpr this)
    · have : kc + (mj_M - mj_U h') ≤ 600288 := q7
      omega
    · have : nc + (mj_M - mj_U h') ≤ 7295648 := q8
      omega
end
section
/-! PURE PART: rows on 'Ends', no program of the real machine from here on -/
theorem Ends.up {d d' y pc : Nat} {lc st : List Value} {h : mj_H} {P : mj_P} (k : Ends d y pc lc st h P) (hd : d ≤ d') : Ends d' y pc lc st h P := by
  refine Ends.ind (Z := fun d y pc lc st h P => ∀ d', d ≤ d' → Ends d' y pc lc st h P) ?_ k d' hd
  intro d y pc lc st h P k d' hd
  rcases k with ⟨S, pc', lc', st', h', e, s, z⟩ | k | k | ⟨S, z, as, r, pc', d0, Q, e, s, hd0, k1, k2, k3⟩
  · exact Ends.of (Or.inl ⟨S, pc', lc', st', h', e, s, z d' hd⟩)
  · exact Ends.of (Or.inr (Or.inl k))
  · exact Ends.of (Or.inr (Or.inr (Or.inl k)))
  · refine Ends.of (Or.inr (Or.inr (Or.inr ⟨S, z, as, r, pc', d' - 1, Q, e, s, by omega, k1 (d' - 1) (by omega), fun v h' q => k2 v h' q d' hd, fun a h' q => ?_⟩)))
    rcases k3 a h' q with ⟨hp, q1, q2⟩ | q
    · exact Or.inl ⟨hp, q1, q2 d' hd⟩
    · exact Or.inr q
/-- a method hands back v and leaves the heap as it is -/
abbrev Gv (k z : Nat) (as : List Value) (h : mj_H) (v : Option Value) : Prop := Ends k z 0 (mj_ent z as) [] h (fun o h' => o = .inl v ∧ h' = h)
/-- a method ends without an exception -/
abbrev Rt (k z : Nat) (as : List Value) (h : mj_H) (Q : Option Value → mj_H → Prop) : Prop := Ends k z 0 (mj_ent z as) [] h (fun o h' => ∃ v, o = .inl v ∧ Q v h')
section
variable {k d y pc z pc' : Nat} {lc st as r : List Value} {h : mj_H} {P : mj_P} {S : List Prop}
theorem E_gv {v : Option Value} (q : Gv k z as h v) (e : mj_cal y pc st h = some (S, z, as, r, pc')) (s : mj_all S) (hk : k < d) (k2 : Ends d y pc' lc (v.toList ++ r) h P) : Ends d y pc lc st h P :=
  Ends.of (Or.inr (Or.inr (Or.inr ⟨S, z, as, r, pc', d - 1, _, e, s, by omega, q.up (by omega), fun v' h' q => by obtain ⟨e9, e8⟩ := q; cases e9; rw [e8]; exact k2, fun a h' q => by cases q.1⟩)))
theorem E_rt {Q : Option Value → mj_H → Prop} (q : Rt k z as h Q) (e : mj_cal y pc st h = some (S, z, as, r, pc')) (s : mj_all S) (hk : k < d) (k2 : ∀ v h', Q v h' → Ends d y pc' lc (v.toList ++ r) h' P) : Ends d y pc lc st h P :=
  Ends.of (Or.inr (Or.inr (Or.inr ⟨S, z, as, r, pc', d - 1, _, e, s, by omega, q.up (by omega), fun v' h' q => by obtain ⟨w, e, q⟩ := q; cases e; exact k2 _ _ q, fun a h' q => by obtain ⟨w, e, -⟩ := q; cases e⟩)))
theorem E_xt {Q : mj_P} (q : Ends k z 0 (mj_ent z as) [] h Q) (e : mj_cal y pc st h = some (S, z, as, r, pc')) (s : mj_all S) (hk : k < d) (k2 : ∀ v h', Q (.inl v) h' → Ends d y pc' lc (v.toList ++ r) h' P)
    (k3 : ∀ a h', Q (.inr a) h' → (∃ hp, mj_hf pc (mj_T h' a) (mj_hd y) = some (some hp) ∧ Ends d y hp lc [.ref a] h' P) ∨ (mj_hf pc (mj_T h' a) (mj_hd y) = some none ∧ P (.inr a) h')) : Ends d y pc lc st h P :=
  Ends.of (Or.inr (Or.inr (Or.inr ⟨S, z, as, r, pc', d - 1, _, e, s, by omega, q.up (by omega), k2, k3⟩)))
variable {t f : Nat}
theorem E_lt {a b : Nat} (kt : a < b → Ends d y t lc st h P) (kf : b ≤ a → Ends d y f lc st h P) (ha : a < 2 ^ 31 := by omega) (hb : b < 2 ^ 31 := by omega) : Ends d y (if nI a < nI b then t else f) lc st h P :=
  E_if (fun q => kt ((nI_ltI ha hb).mp q)) (fun q => kf (Nat.not_lt.mp (fun w => q ((nI_ltI ha hb).mpr w))))
theorem E_le {a b : Nat} (kt : a ≤ b → Ends d y t lc st h P) (kf : b < a → Ends d y f lc st h P) (ha : a < 2 ^ 31 := by omega) (hb : b < 2 ^ 31 := by omega) : Ends d y (if nI a ≤ nI b then t else f) lc st h P :=
  E_if (fun q => kt ((nI_leI ha hb).mp q)) (fun q => kf (Nat.not_le.mp (fun w => q ((nI_leI ha hb).mpr w))))
theorem E_eq {a b : Nat} (kt : a = b → Ends d y t lc st h P) (kf : a ≠ b → Ends d y f lc st h P) (ha : a < 2 ^ 31 := by omega) (hb : b < 2 ^ 31 := by omega) : Ends d y (if nI a = nI b then t else f) lc st h P :=
  E_if (fun q => kt ((nI_eq ha hb).mp q)) (fun q => kf (fun w => q ((nI_eq ha hb).mpr w)))
theorem E_eq0 {a : Nat} (kt : a = 0 → Ends d y t lc st h P) (kf : a ≠ 0 → Ends d y f lc st h P) (ha : a < 2 ^ 31 := by omega) : Ends d y (if nI a = 0 then t else f) lc st h P :=
  E_if (fun q => kt ((nI_eq ha (by omega)).mp (q.trans nI_0.symm))) (fun q => kf (fun w => q (by rw [w]; exact nI_0)))
theorem E_lt0 {a : Nat} (kf : Ends d y f lc st h P) (ha : a < 2 ^ 31 := by omega) : Ends d y (if nI a < 0 then t else f) lc st h P := by
  rw [if_neg (nI_pos ha)]; exact kf
theorem E_ge0 {a : Nat} (kt : Ends d y t lc st h P) (ha : a < 2 ^ 31 := by omega) : Ends d y (if 0 ≤ nI a then t else f) lc st h P := by
  rw [if_pos (nI_pos' ha)]; exact kt
theorem E_gt0 {a : Nat} (kt : 0 < a → Ends d y t lc st h P) (kf : a = 0 → Ends d y f lc st h P) (ha : a < 2 ^ 31 := by omega) : Ends d y (if 0 < nI a then t else f) lc st h P := by
  rcases Nat.eq_zero_or_pos a with q | q
  · subst q
    rw [if_neg (by decide)]
    exact kf rfl
  · rw [if_pos (by have := (nI_ltI (a := 0) (b := a) (by omega) ha).mpr q; rw [nI_0] at this; exact this)]
    exact kt q
theorem E_le0 {a : Nat} (kt : a = 0 → Ends d y t lc st h P) (kf : 0 < a → Ends d y f lc st h P) (ha : a < 2 ^ 31 := by omega) : Ends d y (if nI a ≤ 0 then t else f) lc st h P := by
  rcases Nat.eq_zero_or_pos a with q | q
  · subst q
    rw [if_pos (by decide)]
    exact kt rfl
  · rw [if_neg (nI_nle q ha)]
    exact kf q
theorem E_tt {c : Prop} [Decidable c] (q : c) (kt : Ends d y t lc st h P) : Ends d y (if c then t else f) lc st h P := by rw [if_pos q]; exact kt
theorem E_ff {c : Prop} [Decidable c] (q : ¬ c) (kf : Ends d y f lc st h P) : Ends d y (if c then t else f) lc st h P := by rw [if_neg q]; exact kf
end
/-- true and false as Java's ints -/
def bI (b : Bool) : Int32 := nI (bif b then 1 else 0)
theorem bI_t : bI true = nI 1 := rfl
theorem bI_f : bI false = nI 0 := rfl
theorem bI_01 (b : Bool) : mj_01 (bI b) := by cases b; exact Or.inl rfl; exact Or.inr rfl
theorem E_b {d y t f : Nat} {lc st : List Value} {h : mj_H} {P : mj_P} {b : Bool} (kt : b = true → Ends d y t lc st h P) (kf : b = false → Ends d y f lc st h P) : Ends d y (if bI b = 0 then f else t) lc st h P := by
  cases b with
  | true => rw [if_neg (by decide)]; exact kt rfl
  | false => rw [if_pos (by decide)]; exact kf rfl
/-! reads behind writes -/
section
variable {h : mj_H} {a k x i t n u : Nat} {v : Int32} {w : Nat} {q : Int64}
theorem I_wI : mj_I (mj_wI h a k v) x i = if x = a ∧ i = k then v else mj_I h x i := rfl
theorem I_wR : mj_I (mj_wR h a k w) x i = mj_I h x i := rfl
theorem I_wL : mj_I (mj_wL h a k q) x i = mj_I h x i := rfl
theorem I_nw : mj_I (mj_nw h t n u) x i = if x = mj_Z h then 0 else mj_I h x i := rfl
theorem I_cl : mj_I (mj_cl h a) x i = if x = mj_Z h then mj_I h a i else mj_I h x i := rfl
theorem I_cp {s sp d dp m : Nat} : mj_I (mj_cp h s sp d dp m) x i = if x = d ∧ dp ≤ i ∧ i < dp + m then mj_I h s (sp + (i - dp)) else mj_I h x i := rfl
theorem R_wI : mj_R (mj_wI h a k v) x i = mj_R h x i := rfl
theorem R_wR : mj_R (mj_wR h a k w) x i = if x = a ∧ i = k then w else mj_R h x i := rfl
theorem R_wL : mj_R (mj_wL h a k q) x i = mj_R h x i := rfl
theorem R_nw : mj_R (mj_nw h t n u) x i = if x = mj_Z h then 0 else mj_R h x i := rfl
theorem R_cl : mj_R (mj_cl h a) x i = if x = mj_Z h then mj_R h a i else mj_R h x i := rfl
theorem R_cp {s sp d dp m : Nat} : mj_R (mj_cp h s sp d dp m) x i = if x = d ∧ dp ≤ i ∧ i < dp + m then mj_R h s (sp + (i - dp)) else mj_R h x i := rfl
theorem L_wI : mj_L (mj_wI h a k v) x i = mj_L h x i := rfl
theorem L_wR : mj_L (mj_wR h a k w) x i = mj_L h x i := rfl
theorem L_wL : mj_L (mj_wL h a k q) x i = if x = a ∧ i = k then q else mj_L h x i := rfl
theorem L_nw : mj_L (mj_nw h t n u) x i = if x = mj_Z h then 0 else mj_L h x i := rfl
theorem L_cl : mj_L (mj_cl h a) x i = if x = mj_Z h then mj_L h a i else mj_L h x i := rfl
theorem L_cp {s sp d dp m : Nat} : mj_L (mj_cp h s sp d dp m) x i = mj_L h x i := rfl
theorem T_wI : mj_T (mj_wI h a k v) x = mj_T h x := rfl
theorem T_wR : mj_T (mj_wR h a k w) x = mj_T h x := rfl
theorem T_wL : mj_T (mj_wL h a k q) x = mj_T h x := rfl
theorem T_nw : mj_T (mj_nw h t n u) x = if x = mj_Z h then t else mj_T h x := rfl
theorem T_cl : mj_T (mj_cl h a) x = if x = mj_Z h then mj_T h a else mj_T h x := rfl
theorem T_cp {s sp d dp m : Nat} : mj_T (mj_cp h s sp d dp m) x = mj_T h x := rfl
theorem N_wI : mj_N (mj_wI h a k v) x = mj_N h x := rfl
theorem N_wR : mj_N (mj_wR h a k w) x = mj_N h x := rfl
theorem N_wL : mj_N (mj_wL h a k q) x = mj_N h x := rfl
theorem N_nw : mj_N (mj_nw h t n u) x = if x = mj_Z h then n else mj_N h x := rfl
theorem N_cl : mj_N (mj_cl h a) x = if x = mj_Z h then mj_N h a else mj_N h x := rfl
theorem N_cp {s sp d dp m : Nat} : mj_N (mj_cp h s sp d dp m) x = mj_N h x := rfl
theorem Z_wI : mj_Z (mj_wI h a k v) = mj_Z h := rfl
theorem Z_wR : mj_Z (mj_wR h a k w) = mj_Z h := rfl
theorem Z_wL : mj_Z (mj_wL h a k q) = mj_Z h := rfl
theorem Z_nw : mj_Z (mj_nw h t n u) = mj_Z h + 1 := rfl
theorem Z_cl : mj_Z (mj_cl h a) = mj_Z h + 1 := rfl
theorem Z_cp {s sp d dp m : Nat} : mj_Z (mj_cp h s sp d dp m) = mj_Z h := rfl
theorem U_wI : mj_U (mj_wI h a k v) = mj_U h := rfl
theorem U_wR : mj_U (mj_wR h a k w) = mj_U h := rfl
theorem U_wL : mj_U (mj_wL h a k q) = mj_U h := rfl
theorem U_nw : mj_U (mj_nw h t n u) = mj_U h + (1 + u) := rfl
theorem U_cl : mj_U (mj_cl h a) = mj_U h + (1 + mj_N h a) := rfl
theorem U_cp {s sp d dp m : Nat} : mj_U (mj_cp h s sp d dp m) = mj_U h := rfl
end
/-- h' agrees with h on what was there, but for the contents of the places in S -/
def Eqo (S : Nat → Prop) (h h' : mj_H) : Prop := mj_Z h ≤ mj_Z h' ∧ ∀ a, a < mj_Z h → mj_T h' a = mj_T h a ∧ mj_N h' a = mj_N h a ∧ (¬ S a → mj_I h' a = mj_I h a ∧ mj_R h' a = mj_R h a ∧ mj_L h' a = mj_L h a)
section
variable {S S' : Nat → Prop} {h h1 h2 : mj_H} {a k : Nat}
theorem Eqo.rf : Eqo S h h := ⟨Nat.le_refl _, fun _ _ => ⟨rfl, rfl, fun _ => ⟨rfl, rfl, rfl⟩⟩⟩
theorem Eqo.tr (q : Eqo S h h1) (q2 : Eqo S h1 h2) : Eqo S h h2 := ⟨Nat.le_trans q.1 q2.1, fun a ha => by
  obtain ⟨a1, a2, a3⟩ := q.2 a ha
  obtain ⟨b1, b2, b3⟩ := q2.2 a (Nat.lt_of_lt_of_le ha q.1)
  exact ⟨b1.trans a1, b2.trans a2, fun w => ⟨(b3 w).1.trans (a3 w).1, (b3 w).2.1.trans (a3 w).2.1, (b3 w).2.2.trans (a3 w).2.2⟩⟩⟩
theorem Eqo.mn (q : Eqo S h h1) (w : ∀ a, a < mj_Z h → S a → S' a) : Eqo S' h h1 := ⟨q.1, fun a ha => ⟨(q.2 a ha).1, (q.2 a ha).2.1, fun n => (q.2 a ha).2.2 (fun z => n (w a ha z))⟩⟩
theorem Eqo.wI {v : Int32} (w : a < mj_Z h → S a) : Eqo S h (mj_wI h a k v) := ⟨Nat.le_refl _, fun b hb => ⟨rfl, rfl, fun n => ⟨by funext i; rw [I_wI, if_neg]; rintro ⟨rfl, -⟩; exact n (w hb), rfl, rfl⟩⟩⟩
theorem Eqo.wR {v : Nat} (w : a < mj_Z h → S a) : Eqo S h (mj_wR h a k v) := ⟨Nat.le_refl _, fun b hb => ⟨rfl, rfl, fun n => ⟨rfl, by funext i; rw [R_wR, if_neg]; rintro ⟨rfl, -⟩; exact n (w hb), rfl⟩⟩⟩
theorem Eqo.wL {v : Int64} (w : a < mj_Z h → S a) : Eqo S h (mj_wL h a k v) := ⟨Nat.le_refl _, fun b hb => ⟨rfl, rfl, fun n => ⟨rfl, rfl, by funext i; rw [L_wL, if_neg]; rintro ⟨rfl, -⟩; exact n (w hb)⟩⟩⟩
theorem Eqo.nw {t n u : Nat} : Eqo S h (mj_nw h t n u) := ⟨Nat.le_succ _, fun b hb => by
  have hn : b ≠ mj_Z h := Nat.ne_of_lt hb
  exact ⟨by rw [T_nw, if_neg hn], by rw [N_nw, if_neg hn], fun _ => ⟨by funext i; rw [I_nw, if_neg hn], by funext i; rw [R_nw, if_neg hn], by funext i; rw [L_nw, if_neg hn]⟩⟩⟩
theorem Eqo.cl : Eqo S h (mj_cl h a) := ⟨Nat.le_succ _, fun b hb => by
  have hn : b ≠ mj_Z h := Nat.ne_of_lt hb
  exact ⟨by rw [T_cl, if_neg hn], by rw [N_cl, if_neg hn], fun _ => ⟨by funext i; rw [I_cl, if_neg hn], by funext i; rw [R_cl, if_neg hn], by funext i; rw [L_cl, if_neg hn]⟩⟩⟩
theorem Eqo.cp {s sp dp n : Nat} (w : a < mj_Z h → S a) : Eqo S h (mj_cp h s sp a dp n) := ⟨Nat.le_refl _, fun b hb => ⟨rfl, rfl, fun m => ⟨by funext i; rw [I_cp, if_neg]; rintro ⟨rfl, -⟩; exact m (w hb), by funext i; rw [R_cp, if_neg]; rintro ⟨rfl, -⟩; exact m (w hb), rfl⟩⟩⟩
theorem Eqo.T (q : Eqo S h h1) (ha : a < mj_Z h) : mj_T h1 a = mj_T h a := (q.2 a ha).1
theorem Eqo.N (q : Eqo S h h1) (ha : a < mj_Z h) : mj_N h1 a = mj_N h a := (q.2 a ha).2.1
theorem Eqo.I (q : Eqo S h h1) (ha : a < mj_Z h) (n : ¬ S a) : mj_I h1 a k = mj_I h a k := by rw [((q.2 a ha).2.2 n).1]
theorem Eqo.R (q : Eqo S h h1) (ha : a < mj_Z h) (n : ¬ S a) : mj_R h1 a k = mj_R h a k := by rw [((q.2 a ha).2.2 n).2.1]
theorem Eqo.L (q : Eqo S h h1) (ha : a < mj_Z h) (n : ¬ S a) : mj_L h1 a k = mj_L h a k := by rw [((q.2 a ha).2.2 n).2.2]
end
/-! the twin's small methods -/
def sm (c : Nat) : Bool := decide (97 ≤ c ∧ c ≤ 122)
theorem m_isSmall {h : mj_H} {c : Nat} (hc : c < 65536) : Gv 0 52 [.ref 31, .int (nI c)] h (some (.int (bI (sm c)))) := by
  refine E_run 3 rfl trivial (E_lt (fun q => ?_) (fun q => ?_))
  · refine E_run 1 rfl trivial (E_ret rfl (Or.inl rfl) ⟨?_, rfl⟩)
    rw [show sm c = false from decide_eq_false (by omega)]; rfl
  · refine E_run 3 rfl trivial (E_lt (fun q2 => ?_) (fun q2 => ?_))
    · refine E_run 1 rfl trivial (E_ret rfl (Or.inl rfl) ⟨?_, rfl⟩)
      rw [show sm c = false from decide_eq_false (by omega)]; rfl
    · refine E_run 2 rfl trivial (E_ret rfl (Or.inr rfl) ⟨?_, rfl⟩)
      rw [show sm c = true from decide_eq_true (by omega)]; rfl
end
section
theorem pure_law {L : Nat} {xs : Nat → Int32} (hL : L ≤ 194) : Ends 100 168 0 (mj_ent 168 [.ref 17]) [] (me_h xs L) (fun o _ => o = .inl (some (.int 1))) := by
  sorry
end
section
set_option maxHeartbeats 4000000 in
theorem lw_walk (l : Launch) (hfl : l.flags = flags0) (b : Addr) (xs : List Int32) : MetFree l x (headSpec (Jvm.Cond.code x code maxLocals ret :: tables_1) room_1) (lw_P b xs) (fun _ _ _ _ _ => True) lw_Q := by
  refine MetFree.of_bodyS (code := code) (maxLocals := maxLocals) (ret := ret) (by decide) ?_ ?_
  · intro args s m h hn
    obtain ⟨meth, c, h1, h2, h3, h4, h5, h6, -, -⟩ := Cond.code_spec hn (atoms_spec (ws := Jvm.Cond.code x code maxLocals ret :: tables_1) h _ List.mem_cons_self)
    exact ⟨meth, c, h1, h2, h3, h4, h5, h6⟩
  · intro p e s m args below meth c s₁ B hml0 hP _
    obtain ⟨rfl, hx, hbd, hgv⟩ := hP
    obtain ⟨scr, harrAt, hlist, hof, hsmall⟩ := hx
    obtain ⟨hcb, hkn, -, -⟩ := State.arrayAt?_spec harrAt
    have hown : s.vm.findClass R_law = some m.cls := findClass_of_methodNamed B.named
    have hts0 : ∀ c ∈ (Jvm.Cond.code x code maxLocals ret :: tables_1), c.before #[Value.ref b] s = true := atoms_spec (ws := Jvm.Cond.code x code maxLocals ret :: tables_1) B.pre
    have hts : ∀ w ∈ lw_tbl, w.before #[Value.ref b] s = true := k2_hts_sels lw_privs (fun w hw => hts0 w (List.mem_cons_of_mem _ hw)) lw_privs_ok
    have hml : c.maxLocals = 7 := B.maxLocals_eq (hts0 _ List.mem_cons_self)
    have X₀ : Stand p l e room_1 s m #[Value.ref b] below meth c s₁ [] 0 0 := Stand.of_body B
    have hh0 : s₁.heap = s.heap := by rw [B.state]; rfl
    have hsz : scr.slots.size = xs.length := by rw [← Array.length_toList, hlist, List.length_map]
    have hval : ∀ j : Nat, j < xs.length → scr.slots[j]? = some (.int (xs.getD j 0)) := fun j hj => by
      rw [← Array.getElem?_toList, hlist]
      simp [hj]
    have hbl : b < s.heap.size := (Array.getElem?_eq_some_iff.mp hcb).1
    have hX : va_X b xs.length (fun j => xs.getD j 0) s s.heap := ⟨scr, hcb, hof, hkn, hsz, hval⟩
    have K : W p l e room_1 s m #[Value.ref b] below meth c s₁.heap [] 0 0 (lw_Z below #[Value.ref b] s) (entryFrame m ([Value.ref b] : List Value).toArray 7) := by
      rw [hh0]
      obtain ⟨meth', c', m1, m2, -, -, -, -, hemp, -⟩ := Cond.code_spec B.named (hts0 _ List.mem_cons_self)
      cases X₀.method.symm.trans m1
      cases X₀.code.symm.trans m2
      exact me_whole l (fun ha => Launch.traces_off hfl ha) ⟨B.exec, B.bytes, B.returns, hml, hown, hts, hX, hbl, B.notSynchronized, hgv⟩ (name_of_methodNamed B.named X₀.method).1 (by simpa using hemp) (pure_law hbd)
    obtain ⟨t, a1, o, b1, b2, b3⟩ := K s₁ rfl X₀
    exact ⟨t, o, a1, b1, b2, b3⟩
theorem lw_pre_spec {args : Array Value} {s : State} (h : (Jvm.Cond.and given_1 narrow_1).before args s = true) (hr : rest_1_c.before args s = true) : ∃ (b : Addr) (xs : List Int32), lw_P b xs args s := by
  have hs := flat_of_before _ h
  have hq := flat_of_before _ hr
  have hc : (Cond.count 1).before args s = true := hs _ (by decide +kernel)
  have harr : (Cond.arrayOf (.arg 0) .int).before args s = true := hs _ (by decide +kernel)
  have hle : (Cond.le (.length (.arg 0)) (.int 194)).before args s = true := hs _ (by decide +kernel)
  have hlen : (Cond.isInt (.length (.arg 0))).before args s = true := hq _ (by decide +kernel)
  have hall : (Cond.all (.arg 0) (.isInt (.elem (.arg 0) (.index 0)))).before args s = true := hq _ (by decide +kernel)
  obtain ⟨b, xs, hb, hx⟩ := State.ints_of_pre rfl harr hlen hall
  have hsm : xs.length < 2 ^ 31 := hx.choose_spec.2.2.2
  have hev : (Term.length (.arg 0)).eval args s none [] s = some (.int xs.length.toInt32) := hx.length_eval hb
  have hv := Cond.le_ints hev (show (Term.int 194).eval args s none [] s = some (.int 194) from rfl)
  have hd : xs.length.toInt32 ≤ 194 := by
    simpa [Cond.before, Cond.holds, hv] using hle
  have hN : xs.length ≤ 194 := (Int32.ofNat_le_ofNat hsm (by decide)).mp (show Int32.ofNat xs.length ≤ Int32.ofNat 194 from hd)
  exact ⟨b, xs, Cond.one_arg hc (show args[0]? = some (.ref b) from hb), hx, hN, h⟩
theorem lw_comes (l : Launch) (hfl : l.flags = flags0) : Comes l x (Jvm.Cond.code x code maxLocals ret :: tables_1) room_1 (fun tb e args s => Calls_1 tb e args s ∧ rest_1 tb e args s ∧ Pre_1 tb e args s)
    (fun _ _ args s o t => lw_Q args s o t) := by
  intro p e ha hc hk s m args below hf hfit hheap happ hpre
  obtain ⟨b, xs, hP⟩ := lw_pre_spec hpre.2.2 hpre.2.1
  obtain ⟨k, o, h1, h2, h3, hQ⟩ := lw_walk l hfl b xs p e ha hc hk s m args below hf ((Spec.applies_iff_loose hf).mp happ).1 hP trivial
  exact ⟨k, o, h1, h2, h3, hQ⟩
theorem lw_frame {s t : State} {o : Outcome} {args : Array Value} (h : Framed s o t [] 600288 7295648) :
    Framed s o t (fieldLocs frame_1_writes args s ++ arrayLocs frame_1_arrays args s ++ staticLocs frame_1_statics s) 600288 7295648 := h
theorem lw_limb (L : Cond) (hL : ∀ (args : Array Value) (s t : State), L.after args s (.returned (some (.int 1))) t = true) :
    ArmFor flags0 classFile x code maxLocals ret World_1 tables_1 room_1 Calls_1 rest_1 Pre_1
      (fun tb e a s o t => postC L tb e a s o t ∧ Framed s o t (fieldLocs frame_1_writes a s ++ arrayLocs frame_1_arrays a s ++ staticLocs frame_1_statics s) 600288 7295648) := by
  intro l hfl _ _ p e ha hc hk s m args below hf hfit hheap happ hpre
  obtain ⟨k, o, h1, h2, h3, rfl, hF⟩ := lw_comes l hfl p e ha hc hk s m args below hf hfit hheap happ hpre
  exact ⟨k, _, h1, h2, h3, hL args s _, lw_frame hF⟩
theorem i_vc : Claimed_1_1 ∧ Claimed_1_2 := ⟨lw_limb limb_1_1 (fun args s t => by simp [limb_1_1, Cond.after, Cond.holds, Cond.value]), lw_limb limb_1_2 (fun args s t => Cond.after_iff.mpr (by
  first | (rw [show limb_1_2 = Cond.eq .result (.int 1) from rfl, Cond.eq_ints (x := 1) (y := 1) rfl rfl]; simp; done) | (simp [limb_1_2, Cond.value, Term.eval]; done)))⟩
end

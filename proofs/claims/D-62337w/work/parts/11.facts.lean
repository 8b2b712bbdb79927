-- links, by the tables (printed by main.py)
theorem kj_E_3 : Cond.methodLink "LayerVault$Entry" 3 Lib.objectInit ∈ ztb := (zmem 68 (by decide +kernel) rfl)
theorem kj_inst : Cond.instanceMethod Lib.objectInit ∈ ztb := (zmem 17 (by decide +kernel) rfl)
theorem kj_code : Cond.code Lib.objectInit ⟨#[0xb1]⟩ 1 none ∈ ztb := zmem 18 (by decide +kernel) rfl
theorem kl_E_9 : Cond.classLink "LayerVault$Entry" 9 "LayerVault$Entry" ∈ ztb := (zmem 69 (by decide +kernel) rfl)
theorem ko_E : Cond.arrayOver (.object "LayerVault$Entry") ∈ ztb := (zmem 70 (by decide +kernel) rfl)
theorem fl_E_11 : zFl "LayerVault$Entry" 11 1 6 := ⟨_, rfl, by decide +kernel, Or.inl (zmem 89 (by decide +kernel) rfl)⟩
theorem ff_E_11 : zFf "LayerVault$Entry" 11 1 6 := ⟨_, rfl, by decide +kernel, rfl, rfl, (zmem 89 (by decide +kernel) rfl)⟩
theorem fl_E_15 : zFl "LayerVault$Entry" 15 1 0 := ⟨_, rfl, by decide +kernel, Or.inl (zmem 71 (by decide +kernel) rfl)⟩
theorem fl_E_19 : zFl "LayerVault$Entry" 19 1 1 := ⟨_, rfl, by decide +kernel, Or.inl (zmem 77 (by decide +kernel) rfl)⟩
theorem fl_E_22 : zFl "LayerVault$Entry" 22 1 2 := ⟨_, rfl, by decide +kernel, Or.inl (zmem 81 (by decide +kernel) rfl)⟩
theorem fl_E_26 : zFl "LayerVault$Entry" 26 1 3 := ⟨_, rfl, by decide +kernel, Or.inl (zmem 83 (by decide +kernel) rfl)⟩
theorem fl_E_29 : zFl "LayerVault$Entry" 29 1 5 := ⟨_, rfl, by decide +kernel, Or.inl (zmem 85 (by decide +kernel) rfl)⟩
theorem fl_E_33 : zFl "LayerVault$Entry" 33 2 4 := ⟨_, rfl, by decide +kernel, Or.inr ⟨"LayerVault", (zmem 28 (by decide +kernel) rfl)⟩⟩
theorem fl_E_39 : zFl "LayerVault$Entry" 39 1 4 := ⟨_, rfl, by decide +kernel, Or.inl (zmem 87 (by decide +kernel) rfl)⟩
theorem fp_E_29 : zFp "LayerVault$Entry" 29 1 5 := ⟨fl_E_29, fun q h => by cases h; rfl⟩
theorem fl_E_45 : zFl "LayerVault$Entry" 45 2 2 := ⟨_, rfl, by decide +kernel, Or.inr ⟨"LayerVault", (zmem 37 (by decide +kernel) rfl)⟩⟩
theorem fp_E_45 : zFp "LayerVault$Entry" 45 2 2 := ⟨fl_E_45, fun q h => by cases h; rfl⟩
theorem fp_E_39 : zFp "LayerVault$Entry" 39 1 4 := ⟨fl_E_39, fun q h => by cases h; rfl⟩
theorem kv_E_42 : zVf "LayerVault$Entry" 42 y_E_leave b_E_leave 1 none 1 0 := ⟨_, rfl, rfl, (zmem 495 (by decide +kernel) rfl), (zmem 412 (by decide +kernel) rfl), (zmem 413 (by decide +kernel) rfl), (zmem 414 (by decide +kernel) rfl), (zmem 4 (by decide +kernel) rfl), ⟨by decide +kernel, by decide +kernel, by decide +kernel⟩⟩
theorem kj_S_3 : Cond.methodLink "LayerVault$Segment" 3 Lib.objectInit ∈ ztb := (zmem 24 (by decide +kernel) rfl)
theorem ka_int : Cond.arrayClass .int ∈ ztb := (zmem 56 (by decide +kernel) rfl)
theorem fl_S_9 : zFl "LayerVault$Segment" 9 2 3 := ⟨_, rfl, by decide +kernel, Or.inl (zmem 25 (by decide +kernel) rfl)⟩
theorem ff_S_9 : zFf "LayerVault$Segment" 9 2 3 := ⟨_, rfl, by decide +kernel, rfl, rfl, (zmem 25 (by decide +kernel) rfl)⟩
theorem fl_S_15 : zFl "LayerVault$Segment" 15 2 4 := ⟨_, rfl, by decide +kernel, Or.inl (zmem 27 (by decide +kernel) rfl)⟩
theorem ff_S_15 : zFf "LayerVault$Segment" 15 2 4 := ⟨_, rfl, by decide +kernel, rfl, rfl, (zmem 27 (by decide +kernel) rfl)⟩
theorem fl_S_18 : zFl "LayerVault$Segment" 18 2 5 := ⟨_, rfl, by decide +kernel, Or.inl (zmem 30 (by decide +kernel) rfl)⟩
theorem ff_S_18 : zFf "LayerVault$Segment" 18 2 5 := ⟨_, rfl, by decide +kernel, rfl, rfl, (zmem 30 (by decide +kernel) rfl)⟩
theorem fl_S_21 : zFl "LayerVault$Segment" 21 2 0 := ⟨_, rfl, by decide +kernel, Or.inl (zmem 32 (by decide +kernel) rfl)⟩
theorem fp_S_21 : zFp "LayerVault$Segment" 21 2 0 := ⟨fl_S_21, fun q h => by cases h; rfl⟩
theorem fl_S_25 : zFl "LayerVault$Segment" 25 2 1 := ⟨_, rfl, by decide +kernel, Or.inl (zmem 35 (by decide +kernel) rfl)⟩
theorem fp_S_25 : zFp "LayerVault$Segment" 25 2 1 := ⟨fl_S_25, fun q h => by cases h; rfl⟩
theorem fl_S_28 : zFl "LayerVault$Segment" 28 2 2 := ⟨_, rfl, by decide +kernel, Or.inl (zmem 36 (by decide +kernel) rfl)⟩
theorem fp_S_28 : zFp "LayerVault$Segment" 28 2 2 := ⟨fl_S_28, fun q h => by cases h; rfl⟩
theorem fl_S_31 : zFl "LayerVault$Segment" 31 2 6 := ⟨_, rfl, by decide +kernel, Or.inl (zmem 39 (by decide +kernel) rfl)⟩
theorem fp_S_31 : zFp "LayerVault$Segment" 31 2 6 := ⟨fl_S_31, fun q h => by cases h; rfl⟩
theorem kj_Mt_3 : Cond.methodLink "LayerVault$Memtable" 3 Lib.objectInit ∈ ztb := (zmem 62 (by decide +kernel) rfl)
theorem kl_Mt_9 : Cond.classLink "LayerVault$Memtable" 9 "LayerVault$Entry" ∈ ztb := (zmem 63 (by decide +kernel) rfl)
theorem kn_E : Cond.instantiable "LayerVault$Entry" 7 ∈ ztb := (zmem 64 (by decide +kernel) rfl)
theorem kt_E : Cond.initialized "LayerVault$Entry" ∈ ztb := (zmem 4 (by decide +kernel) rfl)
theorem fl_Mt_12 : zFl "LayerVault$Memtable" 12 3 1 := ⟨_, rfl, by decide +kernel, Or.inl (zmem 107 (by decide +kernel) rfl)⟩
theorem ff_Mt_12 : zFf "LayerVault$Memtable" 12 3 1 := ⟨_, rfl, by decide +kernel, rfl, rfl, (zmem 107 (by decide +kernel) rfl)⟩
theorem ki_Mt_11 : zIf "LayerVault$Memtable" 11 y_E_init b_E_init 1 0 := ⟨Or.inr ⟨"LayerVault", (zmem 65 (by decide +kernel) rfl)⟩, (zmem 66 (by decide +kernel) rfl), (zmem 67 (by decide +kernel) rfl), (zmem 4 (by decide +kernel) rfl), ⟨by decide +kernel, by decide +kernel, by decide +kernel⟩, rfl⟩
theorem fl_Mt_18 : zFl "LayerVault$Memtable" 18 1 6 := ⟨_, rfl, by decide +kernel, Or.inr ⟨"LayerVault", (zmem 90 (by decide +kernel) rfl)⟩⟩
theorem kv_Mt_22 : zVf "LayerVault$Memtable" 22 y_E_before b_E_before 3 (some .boolean) 1 2 := ⟨_, rfl, rfl, (zmem 466 (by decide +kernel) rfl), (zmem 309 (by decide +kernel) rfl), (zmem 310 (by decide +kernel) rfl), (zmem 311 (by decide +kernel) rfl), (zmem 4 (by decide +kernel) rfl), ⟨by decide +kernel, by decide +kernel, by decide +kernel⟩⟩
theorem fl_Mt_26 : zFl "LayerVault$Memtable" 26 1 0 := ⟨_, rfl, by decide +kernel, Or.inr ⟨"LayerVault", (zmem 73 (by decide +kernel) rfl)⟩⟩
theorem fl_Mt_30 : zFl "LayerVault$Memtable" 30 1 1 := ⟨_, rfl, by decide +kernel, Or.inr ⟨"LayerVault", (zmem 78 (by decide +kernel) rfl)⟩⟩
theorem fl_Mt_33 : zFl "LayerVault$Memtable" 33 3 0 := ⟨_, rfl, by decide +kernel, Or.inl (zmem 108 (by decide +kernel) rfl)⟩
theorem fp_Mt_33 : zFp "LayerVault$Memtable" 33 3 0 := ⟨fl_Mt_33, fun q h => by cases h; rfl⟩
theorem kv_Mt_36 : zVf "LayerVault$Memtable" 36 y_Mt_last b_Mt_last 5 (some (.object "LayerVault$Entry")) 3 2 := ⟨_, rfl, rfl, (zmem 462 (by decide +kernel) rfl), (zmem 464 (by decide +kernel) rfl), (zmemP 13 (by decide +kernel) rfl), (zmem 465 (by decide +kernel) rfl), (zmem 3 (by decide +kernel) rfl), ⟨by decide +kernel, by decide +kernel, by decide +kernel⟩⟩
theorem kc_Mt_42 : Cond.constant "LayerVault$Memtable" 42 (Int32.ofInt 2147483647) ∈ ztb := (zmem 461 (by decide +kernel) rfl)
theorem fl_Mt_43 : zFl "LayerVault$Memtable" 43 3 2 := ⟨_, rfl, by decide +kernel, Or.inl (zmem 110 (by decide +kernel) rfl)⟩
theorem fp_Mt_43 : zFp "LayerVault$Memtable" 43 3 2 := ⟨fl_Mt_43, fun q h => by cases h; rfl⟩
theorem kj_Tb_3 : Cond.methodLink "LayerVault$Table" 3 Lib.objectInit ∈ ztb := (zmem 424 (by decide +kernel) rfl)
theorem kl_Tb_9 : Cond.classLink "LayerVault$Table" 9 "LayerVault$Entry" ∈ ztb := (zmem 425 (by decide +kernel) rfl)
theorem fl_Tb_11 : zFl "LayerVault$Table" 11 4 2 := ⟨_, rfl, by decide +kernel, Or.inl (zmem 426 (by decide +kernel) rfl)⟩
theorem ff_Tb_11 : zFf "LayerVault$Table" 11 4 2 := ⟨_, rfl, by decide +kernel, rfl, rfl, (zmem 426 (by decide +kernel) rfl)⟩
theorem fl_Tb_17 : zFl "LayerVault$Table" 17 4 0 := ⟨_, rfl, by decide +kernel, Or.inl (zmem 431 (by decide +kernel) rfl)⟩
theorem fp_Tb_17 : zFp "LayerVault$Table" 17 4 0 := ⟨fl_Tb_17, fun q h => by cases h; rfl⟩
theorem fl_Tb_21 : zFl "LayerVault$Table" 21 4 1 := ⟨_, rfl, by decide +kernel, Or.inl (zmem 434 (by decide +kernel) rfl)⟩
theorem fl_Tb_24 : zFl "LayerVault$Table" 24 1 0 := ⟨_, rfl, by decide +kernel, Or.inr ⟨"LayerVault", (zmem 72 (by decide +kernel) rfl)⟩⟩
theorem fp_Tb_21 : zFp "LayerVault$Table" 21 4 1 := ⟨fl_Tb_21, fun q h => by cases h; rfl⟩
theorem ks_Tb_27 : zSf "LayerVault$Table" 27 y_Tb_bits b_Tb_bits 1 (some .int) 1 := ⟨(zmem 450 (by decide +kernel) rfl), (zmem 451 (by decide +kernel) rfl), (zmem 452 (by decide +kernel) rfl), (zmem 9 (by decide +kernel) rfl), ⟨by decide +kernel, by decide +kernel, by decide +kernel⟩⟩
theorem kv_Tb_31 : zVf "LayerVault$Table" 31 y_E_before b_E_before 3 (some .boolean) 1 2 := ⟨_, rfl, rfl, (zmem 308 (by decide +kernel) rfl), (zmem 309 (by decide +kernel) rfl), (zmem 310 (by decide +kernel) rfl), (zmem 311 (by decide +kernel) rfl), (zmem 4 (by decide +kernel) rfl), ⟨by decide +kernel, by decide +kernel, by decide +kernel⟩⟩
theorem kv_Tb_35 : zVf "LayerVault$Table" 35 y_Tb_place b_Tb_place 6 (some .int) 4 2 := ⟨_, rfl, rfl, (zmem 584 (by decide +kernel) rfl), (zmem 305 (by decide +kernel) rfl), (zmem 306 (by decide +kernel) rfl), (zmem 307 (by decide +kernel) rfl), (zmem 9 (by decide +kernel) rfl), ⟨by decide +kernel, by decide +kernel, by decide +kernel⟩⟩
theorem kj_Lv_1 : Cond.methodLink "LayerVault$Level" 1 Lib.objectInit ∈ ztb := (zmem 143 (by decide +kernel) rfl)
theorem kl_Lv_7 : Cond.classLink "LayerVault$Level" 7 "LayerVault$Table" ∈ ztb := (zmem 144 (by decide +kernel) rfl)
theorem ko_Tb : Cond.arrayOver (.object "LayerVault$Table") ∈ ztb := (zmem 145 (by decide +kernel) rfl)
theorem fl_Lv_9 : zFl "LayerVault$Level" 9 5 4 := ⟨_, rfl, by decide +kernel, Or.inl (zmem 146 (by decide +kernel) rfl)⟩
theorem ff_Lv_9 : zFf "LayerVault$Level" 9 5 4 := ⟨_, rfl, by decide +kernel, rfl, rfl, (zmem 146 (by decide +kernel) rfl)⟩
theorem fl_Lv_15 : zFl "LayerVault$Level" 15 5 0 := ⟨_, rfl, by decide +kernel, Or.inl (zmem 148 (by decide +kernel) rfl)⟩
theorem fl_Lv_19 : zFl "LayerVault$Level" 19 4 0 := ⟨_, rfl, by decide +kernel, Or.inr ⟨"LayerVault", (zmem 430 (by decide +kernel) rfl)⟩⟩
theorem fl_Lv_20 : zFl "LayerVault$Level" 20 5 1 := ⟨_, rfl, by decide +kernel, Or.inl (zmem 150 (by decide +kernel) rfl)⟩
theorem fp_Lv_20 : zFp "LayerVault$Level" 20 5 1 := ⟨fl_Lv_20, fun q h => by cases h; rfl⟩
theorem fl_Lv_23 : zFl "LayerVault$Level" 23 5 3 := ⟨_, rfl, by decide +kernel, Or.inl (zmem 152 (by decide +kernel) rfl)⟩
theorem fp_Lv_23 : zFp "LayerVault$Level" 23 5 3 := ⟨fl_Lv_23, fun q h => by cases h; rfl⟩
theorem fl_Lv_26 : zFl "LayerVault$Level" 26 5 2 := ⟨_, rfl, by decide +kernel, Or.inl (zmem 151 (by decide +kernel) rfl)⟩
theorem fp_Lv_26 : zFp "LayerVault$Level" 26 5 2 := ⟨fl_Lv_26, fun q h => by cases h; rfl⟩
theorem fl_Lv_29 : zFl "LayerVault$Level" 29 4 2 := ⟨_, rfl, by decide +kernel, Or.inr ⟨"LayerVault", (zmem 428 (by decide +kernel) rfl)⟩⟩
theorem fl_Lv_33 : zFl "LayerVault$Level" 33 1 0 := ⟨_, rfl, by decide +kernel, Or.inr ⟨"LayerVault", (zmem 75 (by decide +kernel) rfl)⟩⟩
theorem kc_Lv_40 : Cond.constant "LayerVault$Level" 40 (Int32.ofInt 2147483647) ∈ ztb := (zmem 303 (by decide +kernel) rfl)
theorem kv_Lv_41 : zVf "LayerVault$Level" 41 y_Tb_place b_Tb_place 6 (some .int) 4 2 := ⟨_, rfl, rfl, (zmem 304 (by decide +kernel) rfl), (zmem 305 (by decide +kernel) rfl), (zmem 306 (by decide +kernel) rfl), (zmem 307 (by decide +kernel) rfl), (zmem 9 (by decide +kernel) rfl), ⟨by decide +kernel, by decide +kernel, by decide +kernel⟩⟩
theorem kj_Sg_1 : Cond.methodLink "LayerVault$Single" 1 Lib.objectInit ∈ ztb := (zmem 169 (by decide +kernel) rfl)
theorem fl_Sg_7 : zFl "LayerVault$Single" 7 6 1 := ⟨_, rfl, by decide +kernel, Or.inl (zmem 170 (by decide +kernel) rfl)⟩
theorem fp_Sg_7 : zFp "LayerVault$Single" 7 6 1 := ⟨fl_Sg_7, fun q h => by cases h; rfl⟩
theorem kc_Sg_15 : Cond.constant "LayerVault$Single" 15 (Int32.ofInt 2147483647) ∈ ztb := (zmem 320 (by decide +kernel) rfl)
theorem fl_Sg_22 : zFl "LayerVault$Single" 22 6 0 := ⟨_, rfl, by decide +kernel, Or.inl (zmem 171 (by decide +kernel) rfl)⟩
theorem fp_Sg_22 : zFp "LayerVault$Single" 22 6 0 := ⟨fl_Sg_22, fun q h => by cases h; rfl⟩
theorem kv_Sg_16 : zVf "LayerVault$Single" 16 y_Tb_place b_Tb_place 6 (some .int) 4 2 := ⟨_, rfl, rfl, (zmem 321 (by decide +kernel) rfl), (zmem 305 (by decide +kernel) rfl), (zmem 306 (by decide +kernel) rfl), (zmem 307 (by decide +kernel) rfl), (zmem 9 (by decide +kernel) rfl), ⟨by decide +kernel, by decide +kernel, by decide +kernel⟩⟩
theorem fl_Sg_26 : zFl "LayerVault$Single" 26 4 0 := ⟨_, rfl, by decide +kernel, Or.inr ⟨"LayerVault", (zmem 432 (by decide +kernel) rfl)⟩⟩
theorem fl_Sg_29 : zFl "LayerVault$Single" 29 4 2 := ⟨_, rfl, by decide +kernel, Or.inr ⟨"LayerVault", (zmem 427 (by decide +kernel) rfl)⟩⟩
theorem kj_Mg_1 : Cond.methodLink "LayerVault$Merger" 1 Lib.objectInit ∈ ztb := (zmem 127 (by decide +kernel) rfl)
theorem kl_Mg_7 : Cond.classLink "LayerVault$Merger" 7 "LayerVault$Cursor" ∈ ztb := (zmem 128 (by decide +kernel) rfl)
theorem ko_Cur : Cond.arrayOver (.object "LayerVault$Cursor") ∈ ztb := (zmem 129 (by decide +kernel) rfl)
theorem fl_Mg_9 : zFl "LayerVault$Merger" 9 7 1 := ⟨_, rfl, by decide +kernel, Or.inl (zmem 130 (by decide +kernel) rfl)⟩
theorem ff_Mg_9 : zFf "LayerVault$Merger" 9 7 1 := ⟨_, rfl, by decide +kernel, rfl, rfl, (zmem 130 (by decide +kernel) rfl)⟩
theorem fl_Mg_15 : zFl "LayerVault$Merger" 15 7 0 := ⟨_, rfl, by decide +kernel, Or.inl (zmem 131 (by decide +kernel) rfl)⟩
theorem fp_Mg_15 : zFp "LayerVault$Merger" 15 7 0 := ⟨fl_Mg_15, fun q h => by cases h; rfl⟩
theorem fl_Mg_23 : zFl "LayerVault$Merger" 23 1 0 := ⟨_, rfl, by decide +kernel, Or.inr ⟨"LayerVault", (zmem 74 (by decide +kernel) rfl)⟩⟩
theorem fl_Mg_28 : zFl "LayerVault$Merger" 28 1 1 := ⟨_, rfl, by decide +kernel, Or.inr ⟨"LayerVault", (zmem 79 (by decide +kernel) rfl)⟩⟩
theorem kv_Mg_31 : zVf "LayerVault$Merger" 31 y_E_before b_E_before 3 (some .boolean) 1 2 := ⟨_, rfl, rfl, (zmem 360 (by decide +kernel) rfl), (zmem 309 (by decide +kernel) rfl), (zmem 310 (by decide +kernel) rfl), (zmem 311 (by decide +kernel) rfl), (zmem 4 (by decide +kernel) rfl), ⟨by decide +kernel, by decide +kernel, by decide +kernel⟩⟩
theorem kv_Mg_35 : zVf "LayerVault$Merger" 35 y_Mg_least b_Mg_least 4 (some (.object "LayerVault$Cursor")) 7 0 := ⟨_, rfl, rfl, (zmem 348 (by decide +kernel) rfl), (zmem 350 (by decide +kernel) rfl), (zmemP 6 (by decide +kernel) rfl), (zmem 351 (by decide +kernel) rfl), (zmem 5 (by decide +kernel) rfl), ⟨by decide +kernel, by decide +kernel, by decide +kernel⟩⟩
theorem kj_V_1 : Cond.methodLink "LayerVault" 1 Lib.objectInit ∈ ztb := (zmem 16 (by decide +kernel) rfl)
theorem kl_V_7 : Cond.classLink "LayerVault" 7 "LayerVault$Segment" ∈ ztb := (zmem 19 (by decide +kernel) rfl)
theorem kn_S : Cond.instantiable "LayerVault$Segment" 7 ∈ ztb := (zmem 20 (by decide +kernel) rfl)
theorem kt_S : Cond.initialized "LayerVault$Segment" ∈ ztb := (zmem 2 (by decide +kernel) rfl)
theorem fl_V_10 : zFl "LayerVault" 10 0 10 := ⟨_, rfl, by decide +kernel, Or.inl (zmem 177 (by decide +kernel) rfl)⟩
theorem fp_V_10 : zFp "LayerVault" 10 0 10 := ⟨fl_V_10, fun q h => by cases h; rfl⟩
theorem fl_V_16 : zFl "LayerVault" 16 0 11 := ⟨_, rfl, by decide +kernel, Or.inl (zmem 178 (by decide +kernel) rfl)⟩
theorem fp_V_16 : zFp "LayerVault" 16 0 11 := ⟨fl_V_16, fun q h => by cases h; rfl⟩
theorem fl_V_19 : zFl "LayerVault" 19 0 0 := ⟨_, rfl, by decide +kernel, Or.inl (zmem 180 (by decide +kernel) rfl)⟩
theorem fp_V_19 : zFp "LayerVault" 19 0 0 := ⟨fl_V_19, fun q h => by cases h; rfl⟩
theorem fl_V_23 : zFl "LayerVault" 23 0 13 := ⟨_, rfl, by decide +kernel, Or.inl (zmem 181 (by decide +kernel) rfl)⟩
theorem fp_V_23 : zFp "LayerVault" 23 0 13 := ⟨fl_V_23, fun q h => by cases h; rfl⟩
theorem fl_V_26 : zFl "LayerVault" 26 0 14 := ⟨_, rfl, by decide +kernel, Or.inl (zmem 188 (by decide +kernel) rfl)⟩
theorem ff_V_26 : zFf "LayerVault" 26 0 14 := ⟨_, rfl, by decide +kernel, rfl, rfl, (zmem 188 (by decide +kernel) rfl)⟩
theorem fl_V_30 : zFl "LayerVault" 30 0 15 := ⟨_, rfl, by decide +kernel, Or.inl (zmem 189 (by decide +kernel) rfl)⟩
theorem ff_V_30 : zFf "LayerVault" 30 0 15 := ⟨_, rfl, by decide +kernel, rfl, rfl, (zmem 189 (by decide +kernel) rfl)⟩
theorem fl_V_33 : zFl "LayerVault" 33 0 16 := ⟨_, rfl, by decide +kernel, Or.inl (zmem 190 (by decide +kernel) rfl)⟩
theorem ff_V_33 : zFf "LayerVault" 33 0 16 := ⟨_, rfl, by decide +kernel, rfl, rfl, (zmem 190 (by decide +kernel) rfl)⟩
theorem fl_V_36 : zFl "LayerVault" 36 0 17 := ⟨_, rfl, by decide +kernel, Or.inl (zmem 192 (by decide +kernel) rfl)⟩
theorem ff_V_36 : zFf "LayerVault" 36 0 17 := ⟨_, rfl, by decide +kernel, rfl, rfl, (zmem 192 (by decide +kernel) rfl)⟩
theorem kl_V_39 : Cond.classLink "LayerVault" 39 "LayerVault$Memtable" ∈ ztb := (zmem 57 (by decide +kernel) rfl)
theorem kn_Mt : Cond.instantiable "LayerVault$Memtable" 3 ∈ ztb := (zmem 58 (by decide +kernel) rfl)
theorem kt_Mt : Cond.initialized "LayerVault$Memtable" ∈ ztb := (zmem 3 (by decide +kernel) rfl)
theorem fl_V_42 : zFl "LayerVault" 42 0 18 := ⟨_, rfl, by decide +kernel, Or.inl (zmem 194 (by decide +kernel) rfl)⟩
theorem ff_V_42 : zFf "LayerVault" 42 0 18 := ⟨_, rfl, by decide +kernel, rfl, rfl, (zmem 194 (by decide +kernel) rfl)⟩
theorem kl_V_46 : Cond.classLink "LayerVault" 46 "LayerVault$Level" ∈ ztb := (zmem 118 (by decide +kernel) rfl)
theorem ko_Lv : Cond.arrayOver (.object "LayerVault$Level") ∈ ztb := (zmem 119 (by decide +kernel) rfl)
theorem fl_V_48 : zFl "LayerVault" 48 0 19 := ⟨_, rfl, by decide +kernel, Or.inl (zmem 195 (by decide +kernel) rfl)⟩
theorem ff_V_48 : zFf "LayerVault" 48 0 19 := ⟨_, rfl, by decide +kernel, rfl, rfl, (zmem 195 (by decide +kernel) rfl)⟩
theorem kl_V_52 : Cond.classLink "LayerVault" 52 "LayerVault$Single" ∈ ztb := (zmem 120 (by decide +kernel) rfl)
theorem ko_Sg : Cond.arrayOver (.object "LayerVault$Single") ∈ ztb := (zmem 121 (by decide +kernel) rfl)
theorem fl_V_54 : zFl "LayerVault" 54 0 20 := ⟨_, rfl, by decide +kernel, Or.inl (zmem 196 (by decide +kernel) rfl)⟩
theorem ff_V_54 : zFf "LayerVault" 54 0 20 := ⟨_, rfl, by decide +kernel, rfl, rfl, (zmem 196 (by decide +kernel) rfl)⟩
theorem kl_V_58 : Cond.classLink "LayerVault" 58 "LayerVault$Merger" ∈ ztb := (zmem 122 (by decide +kernel) rfl)
theorem kn_Mg : Cond.instantiable "LayerVault$Merger" 2 ∈ ztb := (zmem 123 (by decide +kernel) rfl)
theorem kt_Mg : Cond.initialized "LayerVault$Merger" ∈ ztb := (zmem 5 (by decide +kernel) rfl)
theorem fl_V_61 : zFl "LayerVault" 61 0 21 := ⟨_, rfl, by decide +kernel, Or.inl (zmem 197 (by decide +kernel) rfl)⟩
theorem ff_V_61 : zFf "LayerVault" 61 0 21 := ⟨_, rfl, by decide +kernel, rfl, rfl, (zmem 197 (by decide +kernel) rfl)⟩
theorem kl_V_65 : Cond.classLink "LayerVault" 65 "LayerVault$Entry" ∈ ztb := (zmem 138 (by decide +kernel) rfl)
theorem fl_V_67 : zFl "LayerVault" 67 0 24 := ⟨_, rfl, by decide +kernel, Or.inl (zmem 200 (by decide +kernel) rfl)⟩
theorem ff_V_67 : zFf "LayerVault" 67 0 24 := ⟨_, rfl, by decide +kernel, rfl, rfl, (zmem 200 (by decide +kernel) rfl)⟩
theorem ka_boolean : Cond.arrayClass .boolean ∈ ztb := (zmem 164 (by decide +kernel) rfl)
theorem fl_V_71 : zFl "LayerVault" 71 0 25 := ⟨_, rfl, by decide +kernel, Or.inl (zmem 201 (by decide +kernel) rfl)⟩
theorem ff_V_71 : zFf "LayerVault" 71 0 25 := ⟨_, rfl, by decide +kernel, rfl, rfl, (zmem 201 (by decide +kernel) rfl)⟩
theorem kn_Lv : Cond.instantiable "LayerVault$Level" 5 ∈ ztb := (zmem 139 (by decide +kernel) rfl)
theorem kt_Lv : Cond.initialized "LayerVault$Level" ∈ ztb := (zmem 6 (by decide +kernel) rfl)
theorem kn_Sg : Cond.instantiable "LayerVault$Single" 2 ∈ ztb := (zmem 165 (by decide +kernel) rfl)
theorem kt_Sg : Cond.initialized "LayerVault$Single" ∈ ztb := (zmem 7 (by decide +kernel) rfl)
theorem ki_V_78 : zIf "LayerVault" 78 y_Sg_init b_Sg_init 1 0 := ⟨Or.inr ⟨"LayerVault", (zmem 166 (by decide +kernel) rfl)⟩, (zmem 167 (by decide +kernel) rfl), (zmem 168 (by decide +kernel) rfl), (zmem 7 (by decide +kernel) rfl), ⟨by decide +kernel, by decide +kernel, by decide +kernel⟩, rfl⟩
theorem ki_V_75 : zIf "LayerVault" 75 y_Lv_init b_Lv_init 2 1 := ⟨Or.inl (zmem 140 (by decide +kernel) rfl), (zmem 141 (by decide +kernel) rfl), (zmem 142 (by decide +kernel) rfl), (zmem 6 (by decide +kernel) rfl), ⟨by decide +kernel, by decide +kernel, by decide +kernel⟩, rfl⟩
theorem ki_V_60 : zIf "LayerVault" 60 y_Mg_init b_Mg_init 1 0 := ⟨Or.inr ⟨"LayerVault", (zmem 124 (by decide +kernel) rfl)⟩, (zmem 125 (by decide +kernel) rfl), (zmem 126 (by decide +kernel) rfl), (zmem 5 (by decide +kernel) rfl), ⟨by decide +kernel, by decide +kernel, by decide +kernel⟩, rfl⟩
theorem ki_V_41 : zIf "LayerVault" 41 y_Mt_init b_Mt_init 1 0 := ⟨Or.inr ⟨"LayerVault", (zmem 59 (by decide +kernel) rfl)⟩, (zmem 60 (by decide +kernel) rfl), (zmem 61 (by decide +kernel) rfl), (zmem 3 (by decide +kernel) rfl), ⟨by decide +kernel, by decide +kernel, by decide +kernel⟩, rfl⟩
theorem ki_V_9 : zIf "LayerVault" 9 y_S_init b_S_init 1 0 := ⟨Or.inr ⟨"LayerVault", (zmem 21 (by decide +kernel) rfl)⟩, (zmem 22 (by decide +kernel) rfl), (zmem 23 (by decide +kernel) rfl), (zmem 2 (by decide +kernel) rfl), ⟨by decide +kernel, by decide +kernel, by decide +kernel⟩, rfl⟩
theorem fl_V_79 : zFl "LayerVault" 79 2 1 := ⟨_, rfl, by decide +kernel, Or.inr ⟨"LayerVault", (zmem 34 (by decide +kernel) rfl)⟩⟩
theorem fl_V_82 : zFl "LayerVault" 82 0 12 := ⟨_, rfl, by decide +kernel, Or.inl (zmem 179 (by decide +kernel) rfl)⟩
theorem fl_V_85 : zFl "LayerVault" 85 2 6 := ⟨_, rfl, by decide +kernel, Or.inr ⟨"LayerVault", (zmem 40 (by decide +kernel) rfl)⟩⟩
theorem fp_V_82 : zFp "LayerVault" 82 0 12 := ⟨fl_V_82, fun q h => by cases h; rfl⟩
theorem fl_V_88 : zFl "LayerVault" 88 2 0 := ⟨_, rfl, by decide +kernel, Or.inr ⟨"LayerVault", (zmem 33 (by decide +kernel) rfl)⟩⟩
theorem fp_V_85 : zFp "LayerVault" 85 2 6 := ⟨fl_V_85, fun q h => by cases h; rfl⟩
theorem kv_V_91 : zVf "LayerVault" 91 y_S_begin b_S_begin 2 none 2 1 := ⟨_, rfl, rfl, (zmem 475 (by decide +kernel) rfl), (zmem 476 (by decide +kernel) rfl), (zmem 477 (by decide +kernel) rfl), (zmem 478 (by decide +kernel) rfl), (zmem 2 (by decide +kernel) rfl), ⟨by decide +kernel, by decide +kernel, by decide +kernel⟩⟩
theorem fl_V_94 : zFl "LayerVault" 94 0 1 := ⟨_, rfl, by decide +kernel, Or.inl (zmem 182 (by decide +kernel) rfl)⟩
theorem fp_V_94 : zFp "LayerVault" 94 0 1 := ⟨fl_V_94, fun q h => by cases h; rfl⟩
theorem fl_V_97 : zFl "LayerVault" 97 0 6 := ⟨_, rfl, by decide +kernel, Or.inl (zmem 187 (by decide +kernel) rfl)⟩
theorem fl_V_100 : zFl "LayerVault" 100 0 2 := ⟨_, rfl, by decide +kernel, Or.inl (zmem 183 (by decide +kernel) rfl)⟩
theorem fp_V_100 : zFp "LayerVault" 100 0 2 := ⟨fl_V_100, fun q h => by cases h; rfl⟩
theorem fl_V_103 : zFl "LayerVault" 103 0 3 := ⟨_, rfl, by decide +kernel, Or.inl (zmem 184 (by decide +kernel) rfl)⟩
theorem fp_V_103 : zFp "LayerVault" 103 0 3 := ⟨fl_V_103, fun q h => by cases h; rfl⟩
theorem kv_V_106 : zVf "LayerVault" 106 y_V_syncAll b_V_syncAll 1 none 0 0 := ⟨_, rfl, rfl, (zmem 260 (by decide +kernel) rfl), (zmem 262 (by decide +kernel) rfl), (zmemP 0 (by decide +kernel) rfl), (zmem 263 (by decide +kernel) rfl), (zmem 1 (by decide +kernel) rfl), ⟨by decide +kernel, by decide +kernel, by decide +kernel⟩⟩
theorem fl_V_109 : zFl "LayerVault" 109 0 7 := ⟨_, rfl, by decide +kernel, Or.inl (zmem 191 (by decide +kernel) rfl)⟩
theorem fp_V_109 : zFp "LayerVault" 109 0 7 := ⟨fl_V_109, fun q h => by cases h; rfl⟩
theorem kv_V_116 : zVf "LayerVault" 116 y_V_ready b_V_ready 4 (some .int) 0 3 := ⟨_, rfl, rfl, (zmem 271 (by decide +kernel) rfl), (zmem 273 (by decide +kernel) rfl), (zmemP 1 (by decide +kernel) rfl), (zmem 274 (by decide +kernel) rfl), (zmem 1 (by decide +kernel) rfl), ⟨by decide +kernel, by decide +kernel, by decide +kernel⟩⟩
theorem ks_V_112 : zSf "LayerVault" 112 y_V_isKey b_V_isKey 1 (some .boolean) 1 := ⟨(zmem 268 (by decide +kernel) rfl), (zmem 269 (by decide +kernel) rfl), (zmem 270 (by decide +kernel) rfl), (zmem 1 (by decide +kernel) rfl), ⟨by decide +kernel, by decide +kernel, by decide +kernel⟩⟩
theorem fl_V_213 : zFl "LayerVault" 213 5 0 := ⟨_, rfl, by decide +kernel, Or.inr ⟨"LayerVault", (zmem 149 (by decide +kernel) rfl)⟩⟩
theorem fl_V_214 : zFl "LayerVault" 214 5 4 := ⟨_, rfl, by decide +kernel, Or.inr ⟨"LayerVault", (zmem 147 (by decide +kernel) rfl)⟩⟩
theorem kv_V_231 : zVf "LayerVault" 231 y_Mg_add b_Mg_add 2 none 7 1 := ⟨_, rfl, rfl, (zmem 312 (by decide +kernel) rfl), (zmem 313 (by decide +kernel) rfl), (zmem 314 (by decide +kernel) rfl), (zmem 315 (by decide +kernel) rfl), (zmem 5 (by decide +kernel) rfl), ⟨by decide +kernel, by decide +kernel, by decide +kernel⟩⟩
theorem kv_V_234 : zVf "LayerVault" 234 y_Sg_begin b_Sg_begin 3 none 6 2 := ⟨_, rfl, rfl, (zmem 316 (by decide +kernel) rfl), (zmem 317 (by decide +kernel) rfl), (zmem 318 (by decide +kernel) rfl), (zmem 319 (by decide +kernel) rfl), (zmem 7 (by decide +kernel) rfl), ⟨by decide +kernel, by decide +kernel, by decide +kernel⟩⟩
theorem kv_V_228 : zVf "LayerVault" 228 y_Lv_begin b_Lv_begin 4 none 5 3 := ⟨_, rfl, rfl, (zmem 299 (by decide +kernel) rfl), (zmem 300 (by decide +kernel) rfl), (zmem 301 (by decide +kernel) rfl), (zmem 302 (by decide +kernel) rfl), (zmem 6 (by decide +kernel) rfl), ⟨by decide +kernel, by decide +kernel, by decide +kernel⟩⟩
theorem fl_V_181 : zFl "LayerVault" 181 0 9 := ⟨_, rfl, by decide +kernel, Or.inl (zmem 202 (by decide +kernel) rfl)⟩
theorem fp_V_181 : zFp "LayerVault" 181 0 9 := ⟨fl_V_181, fun q h => by cases h; rfl⟩
theorem fl_V_156 : zFl "LayerVault" 156 1 0 := ⟨_, rfl, by decide +kernel, Or.inr ⟨"LayerVault", (zmem 76 (by decide +kernel) rfl)⟩⟩
theorem fl_V_163 : zFl "LayerVault" 163 1 1 := ⟨_, rfl, by decide +kernel, Or.inr ⟨"LayerVault", (zmem 80 (by decide +kernel) rfl)⟩⟩
theorem kv_V_193 : zVf "LayerVault" 193 y_V_between b_V_between 8 (some .boolean) 0 2 := ⟨_, rfl, rfl, (zmem 391 (by decide +kernel) rfl), (zmem 393 (by decide +kernel) rfl), (zmemP 8 (by decide +kernel) rfl), (zmem 394 (by decide +kernel) rfl), (zmem 1 (by decide +kernel) rfl), ⟨by decide +kernel, by decide +kernel, by decide +kernel⟩⟩
theorem fl_V_138 : zFl "LayerVault" 138 0 5 := ⟨_, rfl, by decide +kernel, Or.inl (zmem 186 (by decide +kernel) rfl)⟩
theorem kv_V_197 : zVf "LayerVault" 197 y_E_gone b_E_gone 2 (some .boolean) 1 1 := ⟨_, rfl, rfl, (zmem 395 (by decide +kernel) rfl), (zmem 396 (by decide +kernel) rfl), (zmem 397 (by decide +kernel) rfl), (zmem 398 (by decide +kernel) rfl), (zmem 4 (by decide +kernel) rfl), ⟨by decide +kernel, by decide +kernel, by decide +kernel⟩⟩
theorem fl_V_200 : zFl "LayerVault" 200 0 22 := ⟨_, rfl, by decide +kernel, Or.inl (zmem 198 (by decide +kernel) rfl)⟩
theorem fl_V_207 : zFl "LayerVault" 207 4 3 := ⟨_, rfl, by decide +kernel, Or.inr ⟨"LayerVault", (zmem 436 (by decide +kernel) rfl)⟩⟩
theorem fp_V_207 : zFp "LayerVault" 207 4 3 := ⟨fl_V_207, fun q h => by cases h; rfl⟩
theorem fp_V_200 : zFp "LayerVault" 200 0 22 := ⟨fl_V_200, fun q h => by cases h; rfl⟩
theorem fp_V_213 : zFp "LayerVault" 213 5 0 := ⟨fl_V_213, fun q h => by cases h; rfl⟩
theorem fl_V_150 : zFl "LayerVault" 150 1 6 := ⟨_, rfl, by decide +kernel, Or.inr ⟨"LayerVault", (zmem 91 (by decide +kernel) rfl)⟩⟩
theorem fl_V_145 : zFl "LayerVault" 145 0 23 := ⟨_, rfl, by decide +kernel, Or.inl (zmem 199 (by decide +kernel) rfl)⟩
theorem fp_V_145 : zFp "LayerVault" 145 0 23 := ⟨fl_V_145, fun q h => by cases h; rfl⟩
theorem kv_V_178 : zVf "LayerVault" 178 y_E_leave b_E_leave 1 none 1 0 := ⟨_, rfl, rfl, (zmem 411 (by decide +kernel) rfl), (zmem 412 (by decide +kernel) rfl), (zmem 413 (by decide +kernel) rfl), (zmem 414 (by decide +kernel) rfl), (zmem 4 (by decide +kernel) rfl), ⟨by decide +kernel, by decide +kernel, by decide +kernel⟩⟩
theorem fl_V_209 : zFl "LayerVault" 209 4 0 := ⟨_, rfl, by decide +kernel, Or.inr ⟨"LayerVault", (zmem 433 (by decide +kernel) rfl)⟩⟩
theorem fp_V_209 : zFp "LayerVault" 209 4 0 := ⟨fl_V_209, fun q h => by cases h; rfl⟩
theorem fl_V_210 : zFl "LayerVault" 210 4 1 := ⟨_, rfl, by decide +kernel, Or.inr ⟨"LayerVault", (zmem 435 (by decide +kernel) rfl)⟩⟩
theorem fp_V_210 : zFp "LayerVault" 210 4 1 := ⟨fl_V_210, fun q h => by cases h; rfl⟩
theorem kl_V_204 : Cond.classLink "LayerVault" 204 "LayerVault$Table" ∈ ztb := (zmem 419 (by decide +kernel) rfl)
theorem kn_Tb : Cond.instantiable "LayerVault$Table" 4 ∈ ztb := (zmem 420 (by decide +kernel) rfl)
theorem kt_Tb : Cond.initialized "LayerVault$Table" ∈ ztb := (zmem 9 (by decide +kernel) rfl)
theorem ki_V_206 : zIf "LayerVault" 206 y_Tb_init b_Tb_init 1 0 := ⟨Or.inr ⟨"LayerVault", (zmem 421 (by decide +kernel) rfl)⟩, (zmem 422 (by decide +kernel) rfl), (zmem 423 (by decide +kernel) rfl), (zmem 9 (by decide +kernel) rfl), ⟨by decide +kernel, by decide +kernel, by decide +kernel⟩, rfl⟩
theorem kv_V_225 : zVf "LayerVault" 225 y_Tb_add b_Tb_add 2 none 4 1 := ⟨_, rfl, rfl, (zmem 446 (by decide +kernel) rfl), (zmem 447 (by decide +kernel) rfl), (zmem 448 (by decide +kernel) rfl), (zmem 449 (by decide +kernel) rfl), (zmem 9 (by decide +kernel) rfl), ⟨by decide +kernel, by decide +kernel, by decide +kernel⟩⟩
theorem kv_V_221 : zVf "LayerVault" 221 y_V_newTable b_V_newTable 2 (some (.object "LayerVault$Table")) 0 0 := ⟨_, rfl, rfl, (zmem 415 (by decide +kernel) rfl), (zmem 417 (by decide +kernel) rfl), (zmemP 12 (by decide +kernel) rfl), (zmem 418 (by decide +kernel) rfl), (zmem 1 (by decide +kernel) rfl), ⟨by decide +kernel, by decide +kernel, by decide +kernel⟩⟩
theorem kv_V_218 : zVf "LayerVault" 218 y_V_drop b_V_drop 2 none 0 1 := ⟨_, rfl, rfl, (zmem 407 (by decide +kernel) rfl), (zmem 409 (by decide +kernel) rfl), (zmemP 11 (by decide +kernel) rfl), (zmem 410 (by decide +kernel) rfl), (zmem 1 (by decide +kernel) rfl), ⟨by decide +kernel, by decide +kernel, by decide +kernel⟩⟩
theorem fl_V_237 : zFl "LayerVault" 237 7 0 := ⟨_, rfl, by decide +kernel, Or.inr ⟨"LayerVault", (zmem 132 (by decide +kernel) rfl)⟩⟩
theorem fp_V_237 : zFp "LayerVault" 237 7 0 := ⟨fl_V_237, fun q h => by cases h; rfl⟩
theorem kv_V_253 : zVf "LayerVault" 253 y_V_lay b_V_lay 4 none 0 1 := ⟨_, rfl, rfl, (zmem 403 (by decide +kernel) rfl), (zmem 405 (by decide +kernel) rfl), (zmemP 10 (by decide +kernel) rfl), (zmem 406 (by decide +kernel) rfl), (zmem 1 (by decide +kernel) rfl), ⟨by decide +kernel, by decide +kernel, by decide +kernel⟩⟩
theorem kv_V_249 : zVf "LayerVault" 249 y_V_clear b_V_clear 3 none 0 1 := ⟨_, rfl, rfl, (zmem 399 (by decide +kernel) rfl), (zmem 401 (by decide +kernel) rfl), (zmemP 9 (by decide +kernel) rfl), (zmem 402 (by decide +kernel) rfl), (zmem 1 (by decide +kernel) rfl), ⟨by decide +kernel, by decide +kernel, by decide +kernel⟩⟩
theorem kv_V_245 : zVf "LayerVault" 245 y_V_sift b_V_sift 5 (some .int) 0 1 := ⟨_, rfl, rfl, (zmem 387 (by decide +kernel) rfl), (zmem 389 (by decide +kernel) rfl), (zmemP 7 (by decide +kernel) rfl), (zmem 390 (by decide +kernel) rfl), (zmem 1 (by decide +kernel) rfl), ⟨by decide +kernel, by decide +kernel, by decide +kernel⟩⟩
theorem kv_V_242 : zVf "LayerVault" 242 y_V_gather b_V_gather 3 none 0 1 := ⟨_, rfl, rfl, (zmem 322 (by decide +kernel) rfl), (zmem 324 (by decide +kernel) rfl), (zmemP 5 (by decide +kernel) rfl), (zmem 325 (by decide +kernel) rfl), (zmem 1 (by decide +kernel) rfl), ⟨by decide +kernel, by decide +kernel, by decide +kernel⟩⟩
theorem kv_V_238 : zVf "LayerVault" 238 y_V_join b_V_join 5 none 0 2 := ⟨_, rfl, rfl, (zmem 295 (by decide +kernel) rfl), (zmem 297 (by decide +kernel) rfl), (zmemP 4 (by decide +kernel) rfl), (zmem 298 (by decide +kernel) rfl), (zmem 1 (by decide +kernel) rfl), ⟨by decide +kernel, by decide +kernel, by decide +kernel⟩⟩
theorem kv_V_256 : zVf "LayerVault" 256 y_V_mergeDown b_V_mergeDown 3 (some .int) 0 1 := ⟨_, rfl, rfl, (zmem 291 (by decide +kernel) rfl), (zmem 293 (by decide +kernel) rfl), (zmemP 3 (by decide +kernel) rfl), (zmem 294 (by decide +kernel) rfl), (zmem 1 (by decide +kernel) rfl), ⟨by decide +kernel, by decide +kernel, by decide +kernel⟩⟩
theorem kv_V_260 : zVf "LayerVault" 260 y_Lv_entries b_Lv_entries 3 (some .int) 5 0 := ⟨_, rfl, rfl, (zmem 453 (by decide +kernel) rfl), (zmem 454 (by decide +kernel) rfl), (zmem 455 (by decide +kernel) rfl), (zmem 456 (by decide +kernel) rfl), (zmem 6 (by decide +kernel) rfl), ⟨by decide +kernel, by decide +kernel, by decide +kernel⟩⟩
theorem fl_V_120 : zFl "LayerVault" 120 3 0 := ⟨_, rfl, by decide +kernel, Or.inr ⟨"LayerVault", (zmem 109 (by decide +kernel) rfl)⟩⟩
theorem fl_V_269 : zFl "LayerVault" 269 0 4 := ⟨_, rfl, by decide +kernel, Or.inl (zmem 185 (by decide +kernel) rfl)⟩
theorem fp_V_269 : zFp "LayerVault" 269 0 4 := ⟨fl_V_269, fun q h => by cases h; rfl⟩
theorem kv_V_267 : zVf "LayerVault" 267 y_Mt_clear b_Mt_clear 2 none 3 0 := ⟨_, rfl, rfl, (zmem 467 (by decide +kernel) rfl), (zmem 468 (by decide +kernel) rfl), (zmem 469 (by decide +kernel) rfl), (zmem 470 (by decide +kernel) rfl), (zmem 3 (by decide +kernel) rfl), ⟨by decide +kernel, by decide +kernel, by decide +kernel⟩⟩
theorem kv_V_266 : zVf "LayerVault" 266 y_Mt_begin b_Mt_begin 2 none 3 1 := ⟨_, rfl, rfl, (zmem 457 (by decide +kernel) rfl), (zmem 458 (by decide +kernel) rfl), (zmem 459 (by decide +kernel) rfl), (zmem 460 (by decide +kernel) rfl), (zmem 3 (by decide +kernel) rfl), ⟨by decide +kernel, by decide +kernel, by decide +kernel⟩⟩
theorem kv_V_263 : zVf "LayerVault" 263 y_V_mergeFrom b_V_mergeFrom 3 (some .int) 0 1 := ⟨_, rfl, rfl, (zmem 287 (by decide +kernel) rfl), (zmem 289 (by decide +kernel) rfl), (zmemP 2 (by decide +kernel) rfl), (zmem 290 (by decide +kernel) rfl), (zmem 1 (by decide +kernel) rfl), ⟨by decide +kernel, by decide +kernel, by decide +kernel⟩⟩
theorem fl_V_153 : zFl "LayerVault" 153 2 3 := ⟨_, rfl, by decide +kernel, Or.inr ⟨"LayerVault", (zmem 26 (by decide +kernel) rfl)⟩⟩
theorem fp_V_156 : zFp "LayerVault" 156 1 0 := ⟨fl_V_156, fun q h => by cases h; rfl⟩
theorem fl_V_159 : zFl "LayerVault" 159 1 2 := ⟨_, rfl, by decide +kernel, Or.inr ⟨"LayerVault", (zmem 82 (by decide +kernel) rfl)⟩⟩
theorem fp_V_159 : zFp "LayerVault" 159 1 2 := ⟨fl_V_159, fun q h => by cases h; rfl⟩
theorem fp_V_163 : zFp "LayerVault" 163 1 1 := ⟨fl_V_163, fun q h => by cases h; rfl⟩
theorem fl_V_164 : zFl "LayerVault" 164 2 5 := ⟨_, rfl, by decide +kernel, Or.inr ⟨"LayerVault", (zmem 31 (by decide +kernel) rfl)⟩⟩
theorem fl_V_167 : zFl "LayerVault" 167 1 3 := ⟨_, rfl, by decide +kernel, Or.inr ⟨"LayerVault", (zmem 84 (by decide +kernel) rfl)⟩⟩
theorem fp_V_167 : zFp "LayerVault" 167 1 3 := ⟨fl_V_167, fun q h => by cases h; rfl⟩
theorem kv_V_174 : zVf "LayerVault" 174 y_Mt_insert b_Mt_insert 5 none 3 1 := ⟨_, rfl, rfl, (zmem 496 (by decide +kernel) rfl), (zmem 497 (by decide +kernel) rfl), (zmem 498 (by decide +kernel) rfl), (zmem 499 (by decide +kernel) rfl), (zmem 3 (by decide +kernel) rfl), ⟨by decide +kernel, by decide +kernel, by decide +kernel⟩⟩
theorem kv_V_170 : zVf "LayerVault" 170 y_E_settle b_E_settle 3 none 1 2 := ⟨_, rfl, rfl, (zmem 491 (by decide +kernel) rfl), (zmem 492 (by decide +kernel) rfl), (zmem 493 (by decide +kernel) rfl), (zmem 494 (by decide +kernel) rfl), (zmem 4 (by decide +kernel) rfl), ⟨by decide +kernel, by decide +kernel, by decide +kernel⟩⟩
theorem ki_V_149 : zIf "LayerVault" 149 y_E_init b_E_init 1 0 := ⟨Or.inr ⟨"LayerVault", (zmem 490 (by decide +kernel) rfl)⟩, (zmem 66 (by decide +kernel) rfl), (zmem 67 (by decide +kernel) rfl), (zmem 4 (by decide +kernel) rfl), ⟨by decide +kernel, by decide +kernel, by decide +kernel⟩, rfl⟩
theorem fp_V_97 : zFp "LayerVault" 97 0 6 := ⟨fl_V_97, fun q h => by cases h; rfl⟩
theorem kv_V_141 : zVf "LayerVault" 141 y_V_remember b_V_remember 5 none 0 3 := ⟨_, rfl, rfl, (zmem 486 (by decide +kernel) rfl), (zmem 488 (by decide +kernel) rfl), (zmemP 15 (by decide +kernel) rfl), (zmem 489 (by decide +kernel) rfl), (zmem 1 (by decide +kernel) rfl), ⟨by decide +kernel, by decide +kernel, by decide +kernel⟩⟩
theorem kv_V_131 : zVf "LayerVault" 131 y_S_write b_S_write 4 (some .int) 2 3 := ⟨_, rfl, rfl, (zmem 479 (by decide +kernel) rfl), (zmem 480 (by decide +kernel) rfl), (zmem 481 (by decide +kernel) rfl), (zmem 482 (by decide +kernel) rfl), (zmem 2 (by decide +kernel) rfl), ⟨by decide +kernel, by decide +kernel, by decide +kernel⟩⟩
theorem ks_V_134 : zSf "LayerVault" 134 y_V_code b_V_code 2 (some .int) 2 := ⟨(zmem 483 (by decide +kernel) rfl), (zmem 484 (by decide +kernel) rfl), (zmem 485 (by decide +kernel) rfl), (zmem 1 (by decide +kernel) rfl), ⟨by decide +kernel, by decide +kernel, by decide +kernel⟩⟩
theorem kv_V_127 : zVf "LayerVault" 127 y_V_room b_V_room 3 (some (.object "LayerVault$Segment")) 0 1 := ⟨_, rfl, rfl, (zmem 471 (by decide +kernel) rfl), (zmem 473 (by decide +kernel) rfl), (zmemP 14 (by decide +kernel) rfl), (zmem 474 (by decide +kernel) rfl), (zmem 1 (by decide +kernel) rfl), ⟨by decide +kernel, by decide +kernel, by decide +kernel⟩⟩
theorem kv_V_123 : zVf "LayerVault" 123 y_V_flush b_V_flush 6 (some .int) 0 0 := ⟨_, rfl, rfl, (zmem 283 (by decide +kernel) rfl), (zmem 284 (by decide +kernel) rfl), (zmem 285 (by decide +kernel) rfl), (zmem 286 (by decide +kernel) rfl), (zmem 1 (by decide +kernel) rfl), ⟨by decide +kernel, by decide +kernel, by decide +kernel⟩⟩
theorem fl_V_272 : zFl "LayerVault" 272 4 2 := ⟨_, rfl, by decide +kernel, Or.inr ⟨"LayerVault", (zmem 429 (by decide +kernel) rfl)⟩⟩
theorem fl_V_275 : zFl "LayerVault" 275 1 5 := ⟨_, rfl, by decide +kernel, Or.inr ⟨"LayerVault", (zmem 86 (by decide +kernel) rfl)⟩⟩
theorem fl_V_278 : zFl "LayerVault" 278 1 4 := ⟨_, rfl, by decide +kernel, Or.inr ⟨"LayerVault", (zmem 88 (by decide +kernel) rfl)⟩⟩
theorem km_V_281 : Cond.methodLink "LayerVault" 281 Lib.Math.min.name ∈ ztb := (zmem 513 (by decide +kernel) rfl)
theorem km_st_min : Cond.static Lib.Math.min.name ∈ ztb := (zmem 514 (by decide +kernel) rfl)
theorem km_ini : Cond.initialized "java/lang/Math" ∈ ztb := (zmem 10 (by decide +kernel) rfl)
theorem km_code_min : Cond.code Lib.Math.min.name Lib.Math.min.code 2 (some .int) ∈ ztb := (zmem 515 (by decide +kernel) rfl)
theorem fl_V_287 : zFl "LayerVault" 287 2 2 := ⟨_, rfl, by decide +kernel, Or.inr ⟨"LayerVault", (zmem 38 (by decide +kernel) rfl)⟩⟩
theorem kv_V_297 : zVf "LayerVault" 297 y_E_value b_E_value 1 (some .int) 1 0 := ⟨_, rfl, rfl, (zmem 520 (by decide +kernel) rfl), (zmem 521 (by decide +kernel) rfl), (zmem 522 (by decide +kernel) rfl), (zmem 523 (by decide +kernel) rfl), (zmem 4 (by decide +kernel) rfl), ⟨by decide +kernel, by decide +kernel, by decide +kernel⟩⟩
theorem kv_V_293 : zVf "LayerVault" 293 y_V_owner b_V_owner 10 (some (.object "LayerVault$Entry")) 0 2 := ⟨_, rfl, rfl, (zmem 516 (by decide +kernel) rfl), (zmem 518 (by decide +kernel) rfl), (zmemP 17 (by decide +kernel) rfl), (zmem 519 (by decide +kernel) rfl), (zmem 1 (by decide +kernel) rfl), ⟨by decide +kernel, by decide +kernel, by decide +kernel⟩⟩
theorem kv_V_300 : zVf "LayerVault" 300 y_V_free b_V_free 2 none 0 1 := ⟨_, rfl, rfl, (zmem 524 (by decide +kernel) rfl), (zmem 526 (by decide +kernel) rfl), (zmemP 18 (by decide +kernel) rfl), (zmem 527 (by decide +kernel) rfl), (zmem 1 (by decide +kernel) rfl), ⟨by decide +kernel, by decide +kernel, by decide +kernel⟩⟩
theorem kv_V_290 : zVf "LayerVault" 290 y_V_fits b_V_fits 6 (some .boolean) 0 1 := ⟨_, rfl, rfl, (zmem 509 (by decide +kernel) rfl), (zmem 511 (by decide +kernel) rfl), (zmemP 16 (by decide +kernel) rfl), (zmem 512 (by decide +kernel) rfl), (zmem 1 (by decide +kernel) rfl), ⟨by decide +kernel, by decide +kernel, by decide +kernel⟩⟩
theorem fp_V_138 : zFp "LayerVault" 138 0 5 := ⟨fl_V_138, fun q h => by cases h; rfl⟩
theorem fl_V_313 : zFl "LayerVault" 313 2 4 := ⟨_, rfl, by decide +kernel, Or.inr ⟨"LayerVault", (zmem 29 (by decide +kernel) rfl)⟩⟩
theorem fp_V_79 : zFp "LayerVault" 79 2 1 := ⟨fl_V_79, fun q h => by cases h; rfl⟩
theorem km_V_304 : Cond.methodLink "LayerVault" 304 Lib.Math.max.name ∈ ztb := (zmem 544 (by decide +kernel) rfl)
theorem km_st_max : Cond.static Lib.Math.max.name ∈ ztb := (zmem 545 (by decide +kernel) rfl)
theorem km_code_max : Cond.code Lib.Math.max.name Lib.Math.max.code 2 (some .int) ∈ ztb := (zmem 546 (by decide +kernel) rfl)
theorem kv_V_310 : zVf "LayerVault" 310 y_V_replay b_V_replay 6 none 0 1 := ⟨_, rfl, rfl, (zmem 551 (by decide +kernel) rfl), (zmem 553 (by decide +kernel) rfl), (zmemP 20 (by decide +kernel) rfl), (zmem 554 (by decide +kernel) rfl), (zmem 1 (by decide +kernel) rfl), ⟨by decide +kernel, by decide +kernel, by decide +kernel⟩⟩
theorem kv_V_307 : zVf "LayerVault" 307 y_V_cut b_V_cut 6 none 0 1 := ⟨_, rfl, rfl, (zmem 547 (by decide +kernel) rfl), (zmem 549 (by decide +kernel) rfl), (zmemP 19 (by decide +kernel) rfl), (zmem 550 (by decide +kernel) rfl), (zmem 1 (by decide +kernel) rfl), ⟨by decide +kernel, by decide +kernel, by decide +kernel⟩⟩
theorem kc_V_317 : Cond.constant "LayerVault" 317 (Int32.ofInt 2147483647) ∈ ztb := (zmem 571 (by decide +kernel) rfl)
theorem fl_V_321 : zFl "LayerVault" 321 0 8 := ⟨_, rfl, by decide +kernel, Or.inl (zmem 193 (by decide +kernel) rfl)⟩
theorem fp_V_321 : zFp "LayerVault" 321 0 8 := ⟨fl_V_321, fun q h => by cases h; rfl⟩
theorem kv_V_331 : zVf "LayerVault" 331 y_Tb_find b_Tb_find 4 (some (.object "LayerVault$Entry")) 4 2 := ⟨_, rfl, rfl, (zmem 580 (by decide +kernel) rfl), (zmem 581 (by decide +kernel) rfl), (zmem 582 (by decide +kernel) rfl), (zmem 583 (by decide +kernel) rfl), (zmem 9 (by decide +kernel) rfl), ⟨by decide +kernel, by decide +kernel, by decide +kernel⟩⟩
theorem kv_V_328 : zVf "LayerVault" 328 y_Tb_may b_Tb_may 2 (some .boolean) 4 1 := ⟨_, rfl, rfl, (zmem 576 (by decide +kernel) rfl), (zmem 577 (by decide +kernel) rfl), (zmem 578 (by decide +kernel) rfl), (zmem 579 (by decide +kernel) rfl), (zmem 9 (by decide +kernel) rfl), ⟨by decide +kernel, by decide +kernel, by decide +kernel⟩⟩
theorem kv_V_324 : zVf "LayerVault" 324 y_Mt_find b_Mt_find 4 (some (.object "LayerVault$Entry")) 3 2 := ⟨_, rfl, rfl, (zmem 572 (by decide +kernel) rfl), (zmem 573 (by decide +kernel) rfl), (zmem 574 (by decide +kernel) rfl), (zmem 575 (by decide +kernel) rfl), (zmem 3 (by decide +kernel) rfl), ⟨by decide +kernel, by decide +kernel, by decide +kernel⟩⟩
theorem kv_V_318 : zVf "LayerVault" 318 y_V_sees b_V_sees 2 (some .int) 0 1 := ⟨_, rfl, rfl, (zmem 567 (by decide +kernel) rfl), (zmem 569 (by decide +kernel) rfl), (zmemP 23 (by decide +kernel) rfl), (zmem 570 (by decide +kernel) rfl), (zmem 1 (by decide +kernel) rfl), ⟨by decide +kernel, by decide +kernel, by decide +kernel⟩⟩
theorem kv_V_335 : zVf "LayerVault" 335 y_V_search b_V_search 8 (some (.object "LayerVault$Entry")) 0 2 := ⟨_, rfl, rfl, (zmem 563 (by decide +kernel) rfl), (zmem 565 (by decide +kernel) rfl), (zmemP 22 (by decide +kernel) rfl), (zmem 566 (by decide +kernel) rfl), (zmem 1 (by decide +kernel) rfl), ⟨by decide +kernel, by decide +kernel, by decide +kernel⟩⟩
theorem kv_V_332 : zVf "LayerVault" 332 y_V_isSnapshot b_V_isSnapshot 2 (some .boolean) 0 1 := ⟨_, rfl, rfl, (zmem 559 (by decide +kernel) rfl), (zmem 561 (by decide +kernel) rfl), (zmemP 21 (by decide +kernel) rfl), (zmem 562 (by decide +kernel) rfl), (zmem 1 (by decide +kernel) rfl), ⟨by decide +kernel, by decide +kernel, by decide +kernel⟩⟩
theorem kv_V_338 : zVf "LayerVault" 338 y_Mg_look b_Mg_look 2 (some (.object "LayerVault$Entry")) 7 0 := ⟨_, rfl, rfl, (zmem 593 (by decide +kernel) rfl), (zmem 345 (by decide +kernel) rfl), (zmem 903 (by decide +kernel) rfl), (zmem 347 (by decide +kernel) rfl), (zmem 5 (by decide +kernel) rfl), ⟨by decide +kernel, by decide +kernel, by decide +kernel⟩⟩
theorem kv_V_339 : zVf "LayerVault" 339 y_Mg_step b_Mg_step 1 none 7 0 := ⟨_, rfl, rfl, (zmem 594 (by decide +kernel) rfl), (zmem 377 (by decide +kernel) rfl), (zmem 904 (by decide +kernel) rfl), (zmem 379 (by decide +kernel) rfl), (zmem 5 (by decide +kernel) rfl), ⟨by decide +kernel, by decide +kernel, by decide +kernel⟩⟩
theorem kj_Md_1 : Cond.methodLink "LayerVaultModel" 1 Lib.objectInit ∈ ztb := (zmem 616 (by decide +kernel) rfl)
theorem fl_Md_7 : zFl "LayerVaultModel" 7 8 10 := ⟨_, rfl, by decide +kernel, Or.inl (zmem 619 (by decide +kernel) rfl)⟩
theorem ff_Md_7 : zFf "LayerVaultModel" 7 8 10 := ⟨_, rfl, by decide +kernel, rfl, rfl, (zmem 619 (by decide +kernel) rfl)⟩
theorem fl_Md_13 : zFl "LayerVaultModel" 13 8 11 := ⟨_, rfl, by decide +kernel, Or.inl (zmem 620 (by decide +kernel) rfl)⟩
theorem ff_Md_13 : zFf "LayerVaultModel" 13 8 11 := ⟨_, rfl, by decide +kernel, rfl, rfl, (zmem 620 (by decide +kernel) rfl)⟩
theorem fl_Md_16 : zFl "LayerVaultModel" 16 8 12 := ⟨_, rfl, by decide +kernel, Or.inl (zmem 621 (by decide +kernel) rfl)⟩
theorem ff_Md_16 : zFf "LayerVaultModel" 16 8 12 := ⟨_, rfl, by decide +kernel, rfl, rfl, (zmem 621 (by decide +kernel) rfl)⟩
theorem fl_Md_19 : zFl "LayerVaultModel" 19 8 13 := ⟨_, rfl, by decide +kernel, Or.inl (zmem 622 (by decide +kernel) rfl)⟩
theorem ff_Md_19 : zFf "LayerVaultModel" 19 8 13 := ⟨_, rfl, by decide +kernel, rfl, rfl, (zmem 622 (by decide +kernel) rfl)⟩
theorem fl_Md_23 : zFl "LayerVaultModel" 23 8 14 := ⟨_, rfl, by decide +kernel, Or.inl (zmem 623 (by decide +kernel) rfl)⟩
theorem ff_Md_23 : zFf "LayerVaultModel" 23 8 14 := ⟨_, rfl, by decide +kernel, rfl, rfl, (zmem 623 (by decide +kernel) rfl)⟩
theorem fl_Md_26 : zFl "LayerVaultModel" 26 8 15 := ⟨_, rfl, by decide +kernel, Or.inl (zmem 624 (by decide +kernel) rfl)⟩
theorem ff_Md_26 : zFf "LayerVaultModel" 26 8 15 := ⟨_, rfl, by decide +kernel, rfl, rfl, (zmem 624 (by decide +kernel) rfl)⟩
theorem fl_Md_29 : zFl "LayerVaultModel" 29 8 16 := ⟨_, rfl, by decide +kernel, Or.inl (zmem 625 (by decide +kernel) rfl)⟩
theorem ff_Md_29 : zFf "LayerVaultModel" 29 8 16 := ⟨_, rfl, by decide +kernel, rfl, rfl, (zmem 625 (by decide +kernel) rfl)⟩
theorem fl_Md_32 : zFl "LayerVaultModel" 32 8 17 := ⟨_, rfl, by decide +kernel, Or.inl (zmem 626 (by decide +kernel) rfl)⟩
theorem ff_Md_32 : zFf "LayerVaultModel" 32 8 17 := ⟨_, rfl, by decide +kernel, rfl, rfl, (zmem 626 (by decide +kernel) rfl)⟩
theorem fl_Md_35 : zFl "LayerVaultModel" 35 8 18 := ⟨_, rfl, by decide +kernel, Or.inl (zmem 627 (by decide +kernel) rfl)⟩
theorem ff_Md_35 : zFf "LayerVaultModel" 35 8 18 := ⟨_, rfl, by decide +kernel, rfl, rfl, (zmem 627 (by decide +kernel) rfl)⟩
theorem fl_Md_38 : zFl "LayerVaultModel" 38 8 19 := ⟨_, rfl, by decide +kernel, Or.inl (zmem 628 (by decide +kernel) rfl)⟩
theorem ff_Md_38 : zFf "LayerVaultModel" 38 8 19 := ⟨_, rfl, by decide +kernel, rfl, rfl, (zmem 628 (by decide +kernel) rfl)⟩
theorem fl_Md_41 : zFl "LayerVaultModel" 41 8 20 := ⟨_, rfl, by decide +kernel, Or.inl (zmem 629 (by decide +kernel) rfl)⟩
theorem ff_Md_41 : zFf "LayerVaultModel" 41 8 20 := ⟨_, rfl, by decide +kernel, rfl, rfl, (zmem 629 (by decide +kernel) rfl)⟩
theorem fl_Md_44 : zFl "LayerVaultModel" 44 8 21 := ⟨_, rfl, by decide +kernel, Or.inl (zmem 634 (by decide +kernel) rfl)⟩
theorem ff_Md_44 : zFf "LayerVaultModel" 44 8 21 := ⟨_, rfl, by decide +kernel, rfl, rfl, (zmem 634 (by decide +kernel) rfl)⟩
theorem fl_Md_47 : zFl "LayerVaultModel" 47 8 22 := ⟨_, rfl, by decide +kernel, Or.inl (zmem 635 (by decide +kernel) rfl)⟩
theorem ff_Md_47 : zFf "LayerVaultModel" 47 8 22 := ⟨_, rfl, by decide +kernel, rfl, rfl, (zmem 635 (by decide +kernel) rfl)⟩
theorem fl_Md_50 : zFl "LayerVaultModel" 50 8 23 := ⟨_, rfl, by decide +kernel, Or.inl (zmem 636 (by decide +kernel) rfl)⟩
theorem ff_Md_50 : zFf "LayerVaultModel" 50 8 23 := ⟨_, rfl, by decide +kernel, rfl, rfl, (zmem 636 (by decide +kernel) rfl)⟩
theorem fl_Md_53 : zFl "LayerVaultModel" 53 8 24 := ⟨_, rfl, by decide +kernel, Or.inl (zmem 637 (by decide +kernel) rfl)⟩
theorem ff_Md_53 : zFf "LayerVaultModel" 53 8 24 := ⟨_, rfl, by decide +kernel, rfl, rfl, (zmem 637 (by decide +kernel) rfl)⟩
theorem fl_Md_56 : zFl "LayerVaultModel" 56 8 25 := ⟨_, rfl, by decide +kernel, Or.inl (zmem 638 (by decide +kernel) rfl)⟩
theorem ff_Md_56 : zFf "LayerVaultModel" 56 8 25 := ⟨_, rfl, by decide +kernel, rfl, rfl, (zmem 638 (by decide +kernel) rfl)⟩
theorem fl_Md_59 : zFl "LayerVaultModel" 59 8 26 := ⟨_, rfl, by decide +kernel, Or.inl (zmem 641 (by decide +kernel) rfl)⟩
theorem ff_Md_59 : zFf "LayerVaultModel" 59 8 26 := ⟨_, rfl, by decide +kernel, rfl, rfl, (zmem 641 (by decide +kernel) rfl)⟩
theorem fl_Md_62 : zFl "LayerVaultModel" 62 8 27 := ⟨_, rfl, by decide +kernel, Or.inl (zmem 643 (by decide +kernel) rfl)⟩
theorem ff_Md_62 : zFf "LayerVaultModel" 62 8 27 := ⟨_, rfl, by decide +kernel, rfl, rfl, (zmem 643 (by decide +kernel) rfl)⟩
theorem fl_Md_65 : zFl "LayerVaultModel" 65 8 28 := ⟨_, rfl, by decide +kernel, Or.inl (zmem 644 (by decide +kernel) rfl)⟩
theorem ff_Md_65 : zFf "LayerVaultModel" 65 8 28 := ⟨_, rfl, by decide +kernel, rfl, rfl, (zmem 644 (by decide +kernel) rfl)⟩
theorem fl_Md_68 : zFl "LayerVaultModel" 68 8 29 := ⟨_, rfl, by decide +kernel, Or.inl (zmem 645 (by decide +kernel) rfl)⟩
theorem ff_Md_68 : zFf "LayerVaultModel" 68 8 29 := ⟨_, rfl, by decide +kernel, rfl, rfl, (zmem 645 (by decide +kernel) rfl)⟩
theorem fl_Md_71 : zFl "LayerVaultModel" 71 8 0 := ⟨_, rfl, by decide +kernel, Or.inl (zmem 617 (by decide +kernel) rfl)⟩
theorem fl_Md_75 : zFl "LayerVaultModel" 75 8 1 := ⟨_, rfl, by decide +kernel, Or.inl (zmem 618 (by decide +kernel) rfl)⟩
theorem kv_Md_78 : zVf "LayerVaultModel" 78 y_Md_before b_Md_before 3 (some .boolean) 8 2 := ⟨_, rfl, rfl, (zmem 775 (by decide +kernel) rfl), (zmem 777 (by decide +kernel) rfl), (zmemP 37 (by decide +kernel) rfl), (zmem 778 (by decide +kernel) rfl), (zmem 8 (by decide +kernel) rfl), ⟨by decide +kernel, by decide +kernel, by decide +kernel⟩⟩
theorem kv_Md_86 : zVf "LayerVaultModel" 86 y_Md_parted b_Md_parted 5 (some .boolean) 8 2 := ⟨_, rfl, rfl, (zmem 755 (by decide +kernel) rfl), (zmem 757 (by decide +kernel) rfl), (zmemP 32 (by decide +kernel) rfl), (zmem 758 (by decide +kernel) rfl), (zmem 8 (by decide +kernel) rfl), ⟨by decide +kernel, by decide +kernel, by decide +kernel⟩⟩
theorem kv_Md_82 : zVf "LayerVaultModel" 82 y_Md_above b_Md_above 5 (some .int) 8 1 := ⟨_, rfl, rfl, (zmem 751 (by decide +kernel) rfl), (zmem 753 (by decide +kernel) rfl), (zmemP 31 (by decide +kernel) rfl), (zmem 754 (by decide +kernel) rfl), (zmem 8 (by decide +kernel) rfl), ⟨by decide +kernel, by decide +kernel, by decide +kernel⟩⟩
theorem fl_Md_89 : zFl "LayerVaultModel" 89 8 4 := ⟨_, rfl, by decide +kernel, Or.inl (zmem 632 (by decide +kernel) rfl)⟩
theorem kv_Md_96 : zVf "LayerVaultModel" 96 y_Md_isLowest b_Md_isLowest 4 (some .boolean) 8 1 := ⟨_, rfl, rfl, (zmem 763 (by decide +kernel) rfl), (zmem 765 (by decide +kernel) rfl), (zmemP 34 (by decide +kernel) rfl), (zmem 766 (by decide +kernel) rfl), (zmem 8 (by decide +kernel) rfl), ⟨by decide +kernel, by decide +kernel, by decide +kernel⟩⟩
theorem kv_Md_92 : zVf "LayerVaultModel" 92 y_Md_gone b_Md_gone 2 (some .boolean) 8 1 := ⟨_, rfl, rfl, (zmem 759 (by decide +kernel) rfl), (zmem 761 (by decide +kernel) rfl), (zmemP 33 (by decide +kernel) rfl), (zmem 762 (by decide +kernel) rfl), (zmem 8 (by decide +kernel) rfl), ⟨by decide +kernel, by decide +kernel, by decide +kernel⟩⟩
theorem kv_Md_103 : zVf "LayerVaultModel" 103 y_Md_sift b_Md_sift 4 (some .int) 8 1 := ⟨_, rfl, rfl, (zmem 747 (by decide +kernel) rfl), (zmem 749 (by decide +kernel) rfl), (zmemP 30 (by decide +kernel) rfl), (zmem 750 (by decide +kernel) rfl), (zmem 8 (by decide +kernel) rfl), ⟨by decide +kernel, by decide +kernel, by decide +kernel⟩⟩
theorem kv_Md_99 : zVf "LayerVaultModel" 99 y_Md_choose b_Md_choose 4 none 8 2 := ⟨_, rfl, rfl, (zmem 743 (by decide +kernel) rfl), (zmem 745 (by decide +kernel) rfl), (zmemP 29 (by decide +kernel) rfl), (zmem 746 (by decide +kernel) rfl), (zmem 8 (by decide +kernel) rfl), ⟨by decide +kernel, by decide +kernel, by decide +kernel⟩⟩
theorem kv_Md_116 : zVf "LayerVaultModel" 116 y_Md_arrange b_Md_arrange 4 none 8 0 := ⟨_, rfl, rfl, (zmem 771 (by decide +kernel) rfl), (zmem 773 (by decide +kernel) rfl), (zmemP 36 (by decide +kernel) rfl), (zmem 774 (by decide +kernel) rfl), (zmem 8 (by decide +kernel) rfl), ⟨by decide +kernel, by decide +kernel, by decide +kernel⟩⟩
theorem kv_Md_112 : zVf "LayerVaultModel" 112 y_Md_mergeNext b_Md_mergeNext 1 (some .int) 8 0 := ⟨_, rfl, rfl, (zmem 767 (by decide +kernel) rfl), (zmem 769 (by decide +kernel) rfl), (zmemP 35 (by decide +kernel) rfl), (zmem 770 (by decide +kernel) rfl), (zmem 8 (by decide +kernel) rfl), ⟨by decide +kernel, by decide +kernel, by decide +kernel⟩⟩
theorem kv_Md_109 : zVf "LayerVaultModel" 109 y_Md_size b_Md_size 4 (some .int) 8 1 := ⟨_, rfl, rfl, (zmem 731 (by decide +kernel) rfl), (zmem 733 (by decide +kernel) rfl), (zmemP 26 (by decide +kernel) rfl), (zmem 734 (by decide +kernel) rfl), (zmem 8 (by decide +kernel) rfl), ⟨by decide +kernel, by decide +kernel, by decide +kernel⟩⟩
theorem fl_Md_106 : zFl "LayerVaultModel" 106 8 3 := ⟨_, rfl, by decide +kernel, Or.inl (zmem 631 (by decide +kernel) rfl)⟩
theorem fp_Md_106 : zFp "LayerVaultModel" 106 8 3 := ⟨fl_Md_106, fun q h => by cases h; rfl⟩
theorem fl_Md_122 : zFl "LayerVaultModel" 122 8 2 := ⟨_, rfl, by decide +kernel, Or.inl (zmem 630 (by decide +kernel) rfl)⟩
theorem fp_Md_122 : zFp "LayerVaultModel" 122 8 2 := ⟨fl_Md_122, fun q h => by cases h; rfl⟩
theorem fl_Md_125 : zFl "LayerVaultModel" 125 8 8 := ⟨_, rfl, by decide +kernel, Or.inl (zmem 642 (by decide +kernel) rfl)⟩
theorem fp_Md_125 : zFp "LayerVaultModel" 125 8 8 := ⟨fl_Md_125, fun q h => by cases h; rfl⟩
theorem kv_Md_119 : zVf "LayerVaultModel" 119 y_Md_mergeOf b_Md_mergeOf 3 (some .int) 8 1 := ⟨_, rfl, rfl, (zmem 739 (by decide +kernel) rfl), (zmem 741 (by decide +kernel) rfl), (zmemP 28 (by decide +kernel) rfl), (zmem 742 (by decide +kernel) rfl), (zmem 8 (by decide +kernel) rfl), ⟨by decide +kernel, by decide +kernel, by decide +kernel⟩⟩
theorem fl_Md_128 : zFl "LayerVaultModel" 128 8 7 := ⟨_, rfl, by decide +kernel, Or.inl (zmem 640 (by decide +kernel) rfl)⟩
theorem fp_Md_128 : zFp "LayerVaultModel" 128 8 7 := ⟨fl_Md_128, fun q h => by cases h; rfl⟩
theorem kv_Md_131 : zVf "LayerVaultModel" 131 y_Md_needsHead b_Md_needsHead 2 (some .boolean) 8 1 := ⟨_, rfl, rfl, (zmem 727 (by decide +kernel) rfl), (zmem 729 (by decide +kernel) rfl), (zmemP 25 (by decide +kernel) rfl), (zmem 730 (by decide +kernel) rfl), (zmem 8 (by decide +kernel) rfl), ⟨by decide +kernel, by decide +kernel, by decide +kernel⟩⟩
theorem fl_Md_134 : zFl "LayerVaultModel" 134 8 5 := ⟨_, rfl, by decide +kernel, Or.inl (zmem 633 (by decide +kernel) rfl)⟩
theorem fp_Md_134 : zFp "LayerVaultModel" 134 8 5 := ⟨fl_Md_134, fun q h => by cases h; rfl⟩
theorem kv_Md_140 : zVf "LayerVaultModel" 140 y_Md_add b_Md_add 4 (some .int) 8 3 := ⟨_, rfl, rfl, (zmem 715 (by decide +kernel) rfl), (zmem 717 (by decide +kernel) rfl), (zmemP 24 (by decide +kernel) rfl), (zmem 718 (by decide +kernel) rfl), (zmem 8 (by decide +kernel) rfl), ⟨by decide +kernel, by decide +kernel, by decide +kernel⟩⟩
theorem ks_Md_137 : zSf "LayerVaultModel" 137 y_Md_isKey b_Md_isKey 1 (some .boolean) 1 := ⟨(zmem 712 (by decide +kernel) rfl), (zmem 713 (by decide +kernel) rfl), (zmem 714 (by decide +kernel) rfl), (zmem 8 (by decide +kernel) rfl), ⟨by decide +kernel, by decide +kernel, by decide +kernel⟩⟩
theorem fp_Md_89 : zFp "LayerVaultModel" 89 8 4 := ⟨fl_Md_89, fun q h => by cases h; rfl⟩
theorem fp_Md_75 : zFp "LayerVaultModel" 75 8 1 := ⟨fl_Md_75, fun q h => by cases h; rfl⟩
theorem kv_Md_150 : zVf "LayerVaultModel" 150 y_Md_record b_Md_record 3 (some .int) 8 1 := ⟨_, rfl, rfl, (zmem 779 (by decide +kernel) rfl), (zmem 781 (by decide +kernel) rfl), (zmemP 38 (by decide +kernel) rfl), (zmem 782 (by decide +kernel) rfl), (zmem 8 (by decide +kernel) rfl), ⟨by decide +kernel, by decide +kernel, by decide +kernel⟩⟩
theorem kv_Md_147 : zVf "LayerVaultModel" 147 y_Md_flushAll b_Md_flushAll 2 none 8 0 := ⟨_, rfl, rfl, (zmem 735 (by decide +kernel) rfl), (zmem 737 (by decide +kernel) rfl), (zmemP 27 (by decide +kernel) rfl), (zmem 738 (by decide +kernel) rfl), (zmem 8 (by decide +kernel) rfl), ⟨by decide +kernel, by decide +kernel, by decide +kernel⟩⟩
theorem fl_Md_144 : zFl "LayerVaultModel" 144 8 6 := ⟨_, rfl, by decide +kernel, Or.inl (zmem 639 (by decide +kernel) rfl)⟩
theorem kv_Md_153 : zVf "LayerVaultModel" 153 y_Md_isLive b_Md_isLive 3 (some .boolean) 8 2 := ⟨_, rfl, rfl, (zmem 803 (by decide +kernel) rfl), (zmem 805 (by decide +kernel) rfl), (zmemP 40 (by decide +kernel) rfl), (zmem 806 (by decide +kernel) rfl), (zmem 8 (by decide +kernel) rfl), ⟨by decide +kernel, by decide +kernel, by decide +kernel⟩⟩
theorem kv_Md_162 : zVf "LayerVaultModel" 162 y_Md_nextLive b_Md_nextLive 3 (some .int) 8 0 := ⟨_, rfl, rfl, (zmem 811 (by decide +kernel) rfl), (zmem 813 (by decide +kernel) rfl), (zmemP 42 (by decide +kernel) rfl), (zmem 814 (by decide +kernel) rfl), (zmem 8 (by decide +kernel) rfl), ⟨by decide +kernel, by decide +kernel, by decide +kernel⟩⟩
theorem fp_Md_144 : zFp "LayerVaultModel" 144 8 6 := ⟨fl_Md_144, fun q h => by cases h; rfl⟩
theorem kv_Md_159 : zVf "LayerVaultModel" 159 y_Md_headsFor b_Md_headsFor 6 (some .int) 8 1 := ⟨_, rfl, rfl, (zmem 807 (by decide +kernel) rfl), (zmem 809 (by decide +kernel) rfl), (zmemP 41 (by decide +kernel) rfl), (zmem 810 (by decide +kernel) rfl), (zmem 8 (by decide +kernel) rfl), ⟨by decide +kernel, by decide +kernel, by decide +kernel⟩⟩
theorem kv_Md_156 : zVf "LayerVaultModel" 156 y_Md_liveIn b_Md_liveIn 4 (some .int) 8 1 := ⟨_, rfl, rfl, (zmem 799 (by decide +kernel) rfl), (zmem 801 (by decide +kernel) rfl), (zmemP 39 (by decide +kernel) rfl), (zmem 802 (by decide +kernel) rfl), (zmem 8 (by decide +kernel) rfl), ⟨by decide +kernel, by decide +kernel, by decide +kernel⟩⟩
theorem fp_Md_71 : zFp "LayerVaultModel" 71 8 0 := ⟨fl_Md_71, fun q h => by cases h; rfl⟩
theorem kv_Md_165 : zVf "LayerVaultModel" 165 y_Md_tableOf b_Md_tableOf 2 (some .int) 8 1 := ⟨_, rfl, rfl, (zmem 851 (by decide +kernel) rfl), (zmem 853 (by decide +kernel) rfl), (zmemP 47 (by decide +kernel) rfl), (zmem 854 (by decide +kernel) rfl), (zmem 8 (by decide +kernel) rfl), ⟨by decide +kernel, by decide +kernel, by decide +kernel⟩⟩
theorem kv_Md_172 : zVf "LayerVaultModel" 172 y_Md_isSeen b_Md_isSeen 3 (some .boolean) 8 2 := ⟨_, rfl, rfl, (zmem 855 (by decide +kernel) rfl), (zmem 857 (by decide +kernel) rfl), (zmemP 48 (by decide +kernel) rfl), (zmem 858 (by decide +kernel) rfl), (zmem 8 (by decide +kernel) rfl), ⟨by decide +kernel, by decide +kernel, by decide +kernel⟩⟩
theorem kv_Md_168 : zVf "LayerVaultModel" 168 y_Md_lies b_Md_lies 4 (some .boolean) 8 3 := ⟨_, rfl, rfl, (zmem 847 (by decide +kernel) rfl), (zmem 849 (by decide +kernel) rfl), (zmemP 46 (by decide +kernel) rfl), (zmem 850 (by decide +kernel) rfl), (zmem 8 (by decide +kernel) rfl), ⟨by decide +kernel, by decide +kernel, by decide +kernel⟩⟩
theorem kv_Md_179 : zVf "LayerVaultModel" 179 y_Md_bound b_Md_bound 6 (some .int) 8 3 := ⟨_, rfl, rfl, (zmem 871 (by decide +kernel) rfl), (zmem 873 (by decide +kernel) rfl), (zmemP 52 (by decide +kernel) rfl), (zmem 874 (by decide +kernel) rfl), (zmem 8 (by decide +kernel) rfl), ⟨by decide +kernel, by decide +kernel, by decide +kernel⟩⟩
theorem kv_Md_175 : zVf "LayerVaultModel" 175 y_Md_filter b_Md_filter 5 (some .int) 8 2 := ⟨_, rfl, rfl, (zmem 867 (by decide +kernel) rfl), (zmem 869 (by decide +kernel) rfl), (zmemP 51 (by decide +kernel) rfl), (zmem 870 (by decide +kernel) rfl), (zmem 8 (by decide +kernel) rfl), ⟨by decide +kernel, by decide +kernel, by decide +kernel⟩⟩
theorem fl_Md_183 : zFl "LayerVaultModel" 183 8 9 := ⟨_, rfl, by decide +kernel, Or.inl (zmem 646 (by decide +kernel) rfl)⟩
theorem fp_Md_183 : zFp "LayerVaultModel" 183 8 9 := ⟨fl_Md_183, fun q h => by cases h; rfl⟩
theorem kv_Md_186 : zVf "LayerVaultModel" 186 y_Md_latest b_Md_latest 8 (some .int) 8 4 := ⟨_, rfl, rfl, (zmem 843 (by decide +kernel) rfl), (zmem 845 (by decide +kernel) rfl), (zmemP 45 (by decide +kernel) rfl), (zmem 846 (by decide +kernel) rfl), (zmem 8 (by decide +kernel) rfl), ⟨by decide +kernel, by decide +kernel, by decide +kernel⟩⟩
theorem kv_Md_193 : zVf "LayerVaultModel" 193 y_Md_may b_Md_may 6 (some .boolean) 8 3 := ⟨_, rfl, rfl, (zmem 863 (by decide +kernel) rfl), (zmem 865 (by decide +kernel) rfl), (zmemP 50 (by decide +kernel) rfl), (zmem 866 (by decide +kernel) rfl), (zmem 8 (by decide +kernel) rfl), ⟨by decide +kernel, by decide +kernel, by decide +kernel⟩⟩
theorem kv_Md_190 : zVf "LayerVaultModel" 190 y_Md_tables b_Md_tables 2 (some .int) 8 1 := ⟨_, rfl, rfl, (zmem 859 (by decide +kernel) rfl), (zmem 861 (by decide +kernel) rfl), (zmemP 49 (by decide +kernel) rfl), (zmem 862 (by decide +kernel) rfl), (zmem 8 (by decide +kernel) rfl), ⟨by decide +kernel, by decide +kernel, by decide +kernel⟩⟩
theorem kv_Md_199 : zVf "LayerVaultModel" 199 y_Md_find b_Md_find 6 (some .int) 8 2 := ⟨_, rfl, rfl, (zmem 839 (by decide +kernel) rfl), (zmem 841 (by decide +kernel) rfl), (zmemP 44 (by decide +kernel) rfl), (zmem 842 (by decide +kernel) rfl), (zmem 8 (by decide +kernel) rfl), ⟨by decide +kernel, by decide +kernel, by decide +kernel⟩⟩
theorem kv_Md_196 : zVf "LayerVaultModel" 196 y_Md_isView b_Md_isView 2 (some .boolean) 8 1 := ⟨_, rfl, rfl, (zmem 835 (by decide +kernel) rfl), (zmem 837 (by decide +kernel) rfl), (zmemP 43 (by decide +kernel) rfl), (zmem 838 (by decide +kernel) rfl), (zmem 8 (by decide +kernel) rfl), ⟨by decide +kernel, by decide +kernel, by decide +kernel⟩⟩
theorem kv_Md_202 : zVf "LayerVaultModel" 202 y_Md_there b_Md_there 6 (some .boolean) 8 2 := ⟨_, rfl, rfl, (zmem 883 (by decide +kernel) rfl), (zmem 885 (by decide +kernel) rfl), (zmemP 53 (by decide +kernel) rfl), (zmem 886 (by decide +kernel) rfl), (zmem 8 (by decide +kernel) rfl), ⟨by decide +kernel, by decide +kernel, by decide +kernel⟩⟩

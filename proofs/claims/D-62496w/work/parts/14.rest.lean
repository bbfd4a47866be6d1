set_option maxRecDepth 100000 in
theorem t_Reader_37 : thr "RoleSessions$Reader" 37 39 30 := ⟨"java/lang/IllegalArgumentException", by decide, by decide, by decide +kernel, List.mem_append_right _ (List.mem_of_getElem? (i := 154) (by decide +kernel)), List.mem_append_right _ (List.mem_of_getElem? (i := 155) (by decide +kernel)), List.mem_append_right _ (List.mem_of_getElem? (i := 7) (by decide +kernel)), by decide +kernel⟩
set_option maxRecDepth 100000 in
theorem t_Choice_35 : thr "RoleSessions$Choice" 35 37 31 := ⟨"java/lang/UnsupportedOperationException", by decide, by decide, by decide +kernel, List.mem_append_right _ (List.mem_of_getElem? (i := 435) (by decide +kernel)), List.mem_append_right _ (List.mem_of_getElem? (i := 436) (by decide +kernel)), List.mem_append_right _ (List.mem_of_getElem? (i := 18) (by decide +kernel)), by decide +kernel⟩
set_option maxRecDepth 100000 in
theorem t_End_9 : thr "RoleSessions$End" 9 11 31 := ⟨"java/lang/UnsupportedOperationException", by decide, by decide, by decide +kernel, List.mem_append_right _ (List.mem_of_getElem? (i := 476) (by decide +kernel)), List.mem_append_right _ (List.mem_of_getElem? (i := 436) (by decide +kernel)), List.mem_append_right _ (List.mem_of_getElem? (i := 18) (by decide +kernel)), by decide +kernel⟩
set_option maxRecDepth 100000 in
theorem t_Loop_17 : thr "RoleSessions$Loop" 17 19 31 := ⟨"java/lang/UnsupportedOperationException", by decide, by decide, by decide +kernel, List.mem_append_right _ (List.mem_of_getElem? (i := 481) (by decide +kernel)), List.mem_append_right _ (List.mem_of_getElem? (i := 436) (by decide +kernel)), List.mem_append_right _ (List.mem_of_getElem? (i := 18) (by decide +kernel)), by decide +kernel⟩
set_option maxRecDepth 100000 in
theorem t_Variable_13 : thr "RoleSessions$Variable" 13 15 31 := ⟨"java/lang/UnsupportedOperationException", by decide, by decide, by decide +kernel, List.mem_append_right _ (List.mem_of_getElem? (i := 487) (by decide +kernel)), List.mem_append_right _ (List.mem_of_getElem? (i := 436) (by decide +kernel)), List.mem_append_right _ (List.mem_of_getElem? (i := 18) (by decide +kernel)), by decide +kernel⟩
theorem oi_1 : Cond.instanceMethod Lib.objectInit ∈ lw_tbl := List.mem_append_right _ (List.mem_of_getElem? (i := 31) (by decide +kernel))
theorem oi_2 : Cond.code Lib.objectInit ⟨#[0xb1]⟩ 1 none ∈ lw_tbl := List.mem_append_right _ (List.mem_of_getElem? (i := 32) (by decide +kernel))
theorem ao_Machine : Cond.arrayOver (.object "RoleSessions$Machine") ∈ lw_tbl := List.mem_append_right _ (List.mem_of_getElem? (i := 66) (by decide +kernel))
theorem ao_State : Cond.arrayOver (.object "RoleSessions$State") ∈ lw_tbl := List.mem_append_right _ (List.mem_of_getElem? (i := 68) (by decide +kernel))
theorem df_1 : dfl 1 = [.null, .null, iv 0, .null, .null, .null, .null, .null, .null, iv 0, iv 0, .null, .null, .null, .null, .null, iv 0] := by decide +kernel
theorem df_2 : dfl 2 = [.null, iv 0, iv 0, iv 0, .null, .null] := by decide +kernel
theorem df_3 : dfl 3 = [] := by decide +kernel
theorem df_4 : dfl 4 = [iv 0] := by decide +kernel
theorem df_5 : dfl 5 = [iv 0, .null] := by decide +kernel
theorem df_6 : dfl 6 = [iv 0, iv 0, .null] := by decide +kernel
theorem df_7 : dfl 7 = [iv 0, iv 0, .null, .null] := by decide +kernel
theorem df_8 : dfl 8 = [] := by decide +kernel
theorem df_9 : dfl 9 = [iv 0] := by decide +kernel
theorem df_10 : dfl 10 = [iv 0, .null] := by decide +kernel
theorem df_11 : dfl 11 = [iv 0, iv 0, .null, .null] := by decide +kernel
theorem df_12 : dfl 12 = [iv 0, iv 0, .null, .null] := by decide +kernel
theorem df_13 : dfl 13 = [iv 0, .null, .null] := by decide +kernel
theorem df_14 : dfl 14 = [iv 0, iv 0, .null, .null] := by decide +kernel
theorem df_15 : dfl 15 = [iv 0, iv 0, iv 0, .null, .null, iv 0, .null] := by decide +kernel
theorem df_16 : dfl 16 = [.null, .null, iv 0] := by decide +kernel
theorem df_17 : dfl 17 = [iv 0, .null, iv 0, iv 0, iv 0, .null, .null, .null, .null, .null, .null, .null, iv 0, iv 0, iv 0, .null, .null, .null, iv 0, .null, .null, .null, .null, .null, .null, .null, .null, .null, .null, .null, .null, .null, iv 0, iv 0, .null, .null, .null, .null, .null] := by decide +kernel

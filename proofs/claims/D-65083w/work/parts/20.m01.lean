/-! printed by gen_all.py -/
def y_Bench_init : MethodName := ⟨"PackingHouse$Bench", "<init>", "()V"⟩
theorem v_Bench_init : zTv prog_2_method_1_code 1 24 true t_Bench_init = true := by decide +kernel
theorem k_Bench_init (ph : Bool) : zcKey (c_Bench_init ph) t_Bench_init = true := by cases ph <;> decide +kernel
theorem f_Bench_init : zfI y_Bench_init prog_2_method_1_code 1 0 := ⟨zq2 (q := (3, 78)) rfl, zq2 (q := (3, 77)) rfl, zq2 (q := (1, 24)) rfl, ⟨by decide, by decide⟩, rfl, by decide +kernel⟩
theorem a_Bench_init (ph : Bool) : zcAll 24 2 40 ph (c_Bench_init ph) := ⟨zkIN (o := 24) (i := 3) f_Shelf_init (by decide) (ok_Shelf_init ph) (zq2 (q := (3, 79)) rfl), znn_m (ok_Shelf_init ph).1, trivial⟩
theorem ok_Bench_init (ph : Bool) : zOk y_Bench_init (.code y_Bench_init prog_2_method_1_code 1 none) 2 40 ph (X_Bench_init ph) := zMd_ok (plainFor_of_name (by decide)) rfl (fun _ => rfl) v_Bench_init (k_Bench_init ph) (a_Bench_init ph)
def y_Box_init : MethodName := ⟨"PackingHouse$Box", "<init>", "()V"⟩
theorem v_Box_init : zTv prog_6_method_1_code 1 25 true t_Box_init = true := by decide +kernel
theorem k_Box_init (ph : Bool) : zcKey (c_Box_init ph) t_Box_init = true := by cases ph <;> decide +kernel
theorem f_Box_init : zfI y_Box_init prog_6_method_1_code 1 0 := ⟨zq2 (q := (3, 85)) rfl, zq2 (q := (3, 84)) rfl, zq2 (q := (1, 25)) rfl, ⟨by decide, by decide⟩, rfl, by decide +kernel⟩
theorem a_Box_init (ph : Bool) : zcAll 25 2 41 ph (c_Box_init ph) := ⟨zkIN (o := 25) (i := 3) f_Shelf_init (by decide) (ok_Shelf_init ph) (zq2 (q := (3, 86)) rfl), znn_m (ok_Shelf_init ph).1, zkI (o := 25) (i := 11) f_Row_init (by decide) (ok_Row_init ph) (zq2 (q := (3, 88)) rfl), znn_m (ok_Row_init ph).1, zkIN (o := 25) (i := 32) f_Source_init (by decide) (ok_Source_init ph) (zq2 (q := (3, 90)) rfl), znn_m (ok_Source_init ph).1, zkIN (o := 25) (i := 39) f_Out_init (by decide) (ok_Out_init ph) (zq2 (q := (3, 92)) rfl), znn_m (ok_Out_init ph).1, trivial⟩
theorem ok_Box_init (ph : Bool) : zOk y_Box_init (.code y_Box_init prog_6_method_1_code 1 none) 2 41 ph (X_Box_init ph) := zMd_ok (plainFor_of_name (by decide)) rfl (fun _ => rfl) v_Box_init (k_Box_init ph) (a_Box_init ph)
def y_Entry_init : MethodName := ⟨"PackingHouse$Entry", "<init>", "()V"⟩
theorem v_Entry_init : zTv prog_11_method_1_code 1 27 true t_Entry_init = true := by decide +kernel
theorem k_Entry_init (ph : Bool) : zcKey (c_Entry_init ph) t_Entry_init = true := by cases ph <;> decide +kernel
theorem f_Entry_init : zfI y_Entry_init prog_11_method_1_code 1 0 := ⟨zq2 (q := (3, 126)) rfl, zq2 (q := (3, 125)) rfl, zq2 (q := (1, 27)) rfl, ⟨by decide, by decide⟩, rfl, by decide +kernel⟩
theorem a_Entry_init (ph : Bool) : zcAll 27 2 41 ph (c_Entry_init ph) := ⟨zck_obj (o := 27) (i := 3) (by decide) (by decide) (zq2 (q := (3, 127)) rfl) w_obj1 w_obj2, X_objInit_m, zkI (o := 27) (i := 11) f_Row_init (by decide) (ok_Row_init ph) (zq2 (q := (3, 129)) rfl), znn_m (ok_Row_init ph).1, trivial⟩
theorem ok_Entry_init (ph : Bool) : zOk y_Entry_init (.code y_Entry_init prog_11_method_1_code 1 none) 2 41 ph (X_Entry_init ph) := zMd_ok (plainFor_of_name (by decide)) rfl (fun _ => rfl) v_Entry_init (k_Entry_init ph) (a_Entry_init ph)
def y_Entries_init : MethodName := ⟨"PackingHouse$Entries", "<init>", "()V"⟩
theorem v_Entries_init : zTv prog_10_method_1_code 2 26 true t_Entries_init = true := by decide +kernel
theorem k_Entries_init (ph : Bool) : zcKey (c_Entries_init ph) t_Entries_init = true := by cases ph <;> decide +kernel
theorem f_Entries_init : zfI y_Entries_init prog_10_method_1_code 2 0 := ⟨zq2 (q := (3, 119)) rfl, zq2 (q := (3, 118)) rfl, zq2 (q := (1, 26)) rfl, ⟨by decide, by decide⟩, rfl, by decide +kernel⟩
theorem a_Entries_init (ph : Bool) : zcAll 26 3 61 ph (c_Entries_init ph) := ⟨zck_obj (o := 26) (i := 3) (by decide) (by decide) (zq2 (q := (3, 120)) rfl) w_obj1 w_obj2, X_objInit_m, zkIN (o := 26) (i := 17) f_Entry_init (by decide) (ok_Entry_init ph) (zq2 (q := (3, 124)) rfl), znn_m (ok_Entry_init ph).1, trivial⟩
theorem ok_Entries_init (ph : Bool) : zOk y_Entries_init (.code y_Entries_init prog_10_method_1_code 2 none) 3 61 ph (X_Entries_init ph) := zMd_ok (plainFor_of_name (by decide)) rfl (fun _ => rfl) v_Entries_init (k_Entries_init ph) (a_Entries_init ph)
def y_Deltas_init : MethodName := ⟨"PackingHouse$Deltas", "<init>", "()V"⟩
theorem v_Deltas_init : zTv prog_9_method_1_code 1 28 true t_Deltas_init = true := by decide +kernel
theorem k_Deltas_init (ph : Bool) : zcKey (c_Deltas_init ph) t_Deltas_init = true := by cases ph <;> decide +kernel
theorem f_Deltas_init : zfI y_Deltas_init prog_9_method_1_code 1 0 := ⟨zq2 (q := (3, 180)) rfl, zq2 (q := (3, 179)) rfl, zq2 (q := (1, 28)) rfl, ⟨by decide, by decide⟩, rfl, by decide +kernel⟩
theorem a_Deltas_init (ph : Bool) : zcAll 28 1 20 ph (c_Deltas_init ph) := ⟨zck_obj (o := 28) (i := 3) (by decide) (by decide) (zq2 (q := (3, 181)) rfl) w_obj1 w_obj2, X_objInit_m, trivial⟩
theorem ok_Deltas_init (ph : Bool) : zOk y_Deltas_init (.code y_Deltas_init prog_9_method_1_code 1 none) 1 20 ph (X_Deltas_init ph) := zMd_ok (plainFor_of_name (by decide)) rfl (fun _ => rfl) v_Deltas_init (k_Deltas_init ph) (a_Deltas_init ph)
def y_Parts_init : MethodName := ⟨"PackingHouse$Parts", "<init>", "()V"⟩
theorem v_Parts_init : zTv prog_21_method_1_code 3 29 true t_Parts_init = true := by decide +kernel
theorem k_Parts_init (ph : Bool) : zcKey (c_Parts_init ph) t_Parts_init = true := by cases ph <;> decide +kernel
theorem f_Parts_init : zfI y_Parts_init prog_21_method_1_code 3 0 := ⟨zq2 (q := (3, 199)) rfl, zq2 (q := (3, 198)) rfl, zq2 (q := (1, 29)) rfl, ⟨by decide, by decide⟩, rfl, by decide +kernel⟩
theorem a_Parts_init (ph : Bool) : zcAll 29 2 41 ph (c_Parts_init ph) := ⟨zck_obj (o := 29) (i := 3) (by decide) (by decide) (zq2 (q := (3, 200)) rfl) w_obj1 w_obj2, X_objInit_m, zkI (o := 29) (i := 45) f_Row_init (by decide) (ok_Row_init ph) (zq2 (q := (3, 202)) rfl), znn_m (ok_Row_init ph).1, trivial⟩
theorem ok_Parts_init (ph : Bool) : zOk y_Parts_init (.code y_Parts_init prog_21_method_1_code 3 none) 2 41 ph (X_Parts_init ph) := zMd_ok (plainFor_of_name (by decide)) rfl (fun _ => rfl) v_Parts_init (k_Parts_init ph) (a_Parts_init ph)
def y_Block_init : MethodName := ⟨"PackingHouse$Block", "<init>", "()V"⟩
theorem v_Block_init : zTv prog_4_method_1_code 1 31 true t_Block_init = true := by decide +kernel
theorem k_Block_init (ph : Bool) : zcKey (c_Block_init ph) t_Block_init = true := by cases ph <;> decide +kernel
theorem f_Block_init : zfI y_Block_init prog_4_method_1_code 1 0 := ⟨zq2 (q := (4, 19)) rfl, zq2 (q := (4, 18)) rfl, zq2 (q := (1, 31)) rfl, ⟨by decide, by decide⟩, rfl, by decide +kernel⟩
theorem a_Block_init (ph : Bool) : zcAll 31 1 20 ph (c_Block_init ph) := ⟨zck_obj (o := 31) (i := 1) (by decide) (by decide) (zq2 (q := (4, 20)) rfl) w_obj1 w_obj2, X_objInit_m, trivial⟩
theorem ok_Block_init (ph : Bool) : zOk y_Block_init (.code y_Block_init prog_4_method_1_code 1 none) 1 20 ph (X_Block_init ph) := zMd_ok (plainFor_of_name (by decide)) rfl (fun _ => rfl) v_Block_init (k_Block_init ph) (a_Block_init ph)
def y_Snapshot_init : MethodName := ⟨"PackingHouse$Snapshot", "<init>", "()V"⟩
theorem v_Snapshot_init : zTv prog_26_method_1_code 1 32 true t_Snapshot_init = true := by decide +kernel
theorem k_Snapshot_init (ph : Bool) : zcKey (c_Snapshot_init ph) t_Snapshot_init = true := by cases ph <;> decide +kernel
theorem f_Snapshot_init : zfI y_Snapshot_init prog_26_method_1_code 1 0 := ⟨zq2 (q := (4, 40)) rfl, zq2 (q := (4, 39)) rfl, zq2 (q := (1, 32)) rfl, ⟨by decide, by decide⟩, rfl, by decide +kernel⟩
theorem a_Snapshot_init (ph : Bool) : zcAll 32 1 20 ph (c_Snapshot_init ph) := ⟨zck_obj (o := 32) (i := 1) (by decide) (by decide) (zq2 (q := (4, 41)) rfl) w_obj1 w_obj2, X_objInit_m, trivial⟩
theorem ok_Snapshot_init (ph : Bool) : zOk y_Snapshot_init (.code y_Snapshot_init prog_26_method_1_code 1 none) 1 20 ph (X_Snapshot_init ph) := zMd_ok (plainFor_of_name (by decide)) rfl (fun _ => rfl) v_Snapshot_init (k_Snapshot_init ph) (a_Snapshot_init ph)
def y_Store_init : MethodName := ⟨"PackingHouse$Store", "<init>", "()V"⟩
theorem v_Store_init : zTv prog_29_method_1_code 2 30 true t_Store_init = true := by decide +kernel
theorem k_Store_init (ph : Bool) : zcKey (c_Store_init ph) t_Store_init = true := by cases ph <;> decide +kernel
theorem f_Store_init : zfI y_Store_init prog_29_method_1_code 2 0 := ⟨zq2 (q := (4, 10)) rfl, zq2 (q := (4, 9)) rfl, zq2 (q := (1, 30)) rfl, ⟨by decide, by decide⟩, rfl, by decide +kernel⟩
theorem a_Store_init (ph : Bool) : zcAll 30 2 40 ph (c_Store_init ph) := ⟨zck_obj (o := 30) (i := 3) (by decide) (by decide) (zq2 (q := (4, 11)) rfl) w_obj1 w_obj2, X_objInit_m, zkIN (o := 30) (i := 23) f_Block_init (by decide) (ok_Block_init ph) (zq2 (q := (4, 17)) rfl), znn_m (ok_Block_init ph).1, zkIN (o := 30) (i := 24) f_Snapshot_init (by decide) (ok_Snapshot_init ph) (zq2 (q := (4, 38)) rfl), znn_m (ok_Snapshot_init ph).1, trivial⟩
theorem ok_Store_init (ph : Bool) : zOk y_Store_init (.code y_Store_init prog_29_method_1_code 2 none) 2 40 ph (X_Store_init ph) := zMd_ok (plainFor_of_name (by decide)) rfl (fun _ => rfl) v_Store_init (k_Store_init ph) (a_Store_init ph)
def y_House_init : MethodName := ⟨"PackingHouse", "<init>", "()V"⟩
theorem v_House_init : zTv prog_1_method_2_code 2 0 true t_House_init = true := by decide +kernel
theorem k_House_init (ph : Bool) : zcKey (c_House_init ph) t_House_init = true := by cases ph <;> decide +kernel
theorem f_House_init : zfI y_House_init prog_1_method_2_code 2 0 := ⟨zq2 (q := (1, 48)) rfl, zq2 (q := (1, 47)) rfl, zq2 (q := (1, 1)) rfl, ⟨by decide, by decide⟩, rfl, by decide +kernel⟩
theorem a_House_init (ph : Bool) : zcAll 0 4 82 ph (c_House_init ph) := ⟨zck_obj (o := 0) (i := 1) (by decide) (by decide) (zq2 (q := (1, 49)) rfl) w_obj1 w_obj2, X_objInit_m, zkI (o := 0) (i := 11) f_Row_init (by decide) (ok_Row_init ph) (zq2 (q := (1, 54)) rfl), znn_m (ok_Row_init ph).1, zkIN (o := 0) (i := 34) f_Source_init (by decide) (ok_Source_init ph) (zq2 (q := (1, 98)) rfl), znn_m (ok_Source_init ph).1, zkIN (o := 0) (i := 41) f_Out_init (by decide) (ok_Out_init ph) (zq2 (q := (1, 137)) rfl), znn_m (ok_Out_init ph).1, zkIN (o := 0) (i := 48) f_Bits_init (by decide) (ok_Bits_init ph) (zq2 (q := (1, 158)) rfl), znn_m (ok_Bits_init ph).1, zkI (o := 0) (i := 55) f_Sums_init (by decide) (ok_Sums_init ph) (zq2 (q := (1, 178)) rfl), znn_m (ok_Sums_init ph).1, zkIN (o := 0) (i := 62) f_Parse_init (by decide) (ok_Parse_init ph) (zq2 (q := (1, 194)) rfl), znn_m (ok_Parse_init ph).1, zkI (o := 0) (i := 72) f_Blocks_init (by decide) (ok_Blocks_init ph) (zq2 (q := (2, 31)) rfl), znn_m (ok_Blocks_init ph).1, zkIN (o := 0) (i := 79) f_Fast_init (by decide) (ok_Fast_init ph) (zq2 (q := (2, 141)) rfl), znn_m (ok_Fast_init ph).1, zkIN (o := 0) (i := 88) f_Runs_init (by decide) (ok_Runs_init ph) (zq2 (q := (2, 150)) rfl), znn_m (ok_Runs_init ph).1, zkIN (o := 0) (i := 91) f_Words_init (by decide) (ok_Words_init ph) (zq2 (q := (2, 157)) rfl), znn_m (ok_Words_init ph).1, zkIN (o := 0) (i := 94) f_Rim_init (by decide) (ok_Rim_init ph) (zq2 (q := (2, 182)) rfl), znn_m (ok_Rim_init ph).1, zkIN (o := 0) (i := 97) f_Member_init (by decide) (ok_Member_init ph) (zq2 (q := (2, 189)) rfl), znn_m (ok_Member_init ph).1, zkIN (o := 0) (i := 100) f_Frame_init (by decide) (ok_Frame_init ph) (zq2 (q := (2, 196)) rfl), znn_m (ok_Frame_init ph).1, zkIN (o := 0) (i := 103) f_Copies_init (by decide) (ok_Copies_init ph) (zq2 (q := (2, 213)) rfl), znn_m (ok_Copies_init ph).1, zkI (o := 0) (i := 106) f_Sorted_init (by decide) (ok_Sorted_init ph) (zq2 (q := (2, 220)) rfl), znn_m (ok_Sorted_init ph).1, zkIN (o := 0) (i := 109) f_Odds_init (by decide) (ok_Odds_init ph) (zq2 (q := (3, 41)) rfl), znn_m (ok_Odds_init ph).1, zkIN (o := 0) (i := 118) f_Tape_init (by decide) (ok_Tape_init ph) (zq2 (q := (3, 66)) rfl), znn_m (ok_Tape_init ph).1, zkIN (o := 0) (i := 121) f_Bench_init (by decide) (ok_Bench_init ph) (zq2 (q := (3, 76)) rfl), znn_m (ok_Bench_init ph).1, zkIN (o := 0) (i := 124) f_Box_init (by decide) (ok_Box_init ph) (zq2 (q := (3, 83)) rfl), znn_m (ok_Box_init ph).1, zkI (o := 0) (i := 131) f_Entries_init (by decide) (ok_Entries_init ph) (zq2 (q := (3, 117)) rfl), znn_m (ok_Entries_init ph).1, zkIN (o := 0) (i := 144) f_Deltas_init (by decide) (ok_Deltas_init ph) (zq2 (q := (3, 178)) rfl), znn_m (ok_Deltas_init ph).1, zkI (o := 0) (i := 151) f_Parts_init (by decide) (ok_Parts_init ph) (zq2 (q := (3, 197)) rfl), znn_m (ok_Parts_init ph).1, zkI (o := 0) (i := 158) f_Store_init (by decide) (ok_Store_init ph) (zq2 (q := (4, 8)) rfl), znn_m (ok_Store_init ph).1, trivial⟩
theorem ok_House_init (ph : Bool) : zOk y_House_init (.code y_House_init prog_1_method_2_code 2 none) 4 82 ph (X_House_init ph) := zMd_ok (plainFor_of_name (by decide)) rfl (fun _ => rfl) v_House_init (k_House_init ph) (a_House_init ph)
def y_House_isIn : MethodName := ⟨"PackingHouse", "isIn", "(JJJ)Z"⟩
theorem v_House_isIn : zTv prog_1_method_1_code 6 0 false t_House_isIn = true := by decide +kernel
theorem k_House_isIn (ph : Bool) : zcKey (c_House_isIn ph) t_House_isIn = true := by cases ph <;> decide +kernel
theorem f_House_isIn : zfS y_House_isIn prog_1_method_1_code 6 (some .boolean) 3 := ⟨zq2 (q := (4, 189)) rfl, zq2 (q := (4, 188)) rfl, zq2 (q := (1, 1)) rfl, ⟨by decide, by decide⟩, by decide +kernel⟩
theorem a_House_isIn (ph : Bool) : zcAll 0 0 0 ph (c_House_isIn ph) := trivial
theorem ok_House_isIn (ph : Bool) : zOk y_House_isIn (.code y_House_isIn prog_1_method_1_code 6 (some .boolean)) 0 0 ph (X_House_isIn ph) := zMd_ok (plainFor_of_name (by decide)) rfl (fun h => by cases h) v_House_isIn (k_House_isIn ph) (a_House_isIn ph)
def y_Row_add : MethodName := ⟨"PackingHouse$Row", "add", "(I)V"⟩
theorem v_Row_add : zTv prog_23_method_3_code 2 2 false t_Row_add = true := by decide +kernel
theorem k_Row_add (ph : Bool) : zcKey (c_Row_add ph) t_Row_add = true := by cases ph <;> decide +kernel
theorem f_Row_add : zfV y_Row_add prog_23_method_3_code 2 none 2 1 := ⟨zq2 (q := (4, 197)) rfl, zq2 (q := (4, 195)) rfl, zq2 (q := (1, 2)) rfl, zq2 (q := (4, 196)) rfl, ⟨by decide, by decide⟩, by decide +kernel⟩
theorem a_Row_add (ph : Bool) : zcAll 2 0 0 ph (c_Row_add ph) := trivial
theorem ok_Row_add (ph : Bool) : zOk y_Row_add (.code y_Row_add prog_23_method_3_code 2 none) 0 0 ph (X_Row_add ph) := zMd_ok (plainFor_of_name (by decide)) rfl (fun h => by cases h) v_Row_add (k_Row_add ph) (a_Row_add ph)
def y_Row_high : MethodName := ⟨"PackingHouse$Row", "high", "(JI)V"⟩
theorem v_Row_high : zTv prog_23_method_5_code 5 2 false t_Row_high = true := by decide +kernel
theorem k_Row_high (ph : Bool) : zcKey (c_Row_high ph) t_Row_high = true := by cases ph <;> decide +kernel
theorem f_Row_high : zfV y_Row_high prog_23_method_5_code 5 none 2 2 := ⟨zq2 (q := (4, 193)) rfl, zq2 (q := (4, 191)) rfl, zq2 (q := (1, 2)) rfl, zq2 (q := (4, 192)) rfl, ⟨by decide, by decide⟩, by decide +kernel⟩
theorem a_Row_high (ph : Bool) : zcAll 2 1 21 ph (c_Row_high ph) := ⟨zkV (o := 2) (i := 17) f_Row_add (by decide) (ok_Row_add ph) (zq2 (q := (4, 194)) rfl), zvt_m (ok_Row_add ph).1, trivial⟩
theorem ok_Row_high (ph : Bool) : zOk y_Row_high (.code y_Row_high prog_23_method_5_code 5 none) 1 21 ph (X_Row_high ph) := zMd_ok (plainFor_of_name (by decide)) rfl (fun h => by cases h) v_Row_high (k_Row_high ph) (a_Row_high ph)
def y_House_append : MethodName := ⟨"PackingHouse", "append", "(LPackingHouse$Row;JII)I"⟩
theorem v_House_append : zTv prog_1_method_3_code 5 0 false t_House_append = true := by decide +kernel
theorem k_House_append (ph : Bool) : zcKey (c_House_append ph) t_House_append = true := by cases ph <;> decide +kernel
theorem f_House_append : zfS y_House_append prog_1_method_3_code 5 (some .int) 4 := ⟨zq2 (q := (4, 185)) rfl, zq2 (q := (4, 184)) rfl, zq2 (q := (1, 1)) rfl, ⟨by decide, by decide⟩, by decide +kernel⟩
theorem a_House_append (ph : Bool) : zcAll 0 2 45 ph (c_House_append ph) := ⟨zkS (o := 0) (i := 165) f_House_isIn (by decide) (ok_House_isIn ph) (zq2 (q := (4, 187)) rfl), (ok_House_isIn ph).1, zkV (o := 0) (i := 173) f_Row_high (by decide) (ok_Row_high ph) (zq2 (q := (4, 190)) rfl), zvt_m (ok_Row_high ph).1, trivial⟩
theorem ok_House_append (ph : Bool) : zOk y_House_append (.code y_House_append prog_1_method_3_code 5 (some .int)) 2 45 ph (X_House_append ph) := zMd_ok (plainFor_of_name (by decide)) rfl (fun h => by cases h) v_House_append (k_House_append ph) (a_House_append ph)
def y_House_feed : MethodName := ⟨"PackingHouse", "feed", "(JI)I"⟩
theorem v_House_feed : zTv prog_1_method_4_code 4 0 false t_House_feed = true := by decide +kernel
theorem k_House_feed (ph : Bool) : zcKey (c_House_feed ph) t_House_feed = true := by cases ph <;> decide +kernel
theorem f_House_feed : zfV y_House_feed prog_1_method_4_code 4 (some .int) 1 2 := ⟨zq2 (q := (4, 182)) rfl, zq2 (q := (4, 180)) rfl, zq2 (q := (1, 1)) rfl, zq2 (q := (4, 181)) rfl, ⟨by decide, by decide⟩, by decide +kernel⟩
theorem a_House_feed (ph : Bool) : zcAll 0 3 69 ph (c_House_feed ph) := ⟨zkS (o := 0) (i := 177) f_House_append (by decide) (ok_House_append ph) (zq2 (q := (4, 183)) rfl), (ok_House_append ph).1, trivial⟩
theorem ok_House_feed (ph : Bool) : zOk y_House_feed (.code y_House_feed prog_1_method_4_code 4 (some .int)) 3 69 ph (X_House_feed ph) := zMd_ok (plainFor_of_name (by decide)) rfl (fun h => by cases h) v_House_feed (k_House_feed ph) (a_House_feed ph)
def y_Row_get : MethodName := ⟨"PackingHouse$Row", "get", "(I)I"⟩
theorem v_Row_get : zTv prog_23_method_2_code 2 2 false t_Row_get = true := by decide +kernel
theorem k_Row_get (ph : Bool) : zcKey (c_Row_get ph) t_Row_get = true := by cases ph <;> decide +kernel
theorem f_Row_get : zfV y_Row_get prog_23_method_2_code 2 (some .int) 2 1 := ⟨zq2 (q := (4, 213)) rfl, zq2 (q := (4, 211)) rfl, zq2 (q := (1, 2)) rfl, zq2 (q := (4, 212)) rfl, ⟨by decide, by decide⟩, by decide +kernel⟩
theorem a_Row_get (ph : Bool) : zcAll 2 0 0 ph (c_Row_get ph) := trivial
theorem ok_Row_get (ph : Bool) : zOk y_Row_get (.code y_Row_get prog_23_method_2_code 2 (some .int)) 0 0 ph (X_Row_get ph) := zMd_ok (plainFor_of_name (by decide)) rfl (fun h => by cases h) v_Row_get (k_Row_get ph) (a_Row_get ph)
def y_House_drawn : MethodName := ⟨"PackingHouse", "drawn", "(II)I"⟩
theorem v_House_drawn : zTv prog_1_method_5_code 4 0 false t_House_drawn = true := by decide +kernel
theorem k_House_drawn (ph : Bool) : zcKey (c_House_drawn ph) t_House_drawn = true := by cases ph <;> decide +kernel
theorem f_House_drawn : zfV y_House_drawn prog_1_method_5_code 4 (some .int) 1 2 := ⟨zq2 (q := (4, 209)) rfl, zq2 (q := (4, 208)) rfl, zq2 (q := (1, 1)) rfl, zq2 (q := (101, 0)) rfl, ⟨by decide, by decide⟩, by decide +kernel⟩
theorem a_House_drawn (ph : Bool) : zcAll 0 1 21 ph (c_House_drawn ph) := ⟨zkV (o := 0) (i := 181) f_Row_get (by decide) (ok_Row_get ph) (zq2 (q := (4, 210)) rfl), zvt_m (ok_Row_get ph).1, trivial⟩
theorem ok_House_drawn (ph : Bool) : zOk y_House_drawn (.code y_House_drawn prog_1_method_5_code 4 (some .int)) 1 21 ph (X_House_drawn ph) := zMd_ok (plainFor_of_name (by decide)) rfl (fun h => by cases h) v_House_drawn (k_House_drawn ph) (a_House_drawn ph)
def y_House_fill : MethodName := ⟨"PackingHouse", "fill", "(III)I"⟩
theorem v_House_fill : zTv prog_1_method_6_code 6 0 false t_House_fill = true := by decide +kernel
theorem k_House_fill (ph : Bool) : zcKey (c_House_fill ph) t_House_fill = true := by cases ph <;> decide +kernel
theorem f_House_fill : zfV y_House_fill prog_1_method_6_code 6 (some .int) 1 3 := ⟨zq2 (q := (4, 201)) rfl, zq2 (q := (4, 199)) rfl, zq2 (q := (1, 1)) rfl, zq2 (q := (4, 200)) rfl, ⟨by decide, by decide⟩, by decide +kernel⟩
theorem a_House_fill (ph : Bool) : zcAll 0 2 44 ph (c_House_fill ph) := ⟨zkS (o := 0) (i := 165) f_House_isIn (by decide) (ok_House_isIn ph) (zq2 (q := (4, 187)) rfl), (ok_House_isIn ph).1, zkV (o := 0) (i := 191) f_House_drawn (by decide) (ok_House_drawn ph) (zq2 (q := (4, 206)) rfl), zvt_m (ok_House_drawn ph).1, zkV (o := 0) (i := 195) f_Row_add (by decide) (ok_Row_add ph) (zq2 (q := (4, 214)) rfl), zvt_m (ok_Row_add ph).1, trivial⟩
theorem ok_House_fill (ph : Bool) : zOk y_House_fill (.code y_House_fill prog_1_method_6_code 6 (some .int)) 2 44 ph (X_House_fill ph) := zMd_ok (plainFor_of_name (by decide)) rfl (fun h => by cases h) v_House_fill (k_House_fill ph) (a_House_fill ph)
def y_House_cut : MethodName := ⟨"PackingHouse", "cut", "(I)I"⟩
theorem v_House_cut : zTv prog_1_method_7_code 3 0 false t_House_cut = true := by decide +kernel
theorem k_House_cut (ph : Bool) : zcKey (c_House_cut ph) t_House_cut = true := by cases ph <;> decide +kernel
theorem f_House_cut : zfV y_House_cut prog_1_method_7_code 3 (some .int) 1 1 := ⟨zq2 (q := (4, 218)) rfl, zq2 (q := (4, 216)) rfl, zq2 (q := (1, 1)) rfl, zq2 (q := (4, 217)) rfl, ⟨by decide, by decide⟩, by decide +kernel⟩
theorem a_House_cut (ph : Bool) : zcAll 0 1 25 ph (c_House_cut ph) := ⟨zkS (o := 0) (i := 165) f_House_isIn (by decide) (ok_House_isIn ph) (zq2 (q := (4, 187)) rfl), (ok_House_isIn ph).1, trivial⟩
theorem ok_House_cut (ph : Bool) : zOk y_House_cut (.code y_House_cut prog_1_method_7_code 3 (some .int)) 1 25 ph (X_House_cut ph) := zMd_ok (plainFor_of_name (by decide)) rfl (fun h => by cases h) v_House_cut (k_House_cut ph) (a_House_cut ph)
def y_House_alter : MethodName := ⟨"PackingHouse", "alte\x72", "(II)I"⟩
theorem v_House_alter : zTv prog_1_method_8_code 4 0 false t_House_alter = true := by decide +kernel
theorem k_House_alter (ph : Bool) : zcKey (c_House_alter ph) t_House_alter = true := by cases ph <;> decide +kernel
theorem f_House_alter : zfV y_House_alter prog_1_method_8_code 4 (some .int) 1 2 := ⟨zq2 (q := (4, 222)) rfl, zq2 (q := (4, 220)) rfl, zq2 (q := (1, 1)) rfl, zq2 (q := (4, 221)) rfl, ⟨by decide, by decide⟩, by decide +kernel⟩
theorem a_House_alter (ph : Bool) : zcAll 0 1 25 ph (c_House_alter ph) := ⟨zkS (o := 0) (i := 165) f_House_isIn (by decide) (ok_House_isIn ph) (zq2 (q := (4, 187)) rfl), (ok_House_isIn ph).1, zkV (o := 0) (i := 181) f_Row_get (by decide) (ok_Row_get ph) (zq2 (q := (4, 210)) rfl), zvt_m (ok_Row_get ph).1, trivial⟩
theorem ok_House_alter (ph : Bool) : zOk y_House_alter (.code y_House_alter prog_1_method_8_code 4 (some .int)) 1 25 ph (X_House_alter ph) := zMd_ok (plainFor_of_name (by decide)) rfl (fun h => by cases h) v_House_alter (k_House_alter ph) (a_House_alter ph)
def y_House_octet : MethodName := ⟨"PackingHouse", "octet", "(I)I"⟩
theorem v_House_octet : zTv prog_1_method_9_code 2 0 false t_House_octet = true := by decide +kernel
theorem k_House_octet (ph : Bool) : zcKey (c_House_octet ph) t_House_octet = true := by cases ph <;> decide +kernel
theorem f_House_octet : zfV y_House_octet prog_1_method_9_code 2 (some .int) 1 1 := ⟨zq2 (q := (4, 227)) rfl, zq2 (q := (4, 225)) rfl, zq2 (q := (1, 1)) rfl, zq2 (q := (4, 226)) rfl, ⟨by decide, by decide⟩, by decide +kernel⟩
theorem a_House_octet (ph : Bool) : zcAll 0 1 25 ph (c_House_octet ph) := ⟨zkS (o := 0) (i := 165) f_House_isIn (by decide) (ok_House_isIn ph) (zq2 (q := (4, 187)) rfl), (ok_House_isIn ph).1, zkV (o := 0) (i := 181) f_Row_get (by decide) (ok_Row_get ph) (zq2 (q := (4, 210)) rfl), zvt_m (ok_Row_get ph).1, trivial⟩
theorem ok_House_octet (ph : Bool) : zOk y_House_octet (.code y_House_octet prog_1_method_9_code 2 (some .int)) 1 25 ph (X_House_octet ph) := zMd_ok (plainFor_of_name (by decide)) rfl (fun h => by cases h) v_House_octet (k_House_octet ph) (a_House_octet ph)
def y_Sums_adler : MethodName := ⟨"PackingHouse$Sums", "adle\x72", "(LPackingHouse$Row;II)J"⟩
theorem v_Sums_adler : zTv prog_30_method_2_code 6 6 false t_Sums_adler = true := by decide +kernel
theorem k_Sums_adler (ph : Bool) : zcKey (c_Sums_adler ph) t_Sums_adler = true := by cases ph <;> decide +kernel
theorem f_Sums_adler : zfS y_Sums_adler prog_30_method_2_code 6 (some .long) 3 := ⟨zq2 (q := (4, 234)) rfl, zq2 (q := (4, 233)) rfl, zq2 (q := (1, 6)) rfl, ⟨by decide, by decide⟩, by decide +kernel⟩
theorem a_Sums_adler (ph : Bool) : zcAll 6 1 21 ph (c_Sums_adler ph) := ⟨zkV (o := 6) (i := 18) f_Row_get (by decide) (ok_Row_get ph) (zq2 (q := (4, 235)) rfl), zvt_m (ok_Row_get ph).1, trivial⟩
theorem ok_Sums_adler (ph : Bool) : zOk y_Sums_adler (.code y_Sums_adler prog_30_method_2_code 6 (some .long)) 1 21 ph (X_Sums_adler ph) := zMd_ok (plainFor_of_name (by decide)) rfl (fun h => by cases h) v_Sums_adler (k_Sums_adler ph) (a_Sums_adler ph)
def y_Sums_round : MethodName := ⟨"PackingHouse$Sums", "round", "(LPackingHouse$Row;II)J"⟩
theorem v_Sums_round : zTv prog_30_method_3_code 6 6 false t_Sums_round = true := by decide +kernel
theorem k_Sums_round (ph : Bool) : zcKey (c_Sums_round ph) t_Sums_round = true := by cases ph <;> decide +kernel
theorem f_Sums_round : zfV y_Sums_round prog_30_method_3_code 6 (some .long) 6 3 := ⟨zq2 (q := (5, 1)) rfl, zq2 (q := (4, 239)) rfl, zq2 (q := (1, 6)) rfl, zq2 (q := (5, 0)) rfl, ⟨by decide, by decide⟩, by decide +kernel⟩
theorem a_Sums_round (ph : Bool) : zcAll 6 1 21 ph (c_Sums_round ph) := ⟨zkV (o := 6) (i := 18) f_Row_get (by decide) (ok_Row_get ph) (zq2 (q := (4, 235)) rfl), zvt_m (ok_Row_get ph).1, trivial⟩
theorem ok_Sums_round (ph : Bool) : zOk y_Sums_round (.code y_Sums_round prog_30_method_3_code 6 (some .long)) 1 21 ph (X_Sums_round ph) := zMd_ok (plainFor_of_name (by decide)) rfl (fun h => by cases h) v_Sums_round (k_Sums_round ph) (a_Sums_round ph)
def y_Sums_turnedBy : MethodName := ⟨"PackingHouse$Sums", "turnedBy", "(II)I"⟩
theorem v_Sums_turnedBy : zTv prog_30_method_4_code 3 6 false t_Sums_turnedBy = true := by decide +kernel
theorem k_Sums_turnedBy (ph : Bool) : zcKey (c_Sums_turnedBy ph) t_Sums_turnedBy = true := by cases ph <;> decide +kernel
theorem f_Sums_turnedBy : zfV y_Sums_turnedBy prog_30_method_4_code 3 (some .int) 6 2 := ⟨zq2 (q := (5, 10)) rfl, zq2 (q := (5, 8)) rfl, zq2 (q := (1, 6)) rfl, zq2 (q := (5, 9)) rfl, ⟨by decide, by decide⟩, by decide +kernel⟩
theorem a_Sums_turnedBy (ph : Bool) : zcAll 6 0 0 ph (c_Sums_turnedBy ph) := trivial
theorem ok_Sums_turnedBy (ph : Bool) : zOk y_Sums_turnedBy (.code y_Sums_turnedBy prog_30_method_4_code 3 (some .int)) 0 0 ph (X_Sums_turnedBy ph) := zMd_ok (plainFor_of_name (by decide)) rfl (fun h => by cases h) v_Sums_turnedBy (k_Sums_turnedBy ph) (a_Sums_turnedBy ph)

/-! printed by gen_all.py -/
theorem w_obj1 : Cond.instanceMethod objectInit ∈ lw_tbl := zq2 (q := (1, 50)) rfl
theorem w_acn : Cond.native arraycopyName ∈ lw_tbl := zq2 (q := (5, 54)) rfl
theorem w_acs : Cond.static arraycopyName ∈ lw_tbl := zq2 (q := (5, 53)) rfl
theorem w_aci : Cond.initialized "java/lang/System" ∈ lw_tbl := zq2 (q := (1, 35)) rfl
theorem w_obj2 : Cond.code objectInit ⟨#[0xb1]⟩ 1 none ∈ lw_tbl := zq2 (q := (1, 51)) rfl
def y_Row_init : MethodName := ⟨"PackingHouse$Row", "<init>", "(I)V"⟩
theorem v_Row_init : zTv prog_23_method_1_code 2 2 true t_Row_init = true := by decide +kernel
theorem k_Row_init (ph : Bool) : zcKey (c_Row_init ph) t_Row_init = true := by cases ph <;> decide +kernel
theorem f_Row_init : zfI y_Row_init prog_23_method_1_code 2 1 := ⟨zq2 (q := (1, 56)) rfl, zq2 (q := (1, 55)) rfl, zq2 (q := (1, 2)) rfl, ⟨by decide, by decide⟩, rfl, by decide +kernel⟩
theorem a_Row_init (ph : Bool) : zcAll 2 1 20 ph (c_Row_init ph) := ⟨zck_obj (o := 2) (i := 1) (by decide) (by decide) (zq2 (q := (1, 57)) rfl) w_obj1 w_obj2, X_objInit_m, trivial⟩
theorem ok_Row_init (ph : Bool) : zOk y_Row_init (.code y_Row_init prog_23_method_1_code 2 none) 1 20 ph (X_Row_init ph) := zMd_ok (plainFor_of_name (by decide)) rfl (fun _ => rfl) v_Row_init (k_Row_init ph) (a_Row_init ph)
def y_Source_init : MethodName := ⟨"PackingHouse$Source", "<init>", "()V"⟩
theorem v_Source_init : zTv prog_28_method_1_code 1 3 true t_Source_init = true := by decide +kernel
theorem k_Source_init (ph : Bool) : zcKey (c_Source_init ph) t_Source_init = true := by cases ph <;> decide +kernel
theorem f_Source_init : zfI y_Source_init prog_28_method_1_code 1 0 := ⟨zq2 (q := (1, 100)) rfl, zq2 (q := (1, 99)) rfl, zq2 (q := (1, 3)) rfl, ⟨by decide, by decide⟩, rfl, by decide +kernel⟩
theorem a_Source_init (ph : Bool) : zcAll 3 1 20 ph (c_Source_init ph) := ⟨zck_obj (o := 3) (i := 1) (by decide) (by decide) (zq2 (q := (1, 101)) rfl) w_obj1 w_obj2, X_objInit_m, trivial⟩
theorem ok_Source_init (ph : Bool) : zOk y_Source_init (.code y_Source_init prog_28_method_1_code 1 none) 1 20 ph (X_Source_init ph) := zMd_ok (plainFor_of_name (by decide)) rfl (fun _ => rfl) v_Source_init (k_Source_init ph) (a_Source_init ph)
def y_Out_init : MethodName := ⟨"PackingHouse$Out", "<init>", "()V"⟩
theorem v_Out_init : zTv prog_19_method_1_code 1 4 true t_Out_init = true := by decide +kernel
theorem k_Out_init (ph : Bool) : zcKey (c_Out_init ph) t_Out_init = true := by cases ph <;> decide +kernel
theorem f_Out_init : zfI y_Out_init prog_19_method_1_code 1 0 := ⟨zq2 (q := (1, 139)) rfl, zq2 (q := (1, 138)) rfl, zq2 (q := (1, 4)) rfl, ⟨by decide, by decide⟩, rfl, by decide +kernel⟩
theorem a_Out_init (ph : Bool) : zcAll 4 1 20 ph (c_Out_init ph) := ⟨zck_obj (o := 4) (i := 3) (by decide) (by decide) (zq2 (q := (1, 140)) rfl) w_obj1 w_obj2, X_objInit_m, trivial⟩
theorem ok_Out_init (ph : Bool) : zOk y_Out_init (.code y_Out_init prog_19_method_1_code 1 none) 1 20 ph (X_Out_init ph) := zMd_ok (plainFor_of_name (by decide)) rfl (fun _ => rfl) v_Out_init (k_Out_init ph) (a_Out_init ph)
def y_Bits_init : MethodName := ⟨"PackingHouse$Bits", "<init>", "()V"⟩
theorem v_Bits_init : zTv prog_3_method_1_code 1 5 true t_Bits_init = true := by decide +kernel
theorem k_Bits_init (ph : Bool) : zcKey (c_Bits_init ph) t_Bits_init = true := by cases ph <;> decide +kernel
theorem f_Bits_init : zfI y_Bits_init prog_3_method_1_code 1 0 := ⟨zq2 (q := (1, 160)) rfl, zq2 (q := (1, 159)) rfl, zq2 (q := (1, 5)) rfl, ⟨by decide, by decide⟩, rfl, by decide +kernel⟩
theorem a_Bits_init (ph : Bool) : zcAll 5 1 20 ph (c_Bits_init ph) := ⟨zck_obj (o := 5) (i := 1) (by decide) (by decide) (zq2 (q := (1, 161)) rfl) w_obj1 w_obj2, X_objInit_m, trivial⟩
theorem ok_Bits_init (ph : Bool) : zOk y_Bits_init (.code y_Bits_init prog_3_method_1_code 1 none) 1 20 ph (X_Bits_init ph) := zMd_ok (plainFor_of_name (by decide)) rfl (fun _ => rfl) v_Bits_init (k_Bits_init ph) (a_Bits_init ph)
def y_Sums_init : MethodName := ⟨"PackingHouse$Sums", "<init>", "()V"⟩
theorem v_Sums_init : zTv prog_30_method_1_code 5 6 true t_Sums_init = true := by decide +kernel
theorem k_Sums_init (ph : Bool) : zcKey (c_Sums_init ph) t_Sums_init = true := by cases ph <;> decide +kernel
theorem f_Sums_init : zfI y_Sums_init prog_30_method_1_code 5 0 := ⟨zq2 (q := (1, 180)) rfl, zq2 (q := (1, 179)) rfl, zq2 (q := (1, 6)) rfl, ⟨by decide, by decide⟩, rfl, by decide +kernel⟩
theorem a_Sums_init (ph : Bool) : zcAll 6 1 20 ph (c_Sums_init ph) := ⟨zck_obj (o := 6) (i := 1) (by decide) (by decide) (zq2 (q := (1, 181)) rfl) w_obj1 w_obj2, X_objInit_m, trivial⟩
theorem ok_Sums_init (ph : Bool) : zOk y_Sums_init (.code y_Sums_init prog_30_method_1_code 5 none) 1 20 ph (X_Sums_init ph) := zMd_ok (plainFor_of_name (by decide)) rfl (fun _ => rfl) v_Sums_init (k_Sums_init ph) (a_Sums_init ph)
def y_Matches_init : MethodName := ⟨"PackingHouse$Matches", "<init>", "()V"⟩
theorem v_Matches_init : zTv prog_16_method_1_code 1 8 true t_Matches_init = true := by decide +kernel
theorem k_Matches_init (ph : Bool) : zcKey (c_Matches_init ph) t_Matches_init = true := by cases ph <;> decide +kernel
theorem f_Matches_init : zfI y_Matches_init prog_16_method_1_code 1 0 := ⟨zq2 (q := (1, 202)) rfl, zq2 (q := (1, 201)) rfl, zq2 (q := (1, 8)) rfl, ⟨by decide, by decide⟩, rfl, by decide +kernel⟩
theorem a_Matches_init (ph : Bool) : zcAll 8 1 20 ph (c_Matches_init ph) := ⟨zck_obj (o := 8) (i := 3) (by decide) (by decide) (zq2 (q := (1, 203)) rfl) w_obj1 w_obj2, X_objInit_m, trivial⟩
theorem ok_Matches_init (ph : Bool) : zOk y_Matches_init (.code y_Matches_init prog_16_method_1_code 1 none) 1 20 ph (X_Matches_init ph) := zMd_ok (plainFor_of_name (by decide)) rfl (fun _ => rfl) v_Matches_init (k_Matches_init ph) (a_Matches_init ph)
def y_Parse_init : MethodName := ⟨"PackingHouse$Parse", "<init>", "()V"⟩
theorem v_Parse_init : zTv prog_20_method_1_code 1 7 true t_Parse_init = true := by decide +kernel
theorem k_Parse_init (ph : Bool) : zcKey (c_Parse_init ph) t_Parse_init = true := by cases ph <;> decide +kernel
theorem f_Parse_init : zfI y_Parse_init prog_20_method_1_code 1 0 := ⟨zq2 (q := (1, 196)) rfl, zq2 (q := (1, 195)) rfl, zq2 (q := (1, 7)) rfl, ⟨by decide, by decide⟩, rfl, by decide +kernel⟩
theorem a_Parse_init (ph : Bool) : zcAll 7 2 40 ph (c_Parse_init ph) := ⟨zck_obj (o := 7) (i := 3) (by decide) (by decide) (zq2 (q := (1, 197)) rfl) w_obj1 w_obj2, X_objInit_m, zkIN (o := 7) (i := 23) f_Matches_init (by decide) (ok_Matches_init ph) (zq2 (q := (1, 200)) rfl), znn_m (ok_Matches_init ph).1, trivial⟩
theorem ok_Parse_init (ph : Bool) : zOk y_Parse_init (.code y_Parse_init prog_20_method_1_code 1 none) 2 40 ph (X_Parse_init ph) := zMd_ok (plainFor_of_name (by decide)) rfl (fun _ => rfl) v_Parse_init (k_Parse_init ph) (a_Parse_init ph)
def y_Kind_init : MethodName := ⟨"PackingHouse$Kind", "<init>", "()V"⟩
theorem v_Kind_init : zTv prog_15_method_1_code 1 10 true t_Kind_init = true := by decide +kernel
theorem k_Kind_init (ph : Bool) : zcKey (c_Kind_init ph) t_Kind_init = true := by cases ph <;> decide +kernel
theorem f_Kind_init : zfI y_Kind_init prog_15_method_1_code 1 0 := ⟨zq2 (q := (2, 36)) rfl, zq2 (q := (2, 35)) rfl, zq2 (q := (1, 9)) rfl, ⟨by decide, by decide⟩, rfl, by decide +kernel⟩
theorem a_Kind_init (ph : Bool) : zcAll 10 1 20 ph (c_Kind_init ph) := ⟨zck_obj (o := 10) (i := 1) (by decide) (by decide) (zq2 (q := (2, 37)) rfl) w_obj1 w_obj2, X_objInit_m, trivial⟩
theorem ok_Kind_init (ph : Bool) : zOk y_Kind_init (.code y_Kind_init prog_15_method_1_code 1 none) 1 20 ph (X_Kind_init ph) := zMd_ok (plainFor_of_name (by decide)) rfl (fun _ => rfl) v_Kind_init (k_Kind_init ph) (a_Kind_init ph)
def y_Code_init : MethodName := ⟨"PackingHouse$Code", "<init>", "()V"⟩
theorem v_Code_init : zTv prog_7_method_1_code 1 11 true t_Code_init = true := by decide +kernel
theorem k_Code_init (ph : Bool) : zcKey (c_Code_init ph) t_Code_init = true := by cases ph <;> decide +kernel
theorem f_Code_init : zfI y_Code_init prog_7_method_1_code 1 0 := ⟨zq2 (q := (2, 42)) rfl, zq2 (q := (2, 41)) rfl, zq2 (q := (1, 11)) rfl, ⟨by decide, by decide⟩, rfl, by decide +kernel⟩
theorem a_Code_init (ph : Bool) : zcAll 11 1 20 ph (c_Code_init ph) := ⟨zck_obj (o := 11) (i := 1) (by decide) (by decide) (zq2 (q := (2, 43)) rfl) w_obj1 w_obj2, X_objInit_m, trivial⟩
theorem ok_Code_init (ph : Bool) : zOk y_Code_init (.code y_Code_init prog_7_method_1_code 1 none) 1 20 ph (X_Code_init ph) := zMd_ok (plainFor_of_name (by decide)) rfl (fun _ => rfl) v_Code_init (k_Code_init ph) (a_Code_init ph)
def y_Code_begin : MethodName := ⟨"PackingHouse$Code", "begin", "(I)V"⟩
theorem v_Code_begin : zTv prog_7_method_2_code 3 11 false t_Code_begin = true := by decide +kernel
theorem k_Code_begin (ph : Bool) : zcKey (c_Code_begin ph) t_Code_begin = true := by cases ph <;> decide +kernel
theorem f_Code_begin : zfV y_Code_begin prog_7_method_2_code 3 none 10 1 := ⟨zq2 (q := (2, 91)) rfl, zq2 (q := (2, 89)) rfl, zq2 (q := (1, 11)) rfl, zq2 (q := (2, 90)) rfl, ⟨by decide, by decide⟩, by decide +kernel⟩
theorem a_Code_begin (ph : Bool) : zcAll 11 0 0 ph (c_Code_begin ph) := trivial
theorem ok_Code_begin (ph : Bool) : zOk y_Code_begin (.code y_Code_begin prog_7_method_2_code 3 none) 0 0 ph (X_Code_begin ph) := zMd_ok (plainFor_of_name (by decide)) rfl (fun h => by cases h) v_Code_begin (k_Code_begin ph) (a_Code_begin ph)
def y_Math_max : MethodName := ⟨"java/lang/Math", "max", "(II)I"⟩
theorem v_Math_max : zTv prog_37_method_65_code 2 12 false t_Math_max = true := by decide +kernel
theorem k_Math_max (ph : Bool) : zcKey (c_Math_max ph) t_Math_max = true := by cases ph <;> decide +kernel
theorem f_Math_max : zfS y_Math_max prog_37_method_65_code 2 (some .int) 2 := ⟨zq2 (q := (2, 98)) rfl, zq2 (q := (2, 97)) rfl, zq2 (q := (1, 12)) rfl, ⟨by decide, by decide⟩, by decide +kernel⟩
theorem a_Math_max (ph : Bool) : zcAll 12 0 0 ph (c_Math_max ph) := trivial
theorem ok_Math_max (ph : Bool) : zOk y_Math_max (.code y_Math_max prog_37_method_65_code 2 (some .int)) 0 0 ph (X_Math_max ph) := zMd_ok (by decide +kernel) rfl (fun h => by cases h) v_Math_max (k_Math_max ph) (a_Math_max ph)
def y_Code_make : MethodName := ⟨"PackingHouse$Code", "make", "()V"⟩
theorem v_Code_make : zTv prog_7_method_3_code 5 11 false t_Code_make = true := by decide +kernel
theorem k_Code_make (ph : Bool) : zcKey (c_Code_make ph) t_Code_make = true := by cases ph <;> decide +kernel
theorem f_Code_make : zfV y_Code_make prog_7_method_3_code 5 none 10 0 := ⟨zq2 (q := (2, 95)) rfl, zq2 (q := (2, 93)) rfl, zq2 (q := (1, 11)) rfl, zq2 (q := (2, 94)) rfl, ⟨by decide, by decide⟩, by decide +kernel⟩
theorem a_Code_make (ph : Bool) : zcAll 11 1 21 ph (c_Code_make ph) := ⟨zkS (o := 11) (i := 48) f_Math_max (by decide) (ok_Math_max ph) (zq2 (q := (2, 96)) rfl), (ok_Math_max ph).1, trivial⟩
theorem ok_Code_make (ph : Bool) : zOk y_Code_make (.code y_Code_make prog_7_method_3_code 5 none) 1 21 ph (X_Code_make ph) := zMd_ok (plainFor_of_name (by decide)) rfl (fun h => by cases h) v_Code_make (k_Code_make ph) (a_Code_make ph)
def y_Blocks_init : MethodName := ⟨"PackingHouse$Blocks", "<init>", "()V"⟩
theorem v_Blocks_init : zTv prog_5_method_1_code 2 9 true t_Blocks_init = true := by decide +kernel
theorem k_Blocks_init (ph : Bool) : zcKey (c_Blocks_init ph) t_Blocks_init = true := by cases ph <;> decide +kernel
theorem f_Blocks_init : zfI y_Blocks_init prog_5_method_1_code 2 0 := ⟨zq2 (q := (2, 33)) rfl, zq2 (q := (2, 32)) rfl, zq2 (q := (1, 10)) rfl, ⟨by decide, by decide⟩, rfl, by decide +kernel⟩
theorem a_Blocks_init (ph : Bool) : zcAll 9 2 45 ph (c_Blocks_init ph) := ⟨zkIN (o := 9) (i := 3) f_Kind_init (by decide) (ok_Kind_init ph) (zq2 (q := (2, 34)) rfl), znn_m (ok_Kind_init ph).1, zkIN (o := 9) (i := 11) f_Code_init (by decide) (ok_Code_init ph) (zq2 (q := (2, 40)) rfl), znn_m (ok_Code_init ph).1, zkV (o := 9) (i := 49) f_Code_begin (by decide) (ok_Code_begin ph) (zq2 (q := (2, 88)) rfl), zvt_m (ok_Code_begin ph).1, zkV (o := 9) (i := 56) f_Code_make (by decide) (ok_Code_make ph) (zq2 (q := (2, 92)) rfl), zvt_m (ok_Code_make ph).1, trivial⟩
theorem ok_Blocks_init (ph : Bool) : zOk y_Blocks_init (.code y_Blocks_init prog_5_method_1_code 2 none) 2 45 ph (X_Blocks_init ph) := zMd_ok (plainFor_of_name (by decide)) rfl (fun _ => rfl) v_Blocks_init (k_Blocks_init ph) (a_Blocks_init ph)
def y_Fast_init : MethodName := ⟨"PackingHouse$Fast", "<init>", "()V"⟩
theorem v_Fast_init : zTv prog_12_method_1_code 1 13 true t_Fast_init = true := by decide +kernel
theorem k_Fast_init (ph : Bool) : zcKey (c_Fast_init ph) t_Fast_init = true := by cases ph <;> decide +kernel
theorem f_Fast_init : zfI y_Fast_init prog_12_method_1_code 1 0 := ⟨zq2 (q := (2, 143)) rfl, zq2 (q := (2, 142)) rfl, zq2 (q := (1, 13)) rfl, ⟨by decide, by decide⟩, rfl, by decide +kernel⟩
theorem a_Fast_init (ph : Bool) : zcAll 13 2 40 ph (c_Fast_init ph) := ⟨zkIN (o := 13) (i := 3) f_Kind_init (by decide) (ok_Kind_init ph) (zq2 (q := (2, 144)) rfl), znn_m (ok_Kind_init ph).1, trivial⟩
theorem ok_Fast_init (ph : Bool) : zOk y_Fast_init (.code y_Fast_init prog_12_method_1_code 1 none) 2 40 ph (X_Fast_init ph) := zMd_ok (plainFor_of_name (by decide)) rfl (fun _ => rfl) v_Fast_init (k_Fast_init ph) (a_Fast_init ph)
def y_Runs_init : MethodName := ⟨"PackingHouse$Runs", "<init>", "()V"⟩
theorem v_Runs_init : zTv prog_24_method_1_code 1 14 true t_Runs_init = true := by decide +kernel
theorem k_Runs_init (ph : Bool) : zcKey (c_Runs_init ph) t_Runs_init = true := by cases ph <;> decide +kernel
theorem f_Runs_init : zfI y_Runs_init prog_24_method_1_code 1 0 := ⟨zq2 (q := (2, 152)) rfl, zq2 (q := (2, 151)) rfl, zq2 (q := (1, 14)) rfl, ⟨by decide, by decide⟩, rfl, by decide +kernel⟩
theorem a_Runs_init (ph : Bool) : zcAll 14 2 40 ph (c_Runs_init ph) := ⟨zkIN (o := 14) (i := 1) f_Kind_init (by decide) (ok_Kind_init ph) (zq2 (q := (2, 153)) rfl), znn_m (ok_Kind_init ph).1, trivial⟩
theorem ok_Runs_init (ph : Bool) : zOk y_Runs_init (.code y_Runs_init prog_24_method_1_code 1 none) 2 40 ph (X_Runs_init ph) := zMd_ok (plainFor_of_name (by decide)) rfl (fun _ => rfl) v_Runs_init (k_Runs_init ph) (a_Runs_init ph)
def y_Words_init : MethodName := ⟨"PackingHouse$Words", "<init>", "()V"⟩
theorem v_Words_init : zTv prog_32_method_1_code 1 15 true t_Words_init = true := by decide +kernel
theorem k_Words_init (ph : Bool) : zcKey (c_Words_init ph) t_Words_init = true := by cases ph <;> decide +kernel
theorem f_Words_init : zfI y_Words_init prog_32_method_1_code 1 0 := ⟨zq2 (q := (2, 159)) rfl, zq2 (q := (2, 158)) rfl, zq2 (q := (1, 15)) rfl, ⟨by decide, by decide⟩, rfl, by decide +kernel⟩
theorem a_Words_init (ph : Bool) : zcAll 15 2 40 ph (c_Words_init ph) := ⟨zkIN (o := 15) (i := 3) f_Kind_init (by decide) (ok_Kind_init ph) (zq2 (q := (2, 160)) rfl), znn_m (ok_Kind_init ph).1, trivial⟩
theorem ok_Words_init (ph : Bool) : zOk y_Words_init (.code y_Words_init prog_32_method_1_code 1 none) 2 40 ph (X_Words_init ph) := zMd_ok (plainFor_of_name (by decide)) rfl (fun _ => rfl) v_Words_init (k_Words_init ph) (a_Words_init ph)
def y_Rim_init : MethodName := ⟨"PackingHouse$Rim", "<init>", "()V"⟩
theorem v_Rim_init : zTv prog_22_method_1_code 1 16 true t_Rim_init = true := by decide +kernel
theorem k_Rim_init (ph : Bool) : zcKey (c_Rim_init ph) t_Rim_init = true := by cases ph <;> decide +kernel
theorem f_Rim_init : zfI y_Rim_init prog_22_method_1_code 1 0 := ⟨zq2 (q := (2, 184)) rfl, zq2 (q := (2, 183)) rfl, zq2 (q := (1, 16)) rfl, ⟨by decide, by decide⟩, rfl, by decide +kernel⟩
theorem a_Rim_init (ph : Bool) : zcAll 16 2 40 ph (c_Rim_init ph) := ⟨zkIN (o := 16) (i := 3) f_Kind_init (by decide) (ok_Kind_init ph) (zq2 (q := (2, 185)) rfl), znn_m (ok_Kind_init ph).1, trivial⟩
theorem ok_Rim_init (ph : Bool) : zOk y_Rim_init (.code y_Rim_init prog_22_method_1_code 1 none) 2 40 ph (X_Rim_init ph) := zMd_ok (plainFor_of_name (by decide)) rfl (fun _ => rfl) v_Rim_init (k_Rim_init ph) (a_Rim_init ph)
def y_Member_init : MethodName := ⟨"PackingHouse$Membe\x72", "<init>", "()V"⟩
theorem v_Member_init : zTv prog_17_method_1_code 1 17 true t_Member_init = true := by decide +kernel
theorem k_Member_init (ph : Bool) : zcKey (c_Member_init ph) t_Member_init = true := by cases ph <;> decide +kernel
theorem f_Member_init : zfI y_Member_init prog_17_method_1_code 1 0 := ⟨zq2 (q := (2, 191)) rfl, zq2 (q := (2, 190)) rfl, zq2 (q := (1, 17)) rfl, ⟨by decide, by decide⟩, rfl, by decide +kernel⟩
theorem a_Member_init (ph : Bool) : zcAll 17 2 40 ph (c_Member_init ph) := ⟨zkIN (o := 17) (i := 3) f_Kind_init (by decide) (ok_Kind_init ph) (zq2 (q := (2, 192)) rfl), znn_m (ok_Kind_init ph).1, trivial⟩
theorem ok_Member_init (ph : Bool) : zOk y_Member_init (.code y_Member_init prog_17_method_1_code 1 none) 2 40 ph (X_Member_init ph) := zMd_ok (plainFor_of_name (by decide)) rfl (fun _ => rfl) v_Member_init (k_Member_init ph) (a_Member_init ph)
def y_Frame_init : MethodName := ⟨"PackingHouse$Frame", "<init>", "()V"⟩
theorem v_Frame_init : zTv prog_14_method_1_code 1 18 true t_Frame_init = true := by decide +kernel
theorem k_Frame_init (ph : Bool) : zcKey (c_Frame_init ph) t_Frame_init = true := by cases ph <;> decide +kernel
theorem f_Frame_init : zfI y_Frame_init prog_14_method_1_code 1 0 := ⟨zq2 (q := (2, 198)) rfl, zq2 (q := (2, 197)) rfl, zq2 (q := (1, 18)) rfl, ⟨by decide, by decide⟩, rfl, by decide +kernel⟩
theorem a_Frame_init (ph : Bool) : zcAll 18 2 41 ph (c_Frame_init ph) := ⟨zkIN (o := 18) (i := 3) f_Kind_init (by decide) (ok_Kind_init ph) (zq2 (q := (2, 199)) rfl), znn_m (ok_Kind_init ph).1, zkI (o := 18) (i := 11) f_Row_init (by decide) (ok_Row_init ph) (zq2 (q := (2, 201)) rfl), znn_m (ok_Row_init ph).1, zkIN (o := 18) (i := 22) f_Source_init (by decide) (ok_Source_init ph) (zq2 (q := (2, 203)) rfl), znn_m (ok_Source_init ph).1, trivial⟩
theorem ok_Frame_init (ph : Bool) : zOk y_Frame_init (.code y_Frame_init prog_14_method_1_code 1 none) 2 41 ph (X_Frame_init ph) := zMd_ok (plainFor_of_name (by decide)) rfl (fun _ => rfl) v_Frame_init (k_Frame_init ph) (a_Frame_init ph)
def y_Copies_init : MethodName := ⟨"PackingHouse$Copies", "<init>", "()V"⟩
theorem v_Copies_init : zTv prog_8_method_1_code 1 19 true t_Copies_init = true := by decide +kernel
theorem k_Copies_init (ph : Bool) : zcKey (c_Copies_init ph) t_Copies_init = true := by cases ph <;> decide +kernel
theorem f_Copies_init : zfI y_Copies_init prog_8_method_1_code 1 0 := ⟨zq2 (q := (2, 215)) rfl, zq2 (q := (2, 214)) rfl, zq2 (q := (1, 19)) rfl, ⟨by decide, by decide⟩, rfl, by decide +kernel⟩
theorem a_Copies_init (ph : Bool) : zcAll 19 2 40 ph (c_Copies_init ph) := ⟨zkIN (o := 19) (i := 3) f_Kind_init (by decide) (ok_Kind_init ph) (zq2 (q := (2, 216)) rfl), znn_m (ok_Kind_init ph).1, trivial⟩
theorem ok_Copies_init (ph : Bool) : zOk y_Copies_init (.code y_Copies_init prog_8_method_1_code 1 none) 2 40 ph (X_Copies_init ph) := zMd_ok (plainFor_of_name (by decide)) rfl (fun _ => rfl) v_Copies_init (k_Copies_init ph) (a_Copies_init ph)
def y_Sorted_init : MethodName := ⟨"PackingHouse$Sorted", "<init>", "()V"⟩
theorem v_Sorted_init : zTv prog_27_method_1_code 2 20 true t_Sorted_init = true := by decide +kernel
theorem k_Sorted_init (ph : Bool) : zcKey (c_Sorted_init ph) t_Sorted_init = true := by cases ph <;> decide +kernel
theorem f_Sorted_init : zfI y_Sorted_init prog_27_method_1_code 2 0 := ⟨zq2 (q := (2, 222)) rfl, zq2 (q := (2, 221)) rfl, zq2 (q := (1, 20)) rfl, ⟨by decide, by decide⟩, rfl, by decide +kernel⟩
theorem a_Sorted_init (ph : Bool) : zcAll 20 2 41 ph (c_Sorted_init ph) := ⟨zkIN (o := 20) (i := 3) f_Kind_init (by decide) (ok_Kind_init ph) (zq2 (q := (2, 223)) rfl), znn_m (ok_Kind_init ph).1, zkI (o := 20) (i := 11) f_Row_init (by decide) (ok_Row_init ph) (zq2 (q := (2, 225)) rfl), znn_m (ok_Row_init ph).1, zkIN (o := 20) (i := 66) f_Code_init (by decide) (ok_Code_init ph) (zq2 (q := (2, 229)) rfl), znn_m (ok_Code_init ph).1, trivial⟩
theorem ok_Sorted_init (ph : Bool) : zOk y_Sorted_init (.code y_Sorted_init prog_27_method_1_code 2 none) 2 41 ph (X_Sorted_init ph) := zMd_ok (plainFor_of_name (by decide)) rfl (fun _ => rfl) v_Sorted_init (k_Sorted_init ph) (a_Sorted_init ph)
def y_Odds_init : MethodName := ⟨"PackingHouse$Odds", "<init>", "()V"⟩
theorem v_Odds_init : zTv prog_18_method_1_code 1 21 true t_Odds_init = true := by decide +kernel
theorem k_Odds_init (ph : Bool) : zcKey (c_Odds_init ph) t_Odds_init = true := by cases ph <;> decide +kernel
theorem f_Odds_init : zfI y_Odds_init prog_18_method_1_code 1 0 := ⟨zq2 (q := (3, 43)) rfl, zq2 (q := (3, 42)) rfl, zq2 (q := (1, 21)) rfl, ⟨by decide, by decide⟩, rfl, by decide +kernel⟩
theorem a_Odds_init (ph : Bool) : zcAll 21 2 40 ph (c_Odds_init ph) := ⟨zkIN (o := 21) (i := 1) f_Kind_init (by decide) (ok_Kind_init ph) (zq2 (q := (3, 44)) rfl), znn_m (ok_Kind_init ph).1, trivial⟩
theorem ok_Odds_init (ph : Bool) : zOk y_Odds_init (.code y_Odds_init prog_18_method_1_code 1 none) 2 40 ph (X_Odds_init ph) := zMd_ok (plainFor_of_name (by decide)) rfl (fun _ => rfl) v_Odds_init (k_Odds_init ph) (a_Odds_init ph)
def y_Shelf_init : MethodName := ⟨"PackingHouse$Shelf", "<init>", "()V"⟩
theorem v_Shelf_init : zTv prog_25_method_1_code 1 23 true t_Shelf_init = true := by decide +kernel
theorem k_Shelf_init (ph : Bool) : zcKey (c_Shelf_init ph) t_Shelf_init = true := by cases ph <;> decide +kernel
theorem f_Shelf_init : zfI y_Shelf_init prog_25_method_1_code 1 0 := ⟨zq2 (q := (3, 71)) rfl, zq2 (q := (3, 70)) rfl, zq2 (q := (1, 22)) rfl, ⟨by decide, by decide⟩, rfl, by decide +kernel⟩
theorem a_Shelf_init (ph : Bool) : zcAll 23 1 20 ph (c_Shelf_init ph) := ⟨zck_obj (o := 23) (i := 3) (by decide) (by decide) (zq2 (q := (3, 72)) rfl) w_obj1 w_obj2, X_objInit_m, trivial⟩
theorem ok_Shelf_init (ph : Bool) : zOk y_Shelf_init (.code y_Shelf_init prog_25_method_1_code 1 none) 1 20 ph (X_Shelf_init ph) := zMd_ok (plainFor_of_name (by decide)) rfl (fun _ => rfl) v_Shelf_init (k_Shelf_init ph) (a_Shelf_init ph)
def y_Tape_init : MethodName := ⟨"PackingHouse$Tape", "<init>", "()V"⟩
theorem v_Tape_init : zTv prog_31_method_1_code 1 22 true t_Tape_init = true := by decide +kernel
theorem k_Tape_init (ph : Bool) : zcKey (c_Tape_init ph) t_Tape_init = true := by cases ph <;> decide +kernel
theorem f_Tape_init : zfI y_Tape_init prog_31_method_1_code 1 0 := ⟨zq2 (q := (3, 68)) rfl, zq2 (q := (3, 67)) rfl, zq2 (q := (1, 23)) rfl, ⟨by decide, by decide⟩, rfl, by decide +kernel⟩
theorem a_Tape_init (ph : Bool) : zcAll 22 2 40 ph (c_Tape_init ph) := ⟨zkIN (o := 22) (i := 3) f_Shelf_init (by decide) (ok_Shelf_init ph) (zq2 (q := (3, 69)) rfl), znn_m (ok_Shelf_init ph).1, trivial⟩
theorem ok_Tape_init (ph : Bool) : zOk y_Tape_init (.code y_Tape_init prog_31_method_1_code 1 none) 2 40 ph (X_Tape_init ph) := zMd_ok (plainFor_of_name (by decide)) rfl (fun _ => rfl) v_Tape_init (k_Tape_init ph) (a_Tape_init ph)

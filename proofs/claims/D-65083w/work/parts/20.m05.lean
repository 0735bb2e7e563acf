/-! printed by gen_all.py -/
def y_Odds_begin : MethodName := ⟨"PackingHouse$Odds", "begin", "()V"⟩
theorem v_Odds_begin : zTv prog_18_method_2_code 2 21 false t_Odds_begin = true := by decide +kernel
theorem k_Odds_begin (ph : Bool) : zcKey (c_Odds_begin ph) t_Odds_begin = true := by cases ph <;> decide +kernel
theorem f_Odds_begin : zfV y_Odds_begin prog_18_method_2_code 2 none 19 0 := ⟨zq2 (q := (6, 89)) rfl, zq2 (q := (6, 88)) rfl, zq2 (q := (1, 21)) rfl, zq2 (q := (102, 4)) rfl, ⟨by decide, by decide⟩, by decide +kernel⟩
theorem a_Odds_begin (ph : Bool) : zcAll 21 0 0 ph (c_Odds_begin ph) := trivial
theorem ok_Odds_begin (ph : Bool) : zOk y_Odds_begin (.code y_Odds_begin prog_18_method_2_code 2 none) 0 0 ph (X_Odds_begin ph) := zMd_ok (plainFor_of_name (by decide)) rfl (fun h => by cases h) v_Odds_begin (k_Odds_begin ph) (a_Odds_begin ph)
def y_Odds_carry : MethodName := ⟨"PackingHouse$Odds", "carry", "()V"⟩
theorem v_Odds_carry : zTv prog_18_method_3_code 2 21 false t_Odds_carry = true := by decide +kernel
theorem k_Odds_carry (ph : Bool) : zcKey (c_Odds_carry ph) t_Odds_carry = true := by cases ph <;> decide +kernel
theorem f_Odds_carry : zfV y_Odds_carry prog_18_method_3_code 2 none 19 0 := ⟨zq2 (q := (6, 100)) rfl, zq2 (q := (6, 99)) rfl, zq2 (q := (1, 21)) rfl, zq2 (q := (102, 6)) rfl, ⟨by decide, by decide⟩, by decide +kernel⟩
theorem a_Odds_carry (ph : Bool) : zcAll 21 1 21 ph (c_Odds_carry ph) := ⟨zkV (o := 21) (i := 33) f_Row_get (by decide) (ok_Row_get ph) (zq2 (q := (6, 92)) rfl), zvt_m (ok_Row_get ph).1, trivial⟩
theorem ok_Odds_carry (ph : Bool) : zOk y_Odds_carry (.code y_Odds_carry prog_18_method_3_code 2 none) 1 21 ph (X_Odds_carry ph) := zMd_ok (plainFor_of_name (by decide)) rfl (fun h => by cases h) v_Odds_carry (k_Odds_carry ph) (a_Odds_carry ph)
def y_Odds_learn : MethodName := ⟨"PackingHouse$Odds", "learn", "(II)V"⟩
theorem v_Odds_learn : zTv prog_18_method_4_code 3 21 false t_Odds_learn = true := by decide +kernel
theorem k_Odds_learn (ph : Bool) : zcKey (c_Odds_learn ph) t_Odds_learn = true := by cases ph <;> decide +kernel
theorem f_Odds_learn : zfV y_Odds_learn prog_18_method_4_code 3 none 19 2 := ⟨zq2 (q := (6, 104)) rfl, zq2 (q := (6, 103)) rfl, zq2 (q := (1, 21)) rfl, zq2 (q := (102, 7)) rfl, ⟨by decide, by decide⟩, by decide +kernel⟩
theorem a_Odds_learn (ph : Bool) : zcAll 21 0 0 ph (c_Odds_learn ph) := trivial
theorem ok_Odds_learn (ph : Bool) : zOk y_Odds_learn (.code y_Odds_learn prog_18_method_4_code 3 none) 0 0 ph (X_Odds_learn ph) := zMd_ok (plainFor_of_name (by decide)) rfl (fun h => by cases h) v_Odds_learn (k_Odds_learn ph) (a_Odds_learn ph)
def y_Odds_write : MethodName := ⟨"PackingHouse$Odds", "write", "(II)V"⟩
theorem v_Odds_write : zTv prog_18_method_5_code 5 21 false t_Odds_write = true := by decide +kernel
theorem k_Odds_write (ph : Bool) : zcKey (c_Odds_write ph) t_Odds_write = true := by cases ph <;> decide +kernel
theorem f_Odds_write : zfV y_Odds_write prog_18_method_5_code 5 none 19 2 := ⟨zq2 (q := (6, 96)) rfl, zq2 (q := (6, 95)) rfl, zq2 (q := (1, 21)) rfl, zq2 (q := (102, 5)) rfl, ⟨by decide, by decide⟩, by decide +kernel⟩
theorem a_Odds_write (ph : Bool) : zcAll 21 2 42 ph (c_Odds_write ph) := ⟨zkV (o := 21) (i := 41) f_Odds_carry (by decide) (ok_Odds_carry ph) (zq2 (q := (6, 97)) rfl), zvt_m (ok_Odds_carry ph).1, zkV (o := 21) (i := 44) f_Odds_learn (by decide) (ok_Odds_learn ph) (zq2 (q := (6, 101)) rfl), zvt_m (ok_Odds_learn ph).1, zkV (o := 21) (i := 50) f_Row_add (by decide) (ok_Row_add ph) (zq2 (q := (6, 106)) rfl), zvt_m (ok_Row_add ph).1, trivial⟩
theorem ok_Odds_write (ph : Bool) : zOk y_Odds_write (.code y_Odds_write prog_18_method_5_code 5 none) 2 42 ph (X_Odds_write ph) := zMd_ok (plainFor_of_name (by decide)) rfl (fun h => by cases h) v_Odds_write (k_Odds_write ph) (a_Odds_write ph)
def y_Odds_pack : MethodName := ⟨"PackingHouse$Odds", "pack", "(LPackingHouse;LPackingHouse$Row;LPackingHouse$Row;I)Z"⟩
theorem v_Odds_pack : zTv prog_18_method_6_code 11 21 false t_Odds_pack = true := by decide +kernel
theorem k_Odds_pack (ph : Bool) : zcKey (c_Odds_pack ph) t_Odds_pack = true := by cases ph <;> decide +kernel
theorem a_Odds_pack (ph : Bool) : zcAll 21 3 66 ph (c_Odds_pack ph) := ⟨zkV (o := 21) (i := 33) f_Row_get (by decide) (ok_Row_get ph) (zq2 (q := (6, 92)) rfl), zvt_m (ok_Row_get ph).1, zkV (o := 21) (i := 54) f_Odds_begin (by decide) (ok_Odds_begin ph) (zq2 (q := (6, 86)) rfl), zvt_m (ok_Odds_begin ph).1, zkV (o := 21) (i := 57) f_Row_high (by decide) (ok_Row_high ph) (zq2 (q := (6, 91)) rfl), zvt_m (ok_Row_high ph).1, zkV (o := 21) (i := 61) f_Odds_write (by decide) (ok_Odds_write ph) (zq2 (q := (6, 93)) rfl), zvt_m (ok_Odds_write ph).1, trivial⟩
theorem ok_Odds_pack (ph : Bool) : zOk y_Odds_pack (.code y_Odds_pack prog_18_method_6_code 11 (some .boolean)) 3 66 ph (X_Odds_pack ph) := zMd_ok (plainFor_of_name (by decide)) rfl (fun h => by cases h) v_Odds_pack (k_Odds_pack ph) (a_Odds_pack ph)
def y_Rim_pack : MethodName := ⟨"PackingHouse$Rim", "pack", "(LPackingHouse;LPackingHouse$Row;LPackingHouse$Row;I)Z"⟩
theorem v_Rim_pack : zTv prog_22_method_2_code 7 16 false t_Rim_pack = true := by decide +kernel
theorem k_Rim_pack (ph : Bool) : zcKey (c_Rim_pack ph) t_Rim_pack = true := by cases ph <;> decide +kernel
theorem a_Rim_pack (ph : Bool) : zcAll 16 9 219 ph (c_Rim_pack ph) := ⟨zkS (o := 16) (i := 9) f_Math_min0 (by decide) (ok_Math_min0 ph) (zq2 (q := (6, 110)) rfl), (ok_Math_min0 ph).1, zkV (o := 16) (i := 15) f_Row_add (by decide) (ok_Row_add ph) (zq2 (q := (6, 111)) rfl), zvt_m (ok_Row_add ph).1, zkV (o := 16) (i := 25) f_Blocks_pack (by decide) (ok_Blocks_pack ph) (zq2 (q := (6, 112)) rfl), zvt_m (ok_Blocks_pack ph).1, zkS (o := 16) (i := 35) f_Sums_adler (by decide) (ok_Sums_adler ph) (zq2 (q := (6, 113)) rfl), (ok_Sums_adler ph).1, zkV (o := 16) (i := 41) f_Row_high (by decide) (ok_Row_high ph) (zq2 (q := (6, 114)) rfl), zvt_m (ok_Row_high ph).1, trivial⟩
theorem ok_Rim_pack (ph : Bool) : zOk y_Rim_pack (.code y_Rim_pack prog_22_method_2_code 7 (some .boolean)) 9 219 ph (X_Rim_pack ph) := zMd_ok (plainFor_of_name (by decide)) rfl (fun h => by cases h) v_Rim_pack (k_Rim_pack ph) (a_Rim_pack ph)
def y_Runs_alike : MethodName := ⟨"PackingHouse$Runs", "alike", "(LPackingHouse$Row;I)I"⟩
theorem v_Runs_alike : zTv prog_24_method_2_code 3 14 false t_Runs_alike = true := by decide +kernel
theorem k_Runs_alike (ph : Bool) : zcKey (c_Runs_alike ph) t_Runs_alike = true := by cases ph <;> decide +kernel
theorem f_Runs_alike : zfS y_Runs_alike prog_24_method_2_code 3 (some .int) 2 := ⟨zq2 (q := (6, 120)) rfl, zq2 (q := (6, 119)) rfl, zq2 (q := (1, 14)) rfl, ⟨by decide, by decide⟩, by decide +kernel⟩
theorem a_Runs_alike (ph : Bool) : zcAll 14 1 21 ph (c_Runs_alike ph) := ⟨zkV (o := 14) (i := 13) f_Row_get (by decide) (ok_Row_get ph) (zq2 (q := (6, 121)) rfl), zvt_m (ok_Row_get ph).1, trivial⟩
theorem ok_Runs_alike (ph : Bool) : zOk y_Runs_alike (.code y_Runs_alike prog_24_method_2_code 3 (some .int)) 1 21 ph (X_Runs_alike ph) := zMd_ok (plainFor_of_name (by decide)) rfl (fun h => by cases h) v_Runs_alike (k_Runs_alike ph) (a_Runs_alike ph)
def y_Runs_pack : MethodName := ⟨"PackingHouse$Runs", "pack", "(LPackingHouse;LPackingHouse$Row;LPackingHouse$Row;I)Z"⟩
theorem v_Runs_pack : zTv prog_24_method_3_code 8 14 false t_Runs_pack = true := by decide +kernel
theorem k_Runs_pack (ph : Bool) : zcKey (c_Runs_pack ph) t_Runs_pack = true := by cases ph <;> decide +kernel
theorem a_Runs_pack (ph : Bool) : zcAll 14 2 83 ph (c_Runs_pack ph) := ⟨zkV (o := 14) (i := 13) f_Row_get (by decide) (ok_Row_get ph) (zq2 (q := (6, 121)) rfl), zvt_m (ok_Row_get ph).1, zkS (o := 14) (i := 17) f_Runs_alike (by decide) (ok_Runs_alike ph) (zq2 (q := (6, 118)) rfl), (ok_Runs_alike ph).1, zkV (o := 14) (i := 23) f_Row_add (by decide) (ok_Row_add ph) (zq2 (q := (6, 122)) rfl), zvt_m (ok_Row_add ph).1, zkV (o := 14) (i := 27) f_Row_append (by decide) (ok_Row_append ph) (zq2 (q := (6, 123)) rfl), zvt_m (ok_Row_append ph).1, trivial⟩
theorem ok_Runs_pack (ph : Bool) : zOk y_Runs_pack (.code y_Runs_pack prog_24_method_3_code 8 (some .boolean)) 2 83 ph (X_Runs_pack ph) := zMd_ok (plainFor_of_name (by decide)) rfl (fun h => by cases h) v_Runs_pack (k_Runs_pack ph) (a_Runs_pack ph)
def y_Bits_high : MethodName := ⟨"PackingHouse$Bits", "high", "(JI)V"⟩
theorem v_Bits_high : zTv prog_3_method_5_code 5 5 false t_Bits_high = true := by decide +kernel
theorem k_Bits_high (ph : Bool) : zcKey (c_Bits_high ph) t_Bits_high = true := by cases ph <;> decide +kernel
theorem f_Bits_high : zfV y_Bits_high prog_3_method_5_code 5 none 5 2 := ⟨zq2 (q := (6, 132)) rfl, zq2 (q := (6, 130)) rfl, zq2 (q := (1, 5)) rfl, zq2 (q := (6, 131)) rfl, ⟨by decide, by decide⟩, by decide +kernel⟩
theorem a_Bits_high (ph : Bool) : zcAll 5 2 41 ph (c_Bits_high ph) := ⟨zkV (o := 5) (i := 29) f_Bits_octet (by decide) (ok_Bits_octet ph) (zq2 (q := (5, 113)) rfl), zvt_m (ok_Bits_octet ph).1, trivial⟩
theorem ok_Bits_high (ph : Bool) : zOk y_Bits_high (.code y_Bits_high prog_3_method_5_code 5 none) 2 41 ph (X_Bits_high ph) := zMd_ok (plainFor_of_name (by decide)) rfl (fun h => by cases h) v_Bits_high (k_Bits_high ph) (a_Bits_high ph)
def y_Sorted_makeRuns : MethodName := ⟨"PackingHouse$Sorted", "makeRuns", "(LPackingHouse$Row;II)V"⟩
theorem v_Sorted_makeRuns : zTv prog_27_method_2_code 7 20 false t_Sorted_makeRuns = true := by decide +kernel
theorem k_Sorted_makeRuns (ph : Bool) : zcKey (c_Sorted_makeRuns ph) t_Sorted_makeRuns = true := by cases ph <;> decide +kernel
theorem f_Sorted_makeRuns : zfV y_Sorted_makeRuns prog_27_method_2_code 7 none 18 3 := ⟨zq2 (q := (6, 138)) rfl, zq2 (q := (6, 137)) rfl, zq2 (q := (1, 20)) rfl, zq2 (q := (102, 8)) rfl, ⟨by decide, by decide⟩, by decide +kernel⟩
theorem a_Sorted_makeRuns (ph : Bool) : zcAll 20 1 21 ph (c_Sorted_makeRuns ph) := ⟨zkV (o := 20) (i := 71) f_Row_get (by decide) (ok_Row_get ph) (zq2 (q := (6, 139)) rfl), zvt_m (ok_Row_get ph).1, zkS (o := 20) (i := 75) f_Math_min0 (by decide) (ok_Math_min0 ph) (zq2 (q := (6, 133)) rfl), (ok_Math_min0 ph).1, zkV (o := 20) (i := 81) f_Row_add (by decide) (ok_Row_add ph) (zq2 (q := (6, 140)) rfl), zvt_m (ok_Row_add ph).1, trivial⟩
theorem ok_Sorted_makeRuns (ph : Bool) : zOk y_Sorted_makeRuns (.code y_Sorted_makeRuns prog_27_method_2_code 7 none) 1 21 ph (X_Sorted_makeRuns ph) := zMd_ok (plainFor_of_name (by decide)) rfl (fun h => by cases h) v_Sorted_makeRuns (k_Sorted_makeRuns ph) (a_Sorted_makeRuns ph)
def y_Sorted_isBefore : MethodName := ⟨"PackingHouse$Sorted", "isBefore", "(III)Z"⟩
theorem v_Sorted_isBefore : zTv prog_27_method_3_code 5 20 false t_Sorted_isBefore = true := by decide +kernel
theorem k_Sorted_isBefore (ph : Bool) : zcKey (c_Sorted_isBefore ph) t_Sorted_isBefore = true := by cases ph <;> decide +kernel
theorem f_Sorted_isBefore : zfV y_Sorted_isBefore prog_27_method_3_code 5 (some .boolean) 18 3 := ⟨zq2 (q := (6, 156)) rfl, zq2 (q := (6, 155)) rfl, zq2 (q := (1, 20)) rfl, zq2 (q := (102, 12)) rfl, ⟨by decide, by decide⟩, by decide +kernel⟩
theorem a_Sorted_isBefore (ph : Bool) : zcAll 20 0 0 ph (c_Sorted_isBefore ph) := trivial
theorem ok_Sorted_isBefore (ph : Bool) : zOk y_Sorted_isBefore (.code y_Sorted_isBefore prog_27_method_3_code 5 (some .boolean)) 0 0 ph (X_Sorted_isBefore ph) := zMd_ok (plainFor_of_name (by decide)) rfl (fun h => by cases h) v_Sorted_isBefore (k_Sorted_isBefore ph) (a_Sorted_isBefore ph)
def y_Sorted_sort : MethodName := ⟨"PackingHouse$Sorted", "sort", "(I)V"⟩
theorem v_Sorted_sort : zTv prog_27_method_4_code 10 20 false t_Sorted_sort = true := by decide +kernel
theorem k_Sorted_sort (ph : Bool) : zcKey (c_Sorted_sort ph) t_Sorted_sort = true := by cases ph <;> decide +kernel
theorem f_Sorted_sort : zfV y_Sorted_sort prog_27_method_4_code 10 none 18 1 := ⟨zq2 (q := (6, 152)) rfl, zq2 (q := (6, 151)) rfl, zq2 (q := (1, 20)) rfl, zq2 (q := (102, 11)) rfl, ⟨by decide, by decide⟩, by decide +kernel⟩
theorem a_Sorted_sort (ph : Bool) : zcAll 20 1 60 ph (c_Sorted_sort ph) := ⟨zkS (o := 20) (i := 75) f_Math_min0 (by decide) (ok_Math_min0 ph) (zq2 (q := (6, 133)) rfl), (ok_Math_min0 ph).1, zkV (o := 20) (i := 84) f_Sorted_isBefore (by decide) (ok_Sorted_isBefore ph) (zq2 (q := (6, 153)) rfl), zvt_m (ok_Sorted_isBefore ph).1, zck_acopy (o := 20) (i := 88) (by decide) (by decide) (zq2 (q := (6, 157)) rfl) w_acn w_acs w_aci, X_acopy_m, trivial⟩
theorem ok_Sorted_sort (ph : Bool) : zOk y_Sorted_sort (.code y_Sorted_sort prog_27_method_4_code 10 none) 1 60 ph (X_Sorted_sort ph) := zMd_ok (plainFor_of_name (by decide)) rfl (fun h => by cases h) v_Sorted_sort (k_Sorted_sort ph) (a_Sorted_sort ph)
def y_Sorted_sortRotations : MethodName := ⟨"PackingHouse$Sorted", "sortRotations", "()V"⟩
theorem v_Sorted_sortRotations : zTv prog_27_method_5_code 6 20 false t_Sorted_sortRotations = true := by decide +kernel
theorem k_Sorted_sortRotations (ph : Bool) : zcKey (c_Sorted_sortRotations ph) t_Sorted_sortRotations = true := by cases ph <;> decide +kernel
theorem f_Sorted_sortRotations : zfV y_Sorted_sortRotations prog_27_method_5_code 6 none 18 0 := ⟨zq2 (q := (6, 148)) rfl, zq2 (q := (6, 147)) rfl, zq2 (q := (1, 20)) rfl, zq2 (q := (102, 10)) rfl, ⟨by decide, by decide⟩, by decide +kernel⟩
theorem a_Sorted_sortRotations (ph : Bool) : zcAll 20 2 89 ph (c_Sorted_sortRotations ph) := ⟨zkV (o := 20) (i := 71) f_Row_get (by decide) (ok_Row_get ph) (zq2 (q := (6, 139)) rfl), zvt_m (ok_Row_get ph).1, zkV (o := 20) (i := 84) f_Sorted_isBefore (by decide) (ok_Sorted_isBefore ph) (zq2 (q := (6, 153)) rfl), zvt_m (ok_Sorted_isBefore ph).1, zck_acopy (o := 20) (i := 88) (by decide) (by decide) (zq2 (q := (6, 157)) rfl) w_acn w_acs w_aci, X_acopy_m, zkV (o := 20) (i := 94) f_Sorted_sort (by decide) (ok_Sorted_sort ph) (zq2 (q := (6, 149)) rfl), zvt_m (ok_Sorted_sort ph).1, trivial⟩
theorem ok_Sorted_sortRotations (ph : Bool) : zOk y_Sorted_sortRotations (.code y_Sorted_sortRotations prog_27_method_5_code 6 none) 2 89 ph (X_Sorted_sortRotations ph) := zMd_ok (plainFor_of_name (by decide)) rfl (fun h => by cases h) v_Sorted_sortRotations (k_Sorted_sortRotations ph) (a_Sorted_sortRotations ph)
def y_Sorted_findSigns : MethodName := ⟨"PackingHouse$Sorted", "findSigns", "()V"⟩
theorem v_Sorted_findSigns : zTv prog_27_method_6_code 2 20 false t_Sorted_findSigns = true := by decide +kernel
theorem k_Sorted_findSigns (ph : Bool) : zcKey (c_Sorted_findSigns ph) t_Sorted_findSigns = true := by cases ph <;> decide +kernel
theorem f_Sorted_findSigns : zfV y_Sorted_findSigns prog_27_method_6_code 2 none 18 0 := ⟨zq2 (q := (6, 161)) rfl, zq2 (q := (6, 160)) rfl, zq2 (q := (1, 20)) rfl, zq2 (q := (102, 13)) rfl, ⟨by decide, by decide⟩, by decide +kernel⟩
theorem a_Sorted_findSigns (ph : Bool) : zcAll 20 1 21 ph (c_Sorted_findSigns ph) := ⟨zkV (o := 20) (i := 71) f_Row_get (by decide) (ok_Row_get ph) (zq2 (q := (6, 139)) rfl), zvt_m (ok_Row_get ph).1, trivial⟩
theorem ok_Sorted_findSigns (ph : Bool) : zOk y_Sorted_findSigns (.code y_Sorted_findSigns prog_27_method_6_code 2 none) 1 21 ph (X_Sorted_findSigns ph) := zMd_ok (plainFor_of_name (by decide)) rfl (fun h => by cases h) v_Sorted_findSigns (k_Sorted_findSigns ph) (a_Sorted_findSigns ph)
def y_Sorted_hasSixteen : MethodName := ⟨"PackingHouse$Sorted", "hasSixteen", "(I)Z"⟩
theorem v_Sorted_hasSixteen : zTv prog_27_method_12_code 4 20 false t_Sorted_hasSixteen = true := by decide +kernel
theorem k_Sorted_hasSixteen (ph : Bool) : zcKey (c_Sorted_hasSixteen ph) t_Sorted_hasSixteen = true := by cases ph <;> decide +kernel
theorem f_Sorted_hasSixteen : zfV y_Sorted_hasSixteen prog_27_method_12_code 4 (some .boolean) 18 1 := ⟨zq2 (q := (6, 170)) rfl, zq2 (q := (6, 169)) rfl, zq2 (q := (1, 20)) rfl, zq2 (q := (102, 15)) rfl, ⟨by decide, by decide⟩, by decide +kernel⟩
theorem a_Sorted_hasSixteen (ph : Bool) : zcAll 20 0 0 ph (c_Sorted_hasSixteen ph) := trivial
theorem ok_Sorted_hasSixteen (ph : Bool) : zOk y_Sorted_hasSixteen (.code y_Sorted_hasSixteen prog_27_method_12_code 4 (some .boolean)) 0 0 ph (X_Sorted_hasSixteen ph) := zMd_ok (plainFor_of_name (by decide)) rfl (fun h => by cases h) v_Sorted_hasSixteen (k_Sorted_hasSixteen ph) (a_Sorted_hasSixteen ph)
def y_Sorted_writeSigns : MethodName := ⟨"PackingHouse$Sorted", "writeSigns", "(LPackingHouse$Bits;)V"⟩
theorem v_Sorted_writeSigns : zTv prog_27_method_11_code 3 20 false t_Sorted_writeSigns = true := by decide +kernel
theorem k_Sorted_writeSigns (ph : Bool) : zcKey (c_Sorted_writeSigns ph) t_Sorted_writeSigns = true := by cases ph <;> decide +kernel
theorem f_Sorted_writeSigns : zfV y_Sorted_writeSigns prog_27_method_11_code 3 none 18 1 := ⟨zq2 (q := (6, 166)) rfl, zq2 (q := (6, 165)) rfl, zq2 (q := (1, 20)) rfl, zq2 (q := (102, 14)) rfl, ⟨by decide, by decide⟩, by decide +kernel⟩
theorem a_Sorted_writeSigns (ph : Bool) : zcAll 20 3 65 ph (c_Sorted_writeSigns ph) := ⟨zkV (o := 20) (i := 112) f_Sorted_hasSixteen (by decide) (ok_Sorted_hasSixteen ph) (zq2 (q := (6, 167)) rfl), zvt_m (ok_Sorted_hasSixteen ph).1, zkV (o := 20) (i := 116) f_Bits_high (by decide) (ok_Bits_high ph) (zq2 (q := (6, 129)) rfl), zvt_m (ok_Bits_high ph).1, trivial⟩
theorem ok_Sorted_writeSigns (ph : Bool) : zOk y_Sorted_writeSigns (.code y_Sorted_writeSigns prog_27_method_11_code 3 none) 3 65 ph (X_Sorted_writeSigns ph) := zMd_ok (plainFor_of_name (by decide)) rfl (fun h => by cases h) v_Sorted_writeSigns (k_Sorted_writeSigns ph) (a_Sorted_writeSigns ph)
def y_Sorted_bring : MethodName := ⟨"PackingHouse$Sorted", "bring", "(I)V"⟩
theorem v_Sorted_bring : zTv prog_27_method_8_code 3 20 false t_Sorted_bring = true := by decide +kernel
theorem k_Sorted_bring (ph : Bool) : zcKey (c_Sorted_bring ph) t_Sorted_bring = true := by cases ph <;> decide +kernel
theorem f_Sorted_bring : zfV y_Sorted_bring prog_27_method_8_code 3 none 18 1 := ⟨zq2 (q := (6, 182)) rfl, zq2 (q := (6, 181)) rfl, zq2 (q := (1, 20)) rfl, zq2 (q := (103, 2)) rfl, ⟨by decide, by decide⟩, by decide +kernel⟩
theorem a_Sorted_bring (ph : Bool) : zcAll 20 1 60 ph (c_Sorted_bring ph) := ⟨zck_acopy (o := 20) (i := 88) (by decide) (by decide) (zq2 (q := (6, 157)) rfl) w_acn w_acs w_aci, X_acopy_m, trivial⟩
theorem ok_Sorted_bring (ph : Bool) : zOk y_Sorted_bring (.code y_Sorted_bring prog_27_method_8_code 3 none) 1 60 ph (X_Sorted_bring ph) := zMd_ok (plainFor_of_name (by decide)) rfl (fun h => by cases h) v_Sorted_bring (k_Sorted_bring ph) (a_Sorted_bring ph)
def y_Sorted_front : MethodName := ⟨"PackingHouse$Sorted", "front", "(I)I"⟩
theorem v_Sorted_front : zTv prog_27_method_7_code 3 20 false t_Sorted_front = true := by decide +kernel
theorem k_Sorted_front (ph : Bool) : zcKey (c_Sorted_front ph) t_Sorted_front = true := by cases ph <;> decide +kernel
theorem f_Sorted_front : zfV y_Sorted_front prog_27_method_7_code 3 (some .int) 18 1 := ⟨zq2 (q := (6, 178)) rfl, zq2 (q := (6, 177)) rfl, zq2 (q := (1, 20)) rfl, zq2 (q := (103, 1)) rfl, ⟨by decide, by decide⟩, by decide +kernel⟩
theorem a_Sorted_front (ph : Bool) : zcAll 20 2 82 ph (c_Sorted_front ph) := ⟨zkV (o := 20) (i := 100) f_Sorted_bring (by decide) (ok_Sorted_bring ph) (zq2 (q := (6, 179)) rfl), zvt_m (ok_Sorted_bring ph).1, trivial⟩
theorem ok_Sorted_front (ph : Bool) : zOk y_Sorted_front (.code y_Sorted_front prog_27_method_7_code 3 (some .int)) 2 82 ph (X_Sorted_front ph) := zMd_ok (plainFor_of_name (by decide)) rfl (fun h => by cases h) v_Sorted_front (k_Sorted_front ph) (a_Sorted_front ph)
def y_Sorted_digits : MethodName := ⟨"PackingHouse$Sorted", "digits", "(I)V"⟩
theorem v_Sorted_digits : zTv prog_27_method_9_code 3 20 false t_Sorted_digits = true := by decide +kernel
theorem k_Sorted_digits (ph : Bool) : zcKey (c_Sorted_digits ph) t_Sorted_digits = true := by cases ph <;> decide +kernel
theorem f_Sorted_digits : zfV y_Sorted_digits prog_27_method_9_code 3 none 18 1 := ⟨zq2 (q := (6, 186)) rfl, zq2 (q := (6, 185)) rfl, zq2 (q := (1, 20)) rfl, zq2 (q := (103, 3)) rfl, ⟨by decide, by decide⟩, by decide +kernel⟩
theorem a_Sorted_digits (ph : Bool) : zcAll 20 0 0 ph (c_Sorted_digits ph) := trivial
theorem ok_Sorted_digits (ph : Bool) : zOk y_Sorted_digits (.code y_Sorted_digits prog_27_method_9_code 3 none) 0 0 ph (X_Sorted_digits ph) := zMd_ok (plainFor_of_name (by decide)) rfl (fun h => by cases h) v_Sorted_digits (k_Sorted_digits ph) (a_Sorted_digits ph)
def y_Sorted_makeSymbols : MethodName := ⟨"PackingHouse$Sorted", "makeSymbols", "()V"⟩
theorem v_Sorted_makeSymbols : zTv prog_27_method_10_code 4 20 false t_Sorted_makeSymbols = true := by decide +kernel
theorem k_Sorted_makeSymbols (ph : Bool) : zcKey (c_Sorted_makeSymbols ph) t_Sorted_makeSymbols = true := by cases ph <;> decide +kernel
theorem f_Sorted_makeSymbols : zfV y_Sorted_makeSymbols prog_27_method_10_code 4 none 18 0 := ⟨zq2 (q := (6, 174)) rfl, zq2 (q := (6, 173)) rfl, zq2 (q := (1, 20)) rfl, zq2 (q := (103, 0)) rfl, ⟨by decide, by decide⟩, by decide +kernel⟩
theorem a_Sorted_makeSymbols (ph : Bool) : zcAll 20 3 104 ph (c_Sorted_makeSymbols ph) := ⟨zkV (o := 20) (i := 71) f_Row_get (by decide) (ok_Row_get ph) (zq2 (q := (6, 139)) rfl), zvt_m (ok_Row_get ph).1, zkV (o := 20) (i := 106) f_Sorted_front (by decide) (ok_Sorted_front ph) (zq2 (q := (6, 175)) rfl), zvt_m (ok_Sorted_front ph).1, zkV (o := 20) (i := 109) f_Sorted_digits (by decide) (ok_Sorted_digits ph) (zq2 (q := (6, 183)) rfl), zvt_m (ok_Sorted_digits ph).1, trivial⟩
theorem ok_Sorted_makeSymbols (ph : Bool) : zOk y_Sorted_makeSymbols (.code y_Sorted_makeSymbols prog_27_method_10_code 4 none) 3 104 ph (X_Sorted_makeSymbols ph) := zMd_ok (plainFor_of_name (by decide)) rfl (fun h => by cases h) v_Sorted_makeSymbols (k_Sorted_makeSymbols ph) (a_Sorted_makeSymbols ph)
def y_Sorted_writeLengths : MethodName := ⟨"PackingHouse$Sorted", "writeLengths", "(LPackingHouse$Bits;LPackingHouse$Code;)V"⟩
theorem v_Sorted_writeLengths : zTv prog_27_method_13_code 4 20 false t_Sorted_writeLengths = true := by decide +kernel
theorem k_Sorted_writeLengths (ph : Bool) : zcKey (c_Sorted_writeLengths ph) t_Sorted_writeLengths = true := by cases ph <;> decide +kernel
theorem f_Sorted_writeLengths : zfS y_Sorted_writeLengths prog_27_method_13_code 4 none 2 := ⟨zq2 (q := (6, 192)) rfl, zq2 (q := (6, 191)) rfl, zq2 (q := (1, 20)) rfl, ⟨by decide, by decide⟩, by decide +kernel⟩
theorem a_Sorted_writeLengths (ph : Bool) : zcAll 20 3 65 ph (c_Sorted_writeLengths ph) := ⟨zkV (o := 20) (i := 116) f_Bits_high (by decide) (ok_Bits_high ph) (zq2 (q := (6, 129)) rfl), zvt_m (ok_Bits_high ph).1, trivial⟩
theorem ok_Sorted_writeLengths (ph : Bool) : zOk y_Sorted_writeLengths (.code y_Sorted_writeLengths prog_27_method_13_code 4 none) 3 65 ph (X_Sorted_writeLengths ph) := zMd_ok (plainFor_of_name (by decide)) rfl (fun h => by cases h) v_Sorted_writeLengths (k_Sorted_writeLengths ph) (a_Sorted_writeLengths ph)
def y_Sorted_writeBlock : MethodName := ⟨"PackingHouse$Sorted", "writeBlock", "(LPackingHouse$Bits;J)V"⟩
theorem v_Sorted_writeBlock : zTv prog_27_method_14_code 8 20 false t_Sorted_writeBlock = true := by decide +kernel
theorem k_Sorted_writeBlock (ph : Bool) : zcKey (c_Sorted_writeBlock ph) t_Sorted_writeBlock = true := by cases ph <;> decide +kernel
theorem f_Sorted_writeBlock : zfV y_Sorted_writeBlock prog_27_method_14_code 8 none 18 2 := ⟨zq2 (q := (6, 144)) rfl, zq2 (q := (6, 143)) rfl, zq2 (q := (1, 20)) rfl, zq2 (q := (102, 9)) rfl, ⟨by decide, by decide⟩, by decide +kernel⟩
theorem a_Sorted_writeBlock (ph : Bool) : zcAll 20 4 127 ph (c_Sorted_writeBlock ph) := ⟨zkV (o := 20) (i := 116) f_Bits_high (by decide) (ok_Bits_high ph) (zq2 (q := (6, 129)) rfl), zvt_m (ok_Bits_high ph).1, zkV (o := 20) (i := 130) f_Sorted_sortRotations (by decide) (ok_Sorted_sortRotations ph) (zq2 (q := (6, 145)) rfl), zvt_m (ok_Sorted_sortRotations ph).1, zkV (o := 20) (i := 133) f_Sorted_findSigns (by decide) (ok_Sorted_findSigns ph) (zq2 (q := (6, 158)) rfl), zvt_m (ok_Sorted_findSigns ph).1, zkV (o := 20) (i := 138) f_Sorted_writeSigns (by decide) (ok_Sorted_writeSigns ph) (zq2 (q := (6, 163)) rfl), zvt_m (ok_Sorted_writeSigns ph).1, zkV (o := 20) (i := 142) f_Sorted_makeSymbols (by decide) (ok_Sorted_makeSymbols ph) (zq2 (q := (6, 171)) rfl), zvt_m (ok_Sorted_makeSymbols ph).1, zkS (o := 20) (i := 145) f_Math_max (by decide) (ok_Math_max ph) (zq2 (q := (6, 187)) rfl), (ok_Math_max ph).1, zkV (o := 20) (i := 148) f_Code_byCounts (by decide) (ok_Code_byCounts ph) (zq2 (q := (6, 188)) rfl), zvt_m (ok_Code_byCounts ph).1, zkS (o := 20) (i := 152) f_Sorted_writeLengths (by decide) (ok_Sorted_writeLengths ph) (zq2 (q := (6, 190)) rfl), (ok_Sorted_writeLengths ph).1, trivial⟩
theorem ok_Sorted_writeBlock (ph : Bool) : zOk y_Sorted_writeBlock (.code y_Sorted_writeBlock prog_27_method_14_code 8 none) 4 127 ph (X_Sorted_writeBlock ph) := zMd_ok (plainFor_of_name (by decide)) rfl (fun h => by cases h) v_Sorted_writeBlock (k_Sorted_writeBlock ph) (a_Sorted_writeBlock ph)
def y_Sorted_pack : MethodName := ⟨"PackingHouse$Sorted", "pack", "(LPackingHouse;LPackingHouse$Row;LPackingHouse$Row;I)Z"⟩
theorem v_Sorted_pack : zTv prog_27_method_15_code 11 20 false t_Sorted_pack = true := by decide +kernel
theorem k_Sorted_pack (ph : Bool) : zcKey (c_Sorted_pack ph) t_Sorted_pack = true := by cases ph <;> decide +kernel
theorem a_Sorted_pack (ph : Bool) : zcAll 20 5 154 ph (c_Sorted_pack ph) := ⟨zkS (o := 20) (i := 75) f_Math_min0 (by decide) (ok_Math_min0 ph) (zq2 (q := (6, 133)) rfl), (ok_Math_min0 ph).1, zkV (o := 20) (i := 116) f_Bits_high (by decide) (ok_Bits_high ph) (zq2 (q := (6, 129)) rfl), zvt_m (ok_Bits_high ph).1, zkV (o := 20) (i := 162) f_Bits_begin (by decide) (ok_Bits_begin ph) (zq2 (q := (6, 127)) rfl), zvt_m (ok_Bits_begin ph).1, zkV (o := 20) (i := 172) f_Sums_turned (by decide) (ok_Sums_turned ph) (zq2 (q := (6, 134)) rfl), zvt_m (ok_Sums_turned ph).1, zkV (o := 20) (i := 178) f_Sorted_makeRuns (by decide) (ok_Sorted_makeRuns ph) (zq2 (q := (6, 135)) rfl), zvt_m (ok_Sorted_makeRuns ph).1, zkV (o := 20) (i := 182) f_Sorted_writeBlock (by decide) (ok_Sorted_writeBlock ph) (zq2 (q := (6, 141)) rfl), zvt_m (ok_Sorted_writeBlock ph).1, zkS (o := 20) (i := 186) f_Integer_rotateLeft (by decide) (ok_Integer_rotateLeft ph) (zq2 (q := (6, 194)) rfl), (ok_Integer_rotateLeft ph).1, zkV (o := 20) (i := 195) f_Bits_end (by decide) (ok_Bits_end ph) (zq2 (q := (6, 197)) rfl), zvt_m (ok_Bits_end ph).1, trivial⟩
theorem ok_Sorted_pack (ph : Bool) : zOk y_Sorted_pack (.code y_Sorted_pack prog_27_method_15_code 11 (some .boolean)) 5 154 ph (X_Sorted_pack ph) := zMd_ok (plainFor_of_name (by decide)) rfl (fun h => by cases h) v_Sorted_pack (k_Sorted_pack ph) (a_Sorted_pack ph)
def y_Words_clear : MethodName := ⟨"PackingHouse$Words", "clea\x72", "()V"⟩
theorem v_Words_clear : zTv prog_32_method_3_code 2 15 false t_Words_clear = true := by decide +kernel
theorem k_Words_clear (ph : Bool) : zcKey (c_Words_clear ph) t_Words_clear = true := by cases ph <;> decide +kernel
theorem f_Words_clear : zfV y_Words_clear prog_32_method_3_code 2 none 13 0 := ⟨zq2 (q := (6, 206)) rfl, zq2 (q := (6, 205)) rfl, zq2 (q := (1, 15)) rfl, zq2 (q := (103, 4)) rfl, ⟨by decide, by decide⟩, by decide +kernel⟩
theorem a_Words_clear (ph : Bool) : zcAll 15 0 0 ph (c_Words_clear ph) := trivial
theorem ok_Words_clear (ph : Bool) : zOk y_Words_clear (.code y_Words_clear prog_32_method_3_code 2 none) 0 0 ph (X_Words_clear ph) := zMd_ok (plainFor_of_name (by decide)) rfl (fun h => by cases h) v_Words_clear (k_Words_clear ph) (a_Words_clear ph)

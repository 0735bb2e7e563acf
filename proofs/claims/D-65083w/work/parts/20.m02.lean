/-! printed by gen_all.py -/
def y_Sums_turned : MethodName := ⟨"PackingHouse$Sums", "turned", "(LPackingHouse$Row;II)J"⟩
theorem v_Sums_turned : zTv prog_30_method_5_code 6 6 false t_Sums_turned = true := by decide +kernel
theorem k_Sums_turned (ph : Bool) : zcKey (c_Sums_turned ph) t_Sums_turned = true := by cases ph <;> decide +kernel
theorem f_Sums_turned : zfV y_Sums_turned prog_30_method_5_code 6 (some .long) 6 3 := ⟨zq2 (q := (5, 6)) rfl, zq2 (q := (5, 4)) rfl, zq2 (q := (1, 6)) rfl, zq2 (q := (5, 5)) rfl, ⟨by decide, by decide⟩, by decide +kernel⟩
theorem a_Sums_turned (ph : Bool) : zcAll 6 1 22 ph (c_Sums_turned ph) := ⟨zkV (o := 6) (i := 18) f_Row_get (by decide) (ok_Row_get ph) (zq2 (q := (4, 235)) rfl), zvt_m (ok_Row_get ph).1, zkV (o := 6) (i := 29) f_Sums_turnedBy (by decide) (ok_Sums_turnedBy ph) (zq2 (q := (5, 7)) rfl), zvt_m (ok_Sums_turnedBy ph).1, trivial⟩
theorem ok_Sums_turned (ph : Bool) : zOk y_Sums_turned (.code y_Sums_turned prog_30_method_5_code 6 (some .long)) 1 22 ph (X_Sums_turned ph) := zMd_ok (plainFor_of_name (by decide)) rfl (fun h => by cases h) v_Sums_turned (k_Sums_turned ph) (a_Sums_turned ph)
def y_Sums_four : MethodName := ⟨"PackingHouse$Sums", "fou\x72", "(LPackingHouse$Row;I)I"⟩
theorem v_Sums_four : zTv prog_30_method_6_code 2 6 false t_Sums_four = true := by decide +kernel
theorem k_Sums_four (ph : Bool) : zcKey (c_Sums_four ph) t_Sums_four = true := by cases ph <;> decide +kernel
theorem f_Sums_four : zfS y_Sums_four prog_30_method_6_code 2 (some .int) 2 := ⟨zq2 (q := (5, 20)) rfl, zq2 (q := (5, 19)) rfl, zq2 (q := (1, 6)) rfl, ⟨by decide, by decide⟩, by decide +kernel⟩
theorem a_Sums_four (ph : Bool) : zcAll 6 1 21 ph (c_Sums_four ph) := ⟨zkV (o := 6) (i := 18) f_Row_get (by decide) (ok_Row_get ph) (zq2 (q := (4, 235)) rfl), zvt_m (ok_Row_get ph).1, trivial⟩
theorem ok_Sums_four (ph : Bool) : zOk y_Sums_four (.code y_Sums_four prog_30_method_6_code 2 (some .int)) 1 21 ph (X_Sums_four ph) := zMd_ok (plainFor_of_name (by decide)) rfl (fun h => by cases h) v_Sums_four (k_Sums_four ph) (a_Sums_four ph)
def y_Integer_rotateLeft : MethodName := ⟨"java/lang/Intege\x72", "rotateLeft", "(II)I"⟩
theorem v_Integer_rotateLeft : zTv prog_36_method_50_code 2 33 false t_Integer_rotateLeft = true := by decide +kernel
theorem k_Integer_rotateLeft (ph : Bool) : zcKey (c_Integer_rotateLeft ph) t_Integer_rotateLeft = true := by cases ph <;> decide +kernel
theorem f_Integer_rotateLeft : zfS y_Integer_rotateLeft prog_36_method_50_code 2 (some .int) 2 := ⟨zq2 (q := (5, 26)) rfl, zq2 (q := (5, 25)) rfl, zq2 (q := (1, 34)) rfl, ⟨by decide, by decide⟩, by decide +kernel⟩
theorem a_Integer_rotateLeft (ph : Bool) : zcAll 33 0 0 ph (c_Integer_rotateLeft ph) := trivial
theorem ok_Integer_rotateLeft (ph : Bool) : zOk y_Integer_rotateLeft (.code y_Integer_rotateLeft prog_36_method_50_code 2 (some .int)) 0 0 ph (X_Integer_rotateLeft ph) := zMd_ok (by decide +kernel) rfl (fun h => by cases h) v_Integer_rotateLeft (k_Integer_rotateLeft ph) (a_Integer_rotateLeft ph)
def y_Sums_lane : MethodName := ⟨"PackingHouse$Sums", "lane", "(II)I"⟩
theorem v_Sums_lane : zTv prog_30_method_7_code 2 6 false t_Sums_lane = true := by decide +kernel
theorem k_Sums_lane (ph : Bool) : zcKey (c_Sums_lane ph) t_Sums_lane = true := by cases ph <;> decide +kernel
theorem f_Sums_lane : zfS y_Sums_lane prog_30_method_7_code 2 (some .int) 2 := ⟨zq2 (q := (5, 23)) rfl, zq2 (q := (5, 22)) rfl, zq2 (q := (1, 6)) rfl, ⟨by decide, by decide⟩, by decide +kernel⟩
theorem a_Sums_lane (ph : Bool) : zcAll 6 1 21 ph (c_Sums_lane ph) := ⟨zkS (o := 6) (i := 34) f_Integer_rotateLeft (by decide) (ok_Integer_rotateLeft ph) (zq2 (q := (5, 24)) rfl), (ok_Integer_rotateLeft ph).1, trivial⟩
theorem ok_Sums_lane (ph : Bool) : zOk y_Sums_lane (.code y_Sums_lane prog_30_method_7_code 2 (some .int)) 1 21 ph (X_Sums_lane ph) := zMd_ok (plainFor_of_name (by decide)) rfl (fun h => by cases h) v_Sums_lane (k_Sums_lane ph) (a_Sums_lane ph)
def y_Sums_mixed : MethodName := ⟨"PackingHouse$Sums", "mixed", "(LPackingHouse$Row;II)J"⟩
theorem v_Sums_mixed : zTv prog_30_method_8_code 9 6 false t_Sums_mixed = true := by decide +kernel
theorem k_Sums_mixed (ph : Bool) : zcKey (c_Sums_mixed ph) t_Sums_mixed = true := by cases ph <;> decide +kernel
theorem f_Sums_mixed : zfS y_Sums_mixed prog_30_method_8_code 9 (some .long) 3 := ⟨zq2 (q := (5, 13)) rfl, zq2 (q := (5, 12)) rfl, zq2 (q := (1, 6)) rfl, ⟨by decide, by decide⟩, by decide +kernel⟩
theorem a_Sums_mixed (ph : Bool) : zcAll 6 2 42 ph (c_Sums_mixed ph) := ⟨zkV (o := 6) (i := 18) f_Row_get (by decide) (ok_Row_get ph) (zq2 (q := (4, 235)) rfl), zvt_m (ok_Row_get ph).1, zkS (o := 6) (i := 34) f_Integer_rotateLeft (by decide) (ok_Integer_rotateLeft ph) (zq2 (q := (5, 24)) rfl), (ok_Integer_rotateLeft ph).1, zkS (o := 6) (i := 43) f_Sums_four (by decide) (ok_Sums_four ph) (zq2 (q := (5, 18)) rfl), (ok_Sums_four ph).1, zkS (o := 6) (i := 47) f_Sums_lane (by decide) (ok_Sums_lane ph) (zq2 (q := (5, 21)) rfl), (ok_Sums_lane ph).1, trivial⟩
theorem ok_Sums_mixed (ph : Bool) : zOk y_Sums_mixed (.code y_Sums_mixed prog_30_method_8_code 9 (some .long)) 2 42 ph (X_Sums_mixed ph) := zMd_ok (plainFor_of_name (by decide)) rfl (fun h => by cases h) v_Sums_mixed (k_Sums_mixed ph) (a_Sums_mixed ph)
def y_House_sum : MethodName := ⟨"PackingHouse", "sum", "(I)J"⟩
theorem v_House_sum : zTv prog_1_method_10_code 2 0 false t_House_sum = true := by decide +kernel
theorem k_House_sum (ph : Bool) : zcKey (c_House_sum ph) t_House_sum = true := by cases ph <;> decide +kernel
theorem f_House_sum : zfV y_House_sum prog_1_method_10_code 2 (some .long) 1 1 := ⟨zq2 (q := (4, 231)) rfl, zq2 (q := (4, 229)) rfl, zq2 (q := (1, 1)) rfl, zq2 (q := (4, 230)) rfl, ⟨by decide, by decide⟩, by decide +kernel⟩
theorem a_House_sum (ph : Bool) : zcAll 0 3 70 ph (c_House_sum ph) := ⟨zkS (o := 0) (i := 204) f_Sums_adler (by decide) (ok_Sums_adler ph) (zq2 (q := (4, 232)) rfl), (ok_Sums_adler ph).1, zkV (o := 0) (i := 208) f_Sums_round (by decide) (ok_Sums_round ph) (zq2 (q := (4, 238)) rfl), zvt_m (ok_Sums_round ph).1, zkV (o := 0) (i := 211) f_Sums_turned (by decide) (ok_Sums_turned ph) (zq2 (q := (5, 3)) rfl), zvt_m (ok_Sums_turned ph).1, zkS (o := 0) (i := 214) f_Sums_mixed (by decide) (ok_Sums_mixed ph) (zq2 (q := (5, 11)) rfl), (ok_Sums_mixed ph).1, trivial⟩
theorem ok_House_sum (ph : Bool) : zOk y_House_sum (.code y_House_sum prog_1_method_10_code 2 (some .long)) 3 70 ph (X_House_sum ph) := zMd_ok (plainFor_of_name (by decide)) rfl (fun h => by cases h) v_House_sum (k_House_sum ph) (a_House_sum ph)
def y_House_stream : MethodName := ⟨"PackingHouse", "stream", "(I)LPackingHouse$Row;"⟩
theorem v_House_stream : zTv prog_1_method_11_code 2 0 false t_House_stream = true := by decide +kernel
theorem k_House_stream (ph : Bool) : zcKey (c_House_stream ph) t_House_stream = true := by cases ph <;> decide +kernel
theorem f_House_stream : zfV y_House_stream prog_1_method_11_code 2 (some (.object "PackingHouse$Row")) 1 1 := ⟨zq2 (q := (5, 38)) rfl, zq2 (q := (5, 37)) rfl, zq2 (q := (1, 1)) rfl, zq2 (q := (101, 1)) rfl, ⟨by decide, by decide⟩, by decide +kernel⟩
theorem a_House_stream (ph : Bool) : zcAll 0 1 25 ph (c_House_stream ph) := ⟨zkS (o := 0) (i := 165) f_House_isIn (by decide) (ok_House_isIn ph) (zq2 (q := (4, 187)) rfl), (ok_House_isIn ph).1, trivial⟩
theorem ok_House_stream (ph : Bool) : zOk y_House_stream (.code y_House_stream prog_1_method_11_code 2 (some (.object "PackingHouse$Row"))) 1 25 ph (X_House_stream ph) := zMd_ok (plainFor_of_name (by decide)) rfl (fun h => by cases h) v_House_stream (k_House_stream ph) (a_House_stream ph)
def y_House_length : MethodName := ⟨"PackingHouse", "length", "(I)I"⟩
theorem v_House_length : zTv prog_1_method_14_code 3 0 false t_House_length = true := by decide +kernel
theorem k_House_length (ph : Bool) : zcKey (c_House_length ph) t_House_length = true := by cases ph <;> decide +kernel
theorem f_House_length : zfV y_House_length prog_1_method_14_code 3 (some .int) 1 1 := ⟨zq2 (q := (5, 34)) rfl, zq2 (q := (5, 32)) rfl, zq2 (q := (1, 1)) rfl, zq2 (q := (5, 33)) rfl, ⟨by decide, by decide⟩, by decide +kernel⟩
theorem a_House_length (ph : Bool) : zcAll 0 2 46 ph (c_House_length ph) := ⟨zkV (o := 0) (i := 225) f_House_stream (by decide) (ok_House_stream ph) (zq2 (q := (5, 35)) rfl), zvt_m (ok_House_stream ph).1, trivial⟩
theorem ok_House_length (ph : Bool) : zOk y_House_length (.code y_House_length prog_1_method_14_code 3 (some .int)) 2 46 ph (X_House_length ph) := zMd_ok (plainFor_of_name (by decide)) rfl (fun h => by cases h) v_House_length (k_House_length ph) (a_House_length ph)
def y_House_at : MethodName := ⟨"PackingHouse", "at", "(II)I"⟩
theorem v_House_at : zTv prog_1_method_15_code 4 0 false t_House_at = true := by decide +kernel
theorem k_House_at (ph : Bool) : zcKey (c_House_at ph) t_House_at = true := by cases ph <;> decide +kernel
theorem f_House_at : zfV y_House_at prog_1_method_15_code 4 (some .int) 1 2 := ⟨zq2 (q := (5, 43)) rfl, zq2 (q := (5, 41)) rfl, zq2 (q := (1, 1)) rfl, zq2 (q := (5, 42)) rfl, ⟨by decide, by decide⟩, by decide +kernel⟩
theorem a_House_at (ph : Bool) : zcAll 0 2 46 ph (c_House_at ph) := ⟨zkS (o := 0) (i := 165) f_House_isIn (by decide) (ok_House_isIn ph) (zq2 (q := (4, 187)) rfl), (ok_House_isIn ph).1, zkV (o := 0) (i := 181) f_Row_get (by decide) (ok_Row_get ph) (zq2 (q := (4, 210)) rfl), zvt_m (ok_Row_get ph).1, zkV (o := 0) (i := 225) f_House_stream (by decide) (ok_House_stream ph) (zq2 (q := (5, 35)) rfl), zvt_m (ok_House_stream ph).1, trivial⟩
theorem ok_House_at (ph : Bool) : zOk y_House_at (.code y_House_at prog_1_method_15_code 4 (some .int)) 2 46 ph (X_House_at ph) := zMd_ok (plainFor_of_name (by decide)) rfl (fun h => by cases h) v_House_at (k_House_at ph) (a_House_at ph)
def y_Row_copy : MethodName := ⟨"PackingHouse$Row", "copy", "(LPackingHouse$Row;)V"⟩
theorem v_Row_copy : zTv prog_23_method_6_code 2 2 false t_Row_copy = true := by decide +kernel
theorem k_Row_copy (ph : Bool) : zcKey (c_Row_copy ph) t_Row_copy = true := by cases ph <;> decide +kernel
theorem f_Row_copy : zfV y_Row_copy prog_23_method_6_code 2 none 2 1 := ⟨zq2 (q := (5, 51)) rfl, zq2 (q := (5, 49)) rfl, zq2 (q := (1, 2)) rfl, zq2 (q := (5, 50)) rfl, ⟨by decide, by decide⟩, by decide +kernel⟩
theorem a_Row_copy (ph : Bool) : zcAll 2 1 60 ph (c_Row_copy ph) := ⟨zck_acopy (o := 2) (i := 21) (by decide) (by decide) (zq2 (q := (5, 52)) rfl) w_acn w_acs w_aci, X_acopy_m, trivial⟩
theorem ok_Row_copy (ph : Bool) : zOk y_Row_copy (.code y_Row_copy prog_23_method_6_code 2 none) 1 60 ph (X_Row_copy ph) := zMd_ok (plainFor_of_name (by decide)) rfl (fun h => by cases h) v_Row_copy (k_Row_copy ph) (a_Row_copy ph)
def y_House_load : MethodName := ⟨"PackingHouse", "load", "(I)I"⟩
theorem v_House_load : zTv prog_1_method_16_code 3 0 false t_House_load = true := by decide +kernel
theorem k_House_load (ph : Bool) : zcKey (c_House_load ph) t_House_load = true := by cases ph <;> decide +kernel
theorem f_House_load : zfV y_House_load prog_1_method_16_code 3 (some .int) 1 1 := ⟨zq2 (q := (5, 47)) rfl, zq2 (q := (5, 45)) rfl, zq2 (q := (1, 1)) rfl, zq2 (q := (5, 46)) rfl, ⟨by decide, by decide⟩, by decide +kernel⟩
theorem a_House_load (ph : Bool) : zcAll 0 2 81 ph (c_House_load ph) := ⟨zkV (o := 0) (i := 221) f_Row_copy (by decide) (ok_Row_copy ph) (zq2 (q := (5, 48)) rfl), zvt_m (ok_Row_copy ph).1, zkV (o := 0) (i := 225) f_House_stream (by decide) (ok_House_stream ph) (zq2 (q := (5, 35)) rfl), zvt_m (ok_House_stream ph).1, trivial⟩
theorem ok_House_load (ph : Bool) : zOk y_House_load (.code y_House_load prog_1_method_16_code 3 (some .int)) 2 81 ph (X_House_load ph) := zMd_ok (plainFor_of_name (by decide)) rfl (fun h => by cases h) v_House_load (k_House_load ph) (a_House_load ph)
def y_House_drop : MethodName := ⟨"PackingHouse", "drop", "(I)I"⟩
theorem v_House_drop : zTv prog_1_method_17_code 3 0 false t_House_drop = true := by decide +kernel
theorem k_House_drop (ph : Bool) : zcKey (c_House_drop ph) t_House_drop = true := by cases ph <;> decide +kernel
theorem f_House_drop : zfV y_House_drop prog_1_method_17_code 3 (some .int) 1 1 := ⟨zq2 (q := (5, 58)) rfl, zq2 (q := (5, 56)) rfl, zq2 (q := (1, 1)) rfl, zq2 (q := (5, 57)) rfl, ⟨by decide, by decide⟩, by decide +kernel⟩
theorem a_House_drop (ph : Bool) : zcAll 0 2 46 ph (c_House_drop ph) := ⟨zkV (o := 0) (i := 225) f_House_stream (by decide) (ok_House_stream ph) (zq2 (q := (5, 35)) rfl), zvt_m (ok_House_stream ph).1, trivial⟩
theorem ok_House_drop (ph : Bool) : zOk y_House_drop (.code y_House_drop prog_1_method_17_code 3 (some .int)) 2 46 ph (X_House_drop ph) := zMd_ok (plainFor_of_name (by decide)) rfl (fun h => by cases h) v_House_drop (k_House_drop ph) (a_House_drop ph)
def y_Math_min0 : MethodName := ⟨"java/lang/Math", "min", "(II)I"⟩
theorem v_Math_min0 : zTv prog_37_method_69_code 2 12 false t_Math_min0 = true := by decide +kernel
theorem k_Math_min0 (ph : Bool) : zcKey (c_Math_min0 ph) t_Math_min0 = true := by cases ph <;> decide +kernel
theorem f_Math_min0 : zfS y_Math_min0 prog_37_method_69_code 2 (some .int) 2 := ⟨zq2 (q := (5, 65)) rfl, zq2 (q := (5, 64)) rfl, zq2 (q := (1, 12)) rfl, ⟨by decide, by decide⟩, by decide +kernel⟩
theorem a_Math_min0 (ph : Bool) : zcAll 12 0 0 ph (c_Math_min0 ph) := trivial
theorem ok_Math_min0 (ph : Bool) : zOk y_Math_min0 (.code y_Math_min0 prog_37_method_69_code 2 (some .int)) 0 0 ph (X_Math_min0 ph) := zMd_ok (by decide +kernel) rfl (fun h => by cases h) v_Math_min0 (k_Math_min0 ph) (a_Math_min0 ph)
def y_House_differ : MethodName := ⟨"PackingHouse", "diffe\x72", "(II)I"⟩
theorem v_House_differ : zTv prog_1_method_18_code 7 0 false t_House_differ = true := by decide +kernel
theorem k_House_differ (ph : Bool) : zcKey (c_House_differ ph) t_House_differ = true := by cases ph <;> decide +kernel
theorem f_House_differ : zfV y_House_differ prog_1_method_18_code 7 (some .int) 1 2 := ⟨zq2 (q := (5, 62)) rfl, zq2 (q := (5, 60)) rfl, zq2 (q := (1, 1)) rfl, zq2 (q := (5, 61)) rfl, ⟨by decide, by decide⟩, by decide +kernel⟩
theorem a_House_differ (ph : Bool) : zcAll 0 2 46 ph (c_House_differ ph) := ⟨zkV (o := 0) (i := 181) f_Row_get (by decide) (ok_Row_get ph) (zq2 (q := (4, 210)) rfl), zvt_m (ok_Row_get ph).1, zkV (o := 0) (i := 225) f_House_stream (by decide) (ok_House_stream ph) (zq2 (q := (5, 35)) rfl), zvt_m (ok_House_stream ph).1, zkS (o := 0) (i := 229) f_Math_min0 (by decide) (ok_Math_min0 ph) (zq2 (q := (5, 63)) rfl), (ok_Math_min0 ph).1, trivial⟩
theorem ok_House_differ (ph : Bool) : zOk y_House_differ (.code y_House_differ prog_1_method_18_code 7 (some .int)) 2 46 ph (X_House_differ ph) := zMd_ok (plainFor_of_name (by decide)) rfl (fun h => by cases h) v_House_differ (k_House_differ ph) (a_House_differ ph)
def y_House_hasLevels : MethodName := ⟨"PackingHouse", "hasLevels", "(I)Z"⟩
theorem v_House_hasLevels : zTv prog_1_method_19_code 1 0 false t_House_hasLevels = true := by decide +kernel
theorem k_House_hasLevels (ph : Bool) : zcKey (c_House_hasLevels ph) t_House_hasLevels = true := by cases ph <;> decide +kernel
theorem f_House_hasLevels : zfS y_House_hasLevels prog_1_method_19_code 1 (some .boolean) 1 := ⟨zq2 (q := (5, 73)) rfl, zq2 (q := (5, 72)) rfl, zq2 (q := (1, 1)) rfl, ⟨by decide, by decide⟩, by decide +kernel⟩
theorem a_House_hasLevels (ph : Bool) : zcAll 0 0 0 ph (c_House_hasLevels ph) := trivial
theorem ok_House_hasLevels (ph : Bool) : zOk y_House_hasLevels (.code y_House_hasLevels prog_1_method_19_code 1 (some .boolean)) 0 0 ph (X_House_hasLevels ph) := zMd_ok (plainFor_of_name (by decide)) rfl (fun h => by cases h) v_House_hasLevels (k_House_hasLevels ph) (a_House_hasLevels ph)
def y_House_spare : MethodName := ⟨"PackingHouse", "spare", "()I"⟩
theorem v_House_spare : zTv prog_1_method_12_code 2 0 false t_House_spare = true := by decide +kernel
theorem k_House_spare (ph : Bool) : zcKey (c_House_spare ph) t_House_spare = true := by cases ph <;> decide +kernel
theorem f_House_spare : zfV y_House_spare prog_1_method_12_code 2 (some .int) 1 0 := ⟨zq2 (q := (5, 78)) rfl, zq2 (q := (5, 77)) rfl, zq2 (q := (1, 1)) rfl, zq2 (q := (101, 2)) rfl, ⟨by decide, by decide⟩, by decide +kernel⟩
theorem a_House_spare (ph : Bool) : zcAll 0 0 0 ph (c_House_spare ph) := trivial
theorem ok_House_spare (ph : Bool) : zOk y_House_spare (.code y_House_spare prog_1_method_12_code 2 (some .int)) 0 0 ph (X_House_spare ph) := zMd_ok (plainFor_of_name (by decide)) rfl (fun h => by cases h) v_House_spare (k_House_spare ph) (a_House_spare ph)
def y_Bits_begin : MethodName := ⟨"PackingHouse$Bits", "begin", "(LPackingHouse$Row;)V"⟩
theorem v_Bits_begin : zTv prog_3_method_2_code 2 5 false t_Bits_begin = true := by decide +kernel
theorem k_Bits_begin (ph : Bool) : zcKey (c_Bits_begin ph) t_Bits_begin = true := by cases ph <;> decide +kernel
theorem f_Bits_begin : zfV y_Bits_begin prog_3_method_2_code 2 none 5 1 := ⟨zq2 (q := (5, 88)) rfl, zq2 (q := (5, 86)) rfl, zq2 (q := (1, 5)) rfl, zq2 (q := (5, 87)) rfl, ⟨by decide, by decide⟩, by decide +kernel⟩
theorem a_Bits_begin (ph : Bool) : zcAll 5 0 0 ph (c_Bits_begin ph) := trivial
theorem ok_Bits_begin (ph : Bool) : zOk y_Bits_begin (.code y_Bits_begin prog_3_method_2_code 2 none) 0 0 ph (X_Bits_begin ph) := zMd_ok (plainFor_of_name (by decide)) rfl (fun h => by cases h) v_Bits_begin (k_Bits_begin ph) (a_Bits_begin ph)
def y_Matches_number : MethodName := ⟨"PackingHouse$Matches", "numbe\x72", "(I)I"⟩
theorem v_Matches_number : zTv prog_16_method_2_code 2 8 false t_Matches_number = true := by decide +kernel
theorem k_Matches_number (ph : Bool) : zcKey (c_Matches_number ph) t_Matches_number = true := by cases ph <;> decide +kernel
theorem f_Matches_number : zfV y_Matches_number prog_16_method_2_code 2 (some .int) 8 1 := ⟨zq2 (q := (5, 100)) rfl, zq2 (q := (5, 99)) rfl, zq2 (q := (1, 8)) rfl, zq2 (q := (101, 3)) rfl, ⟨by decide, by decide⟩, by decide +kernel⟩
theorem a_Matches_number (ph : Bool) : zcAll 8 1 21 ph (c_Matches_number ph) := ⟨zkV (o := 8) (i := 22) f_Row_get (by decide) (ok_Row_get ph) (zq2 (q := (5, 101)) rfl), zvt_m (ok_Row_get ph).1, trivial⟩
theorem ok_Matches_number (ph : Bool) : zOk y_Matches_number (.code y_Matches_number prog_16_method_2_code 2 (some .int)) 1 21 ph (X_Matches_number ph) := zMd_ok (plainFor_of_name (by decide)) rfl (fun h => by cases h) v_Matches_number (k_Matches_number ph) (a_Matches_number ph)
def y_Matches_begin : MethodName := ⟨"PackingHouse$Matches", "begin", "(LPackingHouse$Row;)V"⟩
theorem v_Matches_begin : zTv prog_16_method_3_code 4 8 false t_Matches_begin = true := by decide +kernel
theorem k_Matches_begin (ph : Bool) : zcKey (c_Matches_begin ph) t_Matches_begin = true := by cases ph <;> decide +kernel
theorem f_Matches_begin : zfV y_Matches_begin prog_16_method_3_code 4 none 8 1 := ⟨zq2 (q := (5, 96)) rfl, zq2 (q := (5, 94)) rfl, zq2 (q := (1, 8)) rfl, zq2 (q := (5, 95)) rfl, ⟨by decide, by decide⟩, by decide +kernel⟩
theorem a_Matches_begin (ph : Bool) : zcAll 8 2 42 ph (c_Matches_begin ph) := ⟨zkV (o := 8) (i := 33) f_Matches_number (by decide) (ok_Matches_number ph) (zq2 (q := (5, 97)) rfl), zvt_m (ok_Matches_number ph).1, trivial⟩
theorem ok_Matches_begin (ph : Bool) : zOk y_Matches_begin (.code y_Matches_begin prog_16_method_3_code 4 none) 2 42 ph (X_Matches_begin ph) := zMd_ok (plainFor_of_name (by decide)) rfl (fun h => by cases h) v_Matches_begin (k_Matches_begin ph) (a_Matches_begin ph)
def y_Parse_begin : MethodName := ⟨"PackingHouse$Parse", "begin", "(LPackingHouse$Row;)V"⟩
theorem v_Parse_begin : zTv prog_20_method_2_code 2 7 false t_Parse_begin = true := by decide +kernel
theorem k_Parse_begin (ph : Bool) : zcKey (c_Parse_begin ph) t_Parse_begin = true := by cases ph <;> decide +kernel
theorem f_Parse_begin : zfV y_Parse_begin prog_20_method_2_code 2 none 7 1 := ⟨zq2 (q := (5, 92)) rfl, zq2 (q := (5, 90)) rfl, zq2 (q := (1, 7)) rfl, zq2 (q := (5, 91)) rfl, ⟨by decide, by decide⟩, by decide +kernel⟩
theorem a_Parse_begin (ph : Bool) : zcAll 7 3 65 ph (c_Parse_begin ph) := ⟨zkV (o := 7) (i := 44) f_Matches_begin (by decide) (ok_Matches_begin ph) (zq2 (q := (5, 93)) rfl), zvt_m (ok_Matches_begin ph).1, trivial⟩
theorem ok_Parse_begin (ph : Bool) : zOk y_Parse_begin (.code y_Parse_begin prog_20_method_2_code 2 none) 3 65 ph (X_Parse_begin ph) := zMd_ok (plainFor_of_name (by decide)) rfl (fun h => by cases h) v_Parse_begin (k_Parse_begin ph) (a_Parse_begin ph)
def y_Bits_octet : MethodName := ⟨"PackingHouse$Bits", "octet", "()V"⟩
theorem v_Bits_octet : zTv prog_3_method_3_code 1 5 false t_Bits_octet = true := by decide +kernel
theorem k_Bits_octet (ph : Bool) : zcKey (c_Bits_octet ph) t_Bits_octet = true := by cases ph <;> decide +kernel
theorem f_Bits_octet : zfV y_Bits_octet prog_3_method_3_code 1 none 5 0 := ⟨zq2 (q := (5, 116)) rfl, zq2 (q := (5, 115)) rfl, zq2 (q := (1, 5)) rfl, zq2 (q := (101, 4)) rfl, ⟨by decide, by decide⟩, by decide +kernel⟩
theorem a_Bits_octet (ph : Bool) : zcAll 5 1 21 ph (c_Bits_octet ph) := ⟨zkV (o := 5) (i := 23) f_Row_add (by decide) (ok_Row_add ph) (zq2 (q := (5, 117)) rfl), zvt_m (ok_Row_add ph).1, trivial⟩
theorem ok_Bits_octet (ph : Bool) : zOk y_Bits_octet (.code y_Bits_octet prog_3_method_3_code 1 none) 1 21 ph (X_Bits_octet ph) := zMd_ok (plainFor_of_name (by decide)) rfl (fun h => by cases h) v_Bits_octet (k_Bits_octet ph) (a_Bits_octet ph)
def y_Bits_low : MethodName := ⟨"PackingHouse$Bits", "low", "(II)V"⟩
theorem v_Bits_low : zTv prog_3_method_4_code 4 5 false t_Bits_low = true := by decide +kernel
theorem k_Bits_low (ph : Bool) : zcKey (c_Bits_low ph) t_Bits_low = true := by cases ph <;> decide +kernel
theorem f_Bits_low : zfV y_Bits_low prog_3_method_4_code 4 none 5 2 := ⟨zq2 (q := (5, 112)) rfl, zq2 (q := (5, 110)) rfl, zq2 (q := (1, 5)) rfl, zq2 (q := (5, 111)) rfl, ⟨by decide, by decide⟩, by decide +kernel⟩
theorem a_Bits_low (ph : Bool) : zcAll 5 2 41 ph (c_Bits_low ph) := ⟨zkV (o := 5) (i := 29) f_Bits_octet (by decide) (ok_Bits_octet ph) (zq2 (q := (5, 113)) rfl), zvt_m (ok_Bits_octet ph).1, trivial⟩
theorem ok_Bits_low (ph : Bool) : zOk y_Bits_low (.code y_Bits_low prog_3_method_4_code 4 none) 2 41 ph (X_Bits_low ph) := zMd_ok (plainFor_of_name (by decide)) rfl (fun h => by cases h) v_Bits_low (k_Bits_low ph) (a_Bits_low ph)
def y_Bits_fill : MethodName := ⟨"PackingHouse$Bits", "fill", "()V"⟩
theorem v_Bits_fill : zTv prog_3_method_7_code 1 5 false t_Bits_fill = true := by decide +kernel
theorem k_Bits_fill (ph : Bool) : zcKey (c_Bits_fill ph) t_Bits_fill = true := by cases ph <;> decide +kernel
theorem f_Bits_fill : zfV y_Bits_fill prog_3_method_7_code 1 none 5 0 := ⟨zq2 (q := (5, 121)) rfl, zq2 (q := (5, 119)) rfl, zq2 (q := (1, 5)) rfl, zq2 (q := (5, 120)) rfl, ⟨by decide, by decide⟩, by decide +kernel⟩
theorem a_Bits_fill (ph : Bool) : zcAll 5 2 41 ph (c_Bits_fill ph) := ⟨zkV (o := 5) (i := 29) f_Bits_octet (by decide) (ok_Bits_octet ph) (zq2 (q := (5, 113)) rfl), zvt_m (ok_Bits_octet ph).1, trivial⟩
theorem ok_Bits_fill (ph : Bool) : zOk y_Bits_fill (.code y_Bits_fill prog_3_method_7_code 1 none) 2 41 ph (X_Bits_fill ph) := zMd_ok (plainFor_of_name (by decide)) rfl (fun h => by cases h) v_Bits_fill (k_Bits_fill ph) (a_Bits_fill ph)
def y_Blocks_stored : MethodName := ⟨"PackingHouse$Blocks", "stored", "(LPackingHouse$Bits;LPackingHouse$Row;IIZ)V"⟩
theorem v_Blocks_stored : zTv prog_5_method_9_code 6 9 false t_Blocks_stored = true := by decide +kernel
theorem k_Blocks_stored (ph : Bool) : zcKey (c_Blocks_stored ph) t_Blocks_stored = true := by cases ph <;> decide +kernel
theorem f_Blocks_stored : zfS y_Blocks_stored prog_5_method_9_code 6 none 5 := ⟨zq2 (q := (5, 108)) rfl, zq2 (q := (5, 107)) rfl, zq2 (q := (1, 10)) rfl, ⟨by decide, by decide⟩, by decide +kernel⟩
theorem a_Blocks_stored (ph : Bool) : zcAll 9 3 64 ph (c_Blocks_stored ph) := ⟨zkV (o := 9) (i := 78) f_Bits_low (by decide) (ok_Bits_low ph) (zq2 (q := (5, 109)) rfl), zvt_m (ok_Bits_low ph).1, zkV (o := 9) (i := 84) f_Bits_fill (by decide) (ok_Bits_fill ph) (zq2 (q := (5, 118)) rfl), zvt_m (ok_Bits_fill ph).1, zkV (o := 9) (i := 88) f_Row_get (by decide) (ok_Row_get ph) (zq2 (q := (5, 123)) rfl), zvt_m (ok_Row_get ph).1, trivial⟩
theorem ok_Blocks_stored (ph : Bool) : zOk y_Blocks_stored (.code y_Blocks_stored prog_5_method_9_code 6 none) 3 64 ph (X_Blocks_stored ph) := zMd_ok (plainFor_of_name (by decide)) rfl (fun h => by cases h) v_Blocks_stored (k_Blocks_stored ph) (a_Blocks_stored ph)

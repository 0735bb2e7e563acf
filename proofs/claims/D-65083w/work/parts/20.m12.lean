/-! printed by gen_all.py -/
def y_House_shared : MethodName := ⟨"PackingHouse", "shared", "(II)I"⟩
theorem v_House_shared : zTv prog_1_method_46_code 5 0 false t_House_shared = true := by decide +kernel
theorem k_House_shared (ph : Bool) : zcKey (c_House_shared ph) t_House_shared = true := by cases ph <;> decide +kernel
theorem f_House_shared : zfV y_House_shared prog_1_method_46_code 5 (some .int) 1 2 := ⟨zq2 (q := (10, 66)) rfl, zq2 (q := (10, 64)) rfl, zq2 (q := (1, 1)) rfl, zq2 (q := (10, 65)) rfl, ⟨by decide, by decide⟩, by decide +kernel⟩
theorem a_House_shared (ph : Bool) : zcAll 0 1 24 ph (c_House_shared ph) := ⟨zkV (o := 0) (i := 396) f_Store_find (by decide) (ok_Store_find ph) (zq2 (q := (10, 51)) rfl), zvt_m (ok_Store_find ph).1, zkV (o := 0) (i := 414) f_Store_shared (by decide) (ok_Store_shared ph) (zq2 (q := (10, 67)) rfl), zvt_m (ok_Store_shared ph).1, trivial⟩
theorem ok_House_shared (ph : Bool) : zOk y_House_shared (.code y_House_shared prog_1_method_46_code 5 (some .int)) 1 24 ph (X_House_shared ph) := zMd_ok (plainFor_of_name (by decide)) rfl (fun h => by cases h) v_House_shared (k_House_shared ph) (a_House_shared ph)
def y_House_store : MethodName := ⟨"PackingHouse", "store", "(I)I"⟩
theorem v_House_store : zTv prog_1_method_47_code 2 0 false t_House_store = true := by decide +kernel
theorem k_House_store (ph : Bool) : zcKey (c_House_store ph) t_House_store = true := by cases ph <;> decide +kernel
theorem f_House_store : zfV y_House_store prog_1_method_47_code 2 (some .int) 1 1 := ⟨zq2 (q := (10, 74)) rfl, zq2 (q := (10, 72)) rfl, zq2 (q := (1, 1)) rfl, zq2 (q := (10, 73)) rfl, ⟨by decide, by decide⟩, by decide +kernel⟩
theorem a_House_store (ph : Bool) : zcAll 0 0 0 ph (c_House_store ph) := trivial
theorem ok_House_store (ph : Bool) : zOk y_House_store (.code y_House_store prog_1_method_47_code 2 (some .int)) 0 0 ph (X_House_store ph) := zMd_ok (plainFor_of_name (by decide)) rfl (fun h => by cases h) v_House_store (k_House_store ph) (a_House_store ph)
def y_Model_init : MethodName := ⟨"PackingHouseModel", "<init>", "()V"⟩
theorem v_Model_init_0 : zTv prog_34_method_1_code 5 42 true ((t_Model_init.drop 0).take 16) = true := by decide +kernel
theorem v_Model_init_1 : zTv prog_34_method_1_code 5 42 true ((t_Model_init.drop 16).take 16) = true := by decide +kernel
theorem v_Model_init_2 : zTv prog_34_method_1_code 5 42 true ((t_Model_init.drop 32).take 16) = true := by decide +kernel
theorem v_Model_init_3 : zTv prog_34_method_1_code 5 42 true ((t_Model_init.drop 48).take 16) = true := by decide +kernel
theorem v_Model_init_4 : zTv prog_34_method_1_code 5 42 true ((t_Model_init.drop 64).take 16) = true := by decide +kernel
theorem v_Model_init_5 : zTv prog_34_method_1_code 5 42 true ((t_Model_init.drop 80).take 16) = true := by decide +kernel
theorem v_Model_init_6 : zTv prog_34_method_1_code 5 42 true (t_Model_init.drop 96) = true := by decide +kernel
theorem v_Model_init : zTv prog_34_method_1_code 5 42 true t_Model_init = true := zTv_0 (t := t_Model_init) (zTv_cut (t := t_Model_init) (k := 0) (C := 16) v_Model_init_0 (zTv_cut (t := t_Model_init) (k := 16) (C := 16) v_Model_init_1 (zTv_cut (t := t_Model_init) (k := 32) (C := 16) v_Model_init_2 (zTv_cut (t := t_Model_init) (k := 48) (C := 16) v_Model_init_3 (zTv_cut (t := t_Model_init) (k := 64) (C := 16) v_Model_init_4 (zTv_cut (t := t_Model_init) (k := 80) (C := 16) v_Model_init_5 (v_Model_init_6)))))))
theorem k_Model_init (ph : Bool) : zcKey (c_Model_init ph) t_Model_init = true := by cases ph <;> decide +kernel
theorem f_Model_init : zfI y_Model_init prog_34_method_1_code 5 0 := ⟨zq2 (q := (10, 79)) rfl, zq2 (q := (10, 78)) rfl, zq2 (q := (1, 33)) rfl, ⟨by decide, by decide⟩, rfl, by decide +kernel⟩
theorem a_Model_init (ph : Bool) : zcAll 42 1 20 ph (c_Model_init ph) := ⟨zck_obj (o := 42) (i := 1) (by decide) (by decide) (zq2 (q := (10, 80)) rfl) w_obj1 w_obj2, X_objInit_m, trivial⟩
theorem ok_Model_init (ph : Bool) : zOk y_Model_init (.code y_Model_init prog_34_method_1_code 5 none) 1 20 ph (X_Model_init ph) := zMd_ok (plainFor_of_name (by decide)) rfl (fun _ => rfl) v_Model_init (k_Model_init ph) (a_Model_init ph)
def y_Model_in : MethodName := ⟨"PackingHouseModel", "in", "(III)Z"⟩
theorem v_Model_in : zTv prog_34_method_3_code 3 42 false t_Model_in = true := by decide +kernel
theorem k_Model_in (ph : Bool) : zcKey (c_Model_in ph) t_Model_in = true := by cases ph <;> decide +kernel
theorem f_Model_in : zfS y_Model_in prog_34_method_3_code 3 (some .boolean) 3 := ⟨zq2 (q := (12, 14)) rfl, zq2 (q := (12, 13)) rfl, zq2 (q := (1, 33)) rfl, ⟨by decide, by decide⟩, by decide +kernel⟩
theorem a_Model_in (ph : Bool) : zcAll 42 0 0 ph (c_Model_in ph) := trivial
theorem ok_Model_in (ph : Bool) : zOk y_Model_in (.code y_Model_in prog_34_method_3_code 3 (some .boolean)) 0 0 ph (X_Model_in ph) := zMd_ok (plainFor_of_name (by decide)) rfl (fun h => by cases h) v_Model_in (k_Model_in ph) (a_Model_in ph)
def y_Model_feed : MethodName := ⟨"PackingHouseModel", "feed", "(JI)I"⟩
theorem v_Model_feed : zTv prog_34_method_11_code 5 42 false t_Model_feed = true := by decide +kernel
theorem k_Model_feed (ph : Bool) : zcKey (c_Model_feed ph) t_Model_feed = true := by cases ph <;> decide +kernel
theorem f_Model_feed : zfV y_Model_feed prog_34_method_11_code 5 (some .int) 31 2 := ⟨zq2 (q := (12, 11)) rfl, zq2 (q := (12, 9)) rfl, zq2 (q := (1, 33)) rfl, zq2 (q := (12, 10)) rfl, ⟨by decide, by decide⟩, by decide +kernel⟩
theorem a_Model_feed (ph : Bool) : zcAll 42 1 22 ph (c_Model_feed ph) := ⟨zkS (o := 42) (i := 304) f_Model_in (by decide) (ok_Model_in ph) (zq2 (q := (12, 12)) rfl), (ok_Model_in ph).1, trivial⟩
theorem ok_Model_feed (ph : Bool) : zOk y_Model_feed (.code y_Model_feed prog_34_method_11_code 5 (some .int)) 1 22 ph (X_Model_feed ph) := zMd_ok (plainFor_of_name (by decide)) rfl (fun h => by cases h) v_Model_feed (k_Model_feed ph) (a_Model_feed ph)
def y_Model_fill : MethodName := ⟨"PackingHouseModel", "fill", "(III)I"⟩
theorem v_Model_fill : zTv prog_34_method_12_code 8 42 false t_Model_fill = true := by decide +kernel
theorem k_Model_fill (ph : Bool) : zcKey (c_Model_fill ph) t_Model_fill = true := by cases ph <;> decide +kernel
theorem f_Model_fill : zfV y_Model_fill prog_34_method_12_code 8 (some .int) 31 3 := ⟨zq2 (q := (12, 18)) rfl, zq2 (q := (12, 16)) rfl, zq2 (q := (1, 33)) rfl, zq2 (q := (12, 17)) rfl, ⟨by decide, by decide⟩, by decide +kernel⟩
theorem a_Model_fill (ph : Bool) : zcAll 42 1 22 ph (c_Model_fill ph) := ⟨zkS (o := 42) (i := 304) f_Model_in (by decide) (ok_Model_in ph) (zq2 (q := (12, 12)) rfl), (ok_Model_in ph).1, trivial⟩
theorem ok_Model_fill (ph : Bool) : zOk y_Model_fill (.code y_Model_fill prog_34_method_12_code 8 (some .int)) 1 22 ph (X_Model_fill ph) := zMd_ok (plainFor_of_name (by decide)) rfl (fun h => by cases h) v_Model_fill (k_Model_fill ph) (a_Model_fill ph)
def y_Model_cut : MethodName := ⟨"PackingHouseModel", "cut", "(I)I"⟩
theorem v_Model_cut : zTv prog_34_method_13_code 3 42 false t_Model_cut = true := by decide +kernel
theorem k_Model_cut (ph : Bool) : zcKey (c_Model_cut ph) t_Model_cut = true := by cases ph <;> decide +kernel
theorem f_Model_cut : zfV y_Model_cut prog_34_method_13_code 3 (some .int) 31 1 := ⟨zq2 (q := (12, 24)) rfl, zq2 (q := (12, 22)) rfl, zq2 (q := (1, 33)) rfl, zq2 (q := (12, 23)) rfl, ⟨by decide, by decide⟩, by decide +kernel⟩
theorem a_Model_cut (ph : Bool) : zcAll 42 0 0 ph (c_Model_cut ph) := trivial
theorem ok_Model_cut (ph : Bool) : zOk y_Model_cut (.code y_Model_cut prog_34_method_13_code 3 (some .int)) 0 0 ph (X_Model_cut ph) := zMd_ok (plainFor_of_name (by decide)) rfl (fun h => by cases h) v_Model_cut (k_Model_cut ph) (a_Model_cut ph)
def y_Model_alter : MethodName := ⟨"PackingHouseModel", "alte\x72", "(II)I"⟩
theorem v_Model_alter : zTv prog_34_method_14_code 4 42 false t_Model_alter = true := by decide +kernel
theorem k_Model_alter (ph : Bool) : zcKey (c_Model_alter ph) t_Model_alter = true := by cases ph <;> decide +kernel
theorem f_Model_alter : zfV y_Model_alter prog_34_method_14_code 4 (some .int) 31 2 := ⟨zq2 (q := (12, 28)) rfl, zq2 (q := (12, 26)) rfl, zq2 (q := (1, 33)) rfl, zq2 (q := (12, 27)) rfl, ⟨by decide, by decide⟩, by decide +kernel⟩
theorem a_Model_alter (ph : Bool) : zcAll 42 1 22 ph (c_Model_alter ph) := ⟨zkS (o := 42) (i := 304) f_Model_in (by decide) (ok_Model_in ph) (zq2 (q := (12, 12)) rfl), (ok_Model_in ph).1, trivial⟩
theorem ok_Model_alter (ph : Bool) : zOk y_Model_alter (.code y_Model_alter prog_34_method_14_code 4 (some .int)) 1 22 ph (X_Model_alter ph) := zMd_ok (plainFor_of_name (by decide)) rfl (fun h => by cases h) v_Model_alter (k_Model_alter ph) (a_Model_alter ph)
def y_Model_octet : MethodName := ⟨"PackingHouseModel", "octet", "(I)I"⟩
theorem v_Model_octet : zTv prog_34_method_15_code 2 42 false t_Model_octet = true := by decide +kernel
theorem k_Model_octet (ph : Bool) : zcKey (c_Model_octet ph) t_Model_octet = true := by cases ph <;> decide +kernel
theorem f_Model_octet : zfV y_Model_octet prog_34_method_15_code 2 (some .int) 31 1 := ⟨zq2 (q := (12, 32)) rfl, zq2 (q := (12, 30)) rfl, zq2 (q := (1, 33)) rfl, zq2 (q := (12, 31)) rfl, ⟨by decide, by decide⟩, by decide +kernel⟩
theorem a_Model_octet (ph : Bool) : zcAll 42 0 0 ph (c_Model_octet ph) := trivial
theorem ok_Model_octet (ph : Bool) : zOk y_Model_octet (.code y_Model_octet prog_34_method_15_code 2 (some .int)) 0 0 ph (X_Model_octet ph) := zMd_ok (plainFor_of_name (by decide)) rfl (fun h => by cases h) v_Model_octet (k_Model_octet ph) (a_Model_octet ph)
def y_Model_adler : MethodName := ⟨"PackingHouseModel", "adle\x72", "([BII)J"⟩
theorem v_Model_adler : zTv prog_34_method_4_code 6 42 false t_Model_adler = true := by decide +kernel
theorem k_Model_adler (ph : Bool) : zcKey (c_Model_adler ph) t_Model_adler = true := by cases ph <;> decide +kernel
theorem f_Model_adler : zfS y_Model_adler prog_34_method_4_code 6 (some .long) 3 := ⟨zq2 (q := (12, 39)) rfl, zq2 (q := (12, 38)) rfl, zq2 (q := (1, 33)) rfl, ⟨by decide, by decide⟩, by decide +kernel⟩
theorem a_Model_adler (ph : Bool) : zcAll 42 0 0 ph (c_Model_adler ph) := trivial
theorem ok_Model_adler (ph : Bool) : zOk y_Model_adler (.code y_Model_adler prog_34_method_4_code 6 (some .long)) 0 0 ph (X_Model_adler ph) := zMd_ok (plainFor_of_name (by decide)) rfl (fun h => by cases h) v_Model_adler (k_Model_adler ph) (a_Model_adler ph)
def y_Model_round : MethodName := ⟨"PackingHouseModel", "round", "([BII)I"⟩
theorem v_Model_round : zTv prog_34_method_5_code 6 42 false t_Model_round = true := by decide +kernel
theorem k_Model_round (ph : Bool) : zcKey (c_Model_round ph) t_Model_round = true := by cases ph <;> decide +kernel
theorem f_Model_round : zfV y_Model_round prog_34_method_5_code 6 (some .int) 31 3 := ⟨zq2 (q := (12, 45)) rfl, zq2 (q := (12, 44)) rfl, zq2 (q := (1, 33)) rfl, zq2 (q := (105, 10)) rfl, ⟨by decide, by decide⟩, by decide +kernel⟩
theorem a_Model_round (ph : Bool) : zcAll 42 0 0 ph (c_Model_round ph) := trivial
theorem ok_Model_round (ph : Bool) : zOk y_Model_round (.code y_Model_round prog_34_method_5_code 6 (some .int)) 0 0 ph (X_Model_round ph) := zMd_ok (plainFor_of_name (by decide)) rfl (fun h => by cases h) v_Model_round (k_Model_round ph) (a_Model_round ph)
def y_Model_turned : MethodName := ⟨"PackingHouseModel", "turned", "([BII)I"⟩
theorem v_Model_turned : zTv prog_34_method_6_code 6 42 false t_Model_turned = true := by decide +kernel
theorem k_Model_turned (ph : Bool) : zcKey (c_Model_turned ph) t_Model_turned = true := by cases ph <;> decide +kernel
theorem f_Model_turned : zfV y_Model_turned prog_34_method_6_code 6 (some .int) 31 3 := ⟨zq2 (q := (12, 50)) rfl, zq2 (q := (12, 49)) rfl, zq2 (q := (1, 33)) rfl, zq2 (q := (105, 11)) rfl, ⟨by decide, by decide⟩, by decide +kernel⟩
theorem a_Model_turned (ph : Bool) : zcAll 42 0 0 ph (c_Model_turned ph) := trivial
theorem ok_Model_turned (ph : Bool) : zOk y_Model_turned (.code y_Model_turned prog_34_method_6_code 6 (some .int)) 0 0 ph (X_Model_turned ph) := zMd_ok (plainFor_of_name (by decide)) rfl (fun h => by cases h) v_Model_turned (k_Model_turned ph) (a_Model_turned ph)
def y_Model_four : MethodName := ⟨"PackingHouseModel", "fou\x72", "([BI)I"⟩
theorem v_Model_four : zTv prog_34_method_8_code 2 42 false t_Model_four = true := by decide +kernel
theorem k_Model_four (ph : Bool) : zcKey (c_Model_four ph) t_Model_four = true := by cases ph <;> decide +kernel
theorem f_Model_four : zfS y_Model_four prog_34_method_8_code 2 (some .int) 2 := ⟨zq2 (q := (12, 60)) rfl, zq2 (q := (12, 59)) rfl, zq2 (q := (1, 33)) rfl, ⟨by decide, by decide⟩, by decide +kernel⟩
theorem a_Model_four (ph : Bool) : zcAll 42 0 0 ph (c_Model_four ph) := trivial
theorem ok_Model_four (ph : Bool) : zOk y_Model_four (.code y_Model_four prog_34_method_8_code 2 (some .int)) 0 0 ph (X_Model_four ph) := zMd_ok (plainFor_of_name (by decide)) rfl (fun h => by cases h) v_Model_four (k_Model_four ph) (a_Model_four ph)
def y_Model_rotated : MethodName := ⟨"PackingHouseModel", "rotated", "(II)I"⟩
theorem v_Model_rotated : zTv prog_34_method_7_code 2 42 false t_Model_rotated = true := by decide +kernel
theorem k_Model_rotated (ph : Bool) : zcKey (c_Model_rotated ph) t_Model_rotated = true := by cases ph <;> decide +kernel
theorem f_Model_rotated : zfS y_Model_rotated prog_34_method_7_code 2 (some .int) 2 := ⟨zq2 (q := (12, 66)) rfl, zq2 (q := (12, 65)) rfl, zq2 (q := (1, 33)) rfl, ⟨by decide, by decide⟩, by decide +kernel⟩
theorem a_Model_rotated (ph : Bool) : zcAll 42 0 0 ph (c_Model_rotated ph) := trivial
theorem ok_Model_rotated (ph : Bool) : zOk y_Model_rotated (.code y_Model_rotated prog_34_method_7_code 2 (some .int)) 0 0 ph (X_Model_rotated ph) := zMd_ok (plainFor_of_name (by decide)) rfl (fun h => by cases h) v_Model_rotated (k_Model_rotated ph) (a_Model_rotated ph)
def y_Model_lane : MethodName := ⟨"PackingHouseModel", "lane", "(II)I"⟩
theorem v_Model_lane : zTv prog_34_method_9_code 2 42 false t_Model_lane = true := by decide +kernel
theorem k_Model_lane (ph : Bool) : zcKey (c_Model_lane ph) t_Model_lane = true := by cases ph <;> decide +kernel
theorem f_Model_lane : zfS y_Model_lane prog_34_method_9_code 2 (some .int) 2 := ⟨zq2 (q := (12, 63)) rfl, zq2 (q := (12, 62)) rfl, zq2 (q := (1, 33)) rfl, ⟨by decide, by decide⟩, by decide +kernel⟩
theorem a_Model_lane (ph : Bool) : zcAll 42 1 21 ph (c_Model_lane ph) := ⟨zkS (o := 42) (i := 287) f_Model_rotated (by decide) (ok_Model_rotated ph) (zq2 (q := (12, 64)) rfl), (ok_Model_rotated ph).1, trivial⟩
theorem ok_Model_lane (ph : Bool) : zOk y_Model_lane (.code y_Model_lane prog_34_method_9_code 2 (some .int)) 1 21 ph (X_Model_lane ph) := zMd_ok (plainFor_of_name (by decide)) rfl (fun h => by cases h) v_Model_lane (k_Model_lane ph) (a_Model_lane ph)
def y_Model_mixed : MethodName := ⟨"PackingHouseModel", "mixed", "([BII)I"⟩
theorem v_Model_mixed : zTv prog_34_method_10_code 9 42 false t_Model_mixed = true := by decide +kernel
theorem k_Model_mixed (ph : Bool) : zcKey (c_Model_mixed ph) t_Model_mixed = true := by cases ph <;> decide +kernel
theorem f_Model_mixed : zfS y_Model_mixed prog_34_method_10_code 9 (some .int) 3 := ⟨zq2 (q := (12, 53)) rfl, zq2 (q := (12, 52)) rfl, zq2 (q := (1, 33)) rfl, ⟨by decide, by decide⟩, by decide +kernel⟩
theorem a_Model_mixed (ph : Bool) : zcAll 42 2 42 ph (c_Model_mixed ph) := ⟨zkS (o := 42) (i := 287) f_Model_rotated (by decide) (ok_Model_rotated ph) (zq2 (q := (12, 64)) rfl), (ok_Model_rotated ph).1, zkS (o := 42) (i := 295) f_Model_four (by decide) (ok_Model_four ph) (zq2 (q := (12, 58)) rfl), (ok_Model_four ph).1, zkS (o := 42) (i := 299) f_Model_lane (by decide) (ok_Model_lane ph) (zq2 (q := (12, 61)) rfl), (ok_Model_lane ph).1, trivial⟩
theorem ok_Model_mixed (ph : Bool) : zOk y_Model_mixed (.code y_Model_mixed prog_34_method_10_code 9 (some .int)) 2 42 ph (X_Model_mixed ph) := zMd_ok (plainFor_of_name (by decide)) rfl (fun h => by cases h) v_Model_mixed (k_Model_mixed ph) (a_Model_mixed ph)
def y_Model_sum : MethodName := ⟨"PackingHouseModel", "sum", "(I)J"⟩
theorem v_Model_sum : zTv prog_34_method_16_code 2 42 false t_Model_sum = true := by decide +kernel
theorem k_Model_sum (ph : Bool) : zcKey (c_Model_sum ph) t_Model_sum = true := by cases ph <;> decide +kernel
theorem f_Model_sum : zfV y_Model_sum prog_34_method_16_code 2 (some .long) 31 1 := ⟨zq2 (q := (12, 36)) rfl, zq2 (q := (12, 34)) rfl, zq2 (q := (1, 33)) rfl, zq2 (q := (12, 35)) rfl, ⟨by decide, by decide⟩, by decide +kernel⟩
theorem a_Model_sum (ph : Bool) : zcAll 42 3 70 ph (c_Model_sum ph) := ⟨zkS (o := 42) (i := 313) f_Model_adler (by decide) (ok_Model_adler ph) (zq2 (q := (12, 37)) rfl), (ok_Model_adler ph).1, zkV (o := 42) (i := 317) f_Model_round (by decide) (ok_Model_round ph) (zq2 (q := (12, 42)) rfl), zvt_m (ok_Model_round ph).1, zkV (o := 42) (i := 323) f_Model_turned (by decide) (ok_Model_turned ph) (zq2 (q := (12, 47)) rfl), zvt_m (ok_Model_turned ph).1, zkS (o := 42) (i := 326) f_Model_mixed (by decide) (ok_Model_mixed ph) (zq2 (q := (12, 51)) rfl), (ok_Model_mixed ph).1, trivial⟩
theorem ok_Model_sum (ph : Bool) : zOk y_Model_sum (.code y_Model_sum prog_34_method_16_code 2 (some .long)) 3 70 ph (X_Model_sum ph) := zMd_ok (plainFor_of_name (by decide)) rfl (fun h => by cases h) v_Model_sum (k_Model_sum ph) (a_Model_sum ph)
def y_Model_noStream : MethodName := ⟨"PackingHouseModel", "noStream", "(I)Z"⟩
theorem v_Model_noStream : zTv prog_34_method_17_code 2 42 false t_Model_noStream = true := by decide +kernel
theorem k_Model_noStream (ph : Bool) : zcKey (c_Model_noStream ph) t_Model_noStream = true := by cases ph <;> decide +kernel
theorem f_Model_noStream : zfV y_Model_noStream prog_34_method_17_code 2 (some .boolean) 31 1 := ⟨zq2 (q := (12, 78)) rfl, zq2 (q := (12, 77)) rfl, zq2 (q := (1, 33)) rfl, zq2 (q := (105, 12)) rfl, ⟨by decide, by decide⟩, by decide +kernel⟩
theorem a_Model_noStream (ph : Bool) : zcAll 42 1 22 ph (c_Model_noStream ph) := ⟨zkS (o := 42) (i := 304) f_Model_in (by decide) (ok_Model_in ph) (zq2 (q := (12, 12)) rfl), (ok_Model_in ph).1, trivial⟩
theorem ok_Model_noStream (ph : Bool) : zOk y_Model_noStream (.code y_Model_noStream prog_34_method_17_code 2 (some .boolean)) 1 22 ph (X_Model_noStream ph) := zMd_ok (plainFor_of_name (by decide)) rfl (fun h => by cases h) v_Model_noStream (k_Model_noStream ph) (a_Model_noStream ph)
def y_Model_length : MethodName := ⟨"PackingHouseModel", "length", "(I)I"⟩
theorem v_Model_length : zTv prog_34_method_18_code 2 42 false t_Model_length = true := by decide +kernel
theorem k_Model_length (ph : Bool) : zcKey (c_Model_length ph) t_Model_length = true := by cases ph <;> decide +kernel
theorem f_Model_length : zfV y_Model_length prog_34_method_18_code 2 (some .int) 31 1 := ⟨zq2 (q := (12, 74)) rfl, zq2 (q := (12, 72)) rfl, zq2 (q := (1, 33)) rfl, zq2 (q := (12, 73)) rfl, ⟨by decide, by decide⟩, by decide +kernel⟩
theorem a_Model_length (ph : Bool) : zcAll 42 2 43 ph (c_Model_length ph) := ⟨zkV (o := 42) (i := 331) f_Model_noStream (by decide) (ok_Model_noStream ph) (zq2 (q := (12, 75)) rfl), zvt_m (ok_Model_noStream ph).1, trivial⟩
theorem ok_Model_length (ph : Bool) : zOk y_Model_length (.code y_Model_length prog_34_method_18_code 2 (some .int)) 2 43 ph (X_Model_length ph) := zMd_ok (plainFor_of_name (by decide)) rfl (fun h => by cases h) v_Model_length (k_Model_length ph) (a_Model_length ph)
def y_Model_at : MethodName := ⟨"PackingHouseModel", "at", "(II)I"⟩
theorem v_Model_at : zTv prog_34_method_19_code 3 42 false t_Model_at = true := by decide +kernel
theorem k_Model_at (ph : Bool) : zcKey (c_Model_at ph) t_Model_at = true := by cases ph <;> decide +kernel
theorem f_Model_at : zfV y_Model_at prog_34_method_19_code 3 (some .int) 31 2 := ⟨zq2 (q := (12, 82)) rfl, zq2 (q := (12, 80)) rfl, zq2 (q := (1, 33)) rfl, zq2 (q := (12, 81)) rfl, ⟨by decide, by decide⟩, by decide +kernel⟩
theorem a_Model_at (ph : Bool) : zcAll 42 2 43 ph (c_Model_at ph) := ⟨zkV (o := 42) (i := 331) f_Model_noStream (by decide) (ok_Model_noStream ph) (zq2 (q := (12, 75)) rfl), zvt_m (ok_Model_noStream ph).1, trivial⟩
theorem ok_Model_at (ph : Bool) : zOk y_Model_at (.code y_Model_at prog_34_method_19_code 3 (some .int)) 2 43 ph (X_Model_at ph) := zMd_ok (plainFor_of_name (by decide)) rfl (fun h => by cases h) v_Model_at (k_Model_at ph) (a_Model_at ph)
def y_Model_load : MethodName := ⟨"PackingHouseModel", "load", "(I)I"⟩
theorem v_Model_load : zTv prog_34_method_20_code 3 42 false t_Model_load = true := by decide +kernel
theorem k_Model_load (ph : Bool) : zcKey (c_Model_load ph) t_Model_load = true := by cases ph <;> decide +kernel
theorem f_Model_load : zfV y_Model_load prog_34_method_20_code 3 (some .int) 31 1 := ⟨zq2 (q := (12, 86)) rfl, zq2 (q := (12, 84)) rfl, zq2 (q := (1, 33)) rfl, zq2 (q := (12, 85)) rfl, ⟨by decide, by decide⟩, by decide +kernel⟩
theorem a_Model_load (ph : Bool) : zcAll 42 2 43 ph (c_Model_load ph) := ⟨zkV (o := 42) (i := 331) f_Model_noStream (by decide) (ok_Model_noStream ph) (zq2 (q := (12, 75)) rfl), zvt_m (ok_Model_noStream ph).1, trivial⟩
theorem ok_Model_load (ph : Bool) : zOk y_Model_load (.code y_Model_load prog_34_method_20_code 3 (some .int)) 2 43 ph (X_Model_load ph) := zMd_ok (plainFor_of_name (by decide)) rfl (fun h => by cases h) v_Model_load (k_Model_load ph) (a_Model_load ph)
def y_Model_drop : MethodName := ⟨"PackingHouseModel", "drop", "(I)I"⟩
theorem v_Model_drop : zTv prog_34_method_21_code 2 42 false t_Model_drop = true := by decide +kernel
theorem k_Model_drop (ph : Bool) : zcKey (c_Model_drop ph) t_Model_drop = true := by cases ph <;> decide +kernel
theorem f_Model_drop : zfV y_Model_drop prog_34_method_21_code 2 (some .int) 31 1 := ⟨zq2 (q := (12, 90)) rfl, zq2 (q := (12, 88)) rfl, zq2 (q := (1, 33)) rfl, zq2 (q := (12, 89)) rfl, ⟨by decide, by decide⟩, by decide +kernel⟩
theorem a_Model_drop (ph : Bool) : zcAll 42 2 43 ph (c_Model_drop ph) := ⟨zkV (o := 42) (i := 331) f_Model_noStream (by decide) (ok_Model_noStream ph) (zq2 (q := (12, 75)) rfl), zvt_m (ok_Model_noStream ph).1, trivial⟩
theorem ok_Model_drop (ph : Bool) : zOk y_Model_drop (.code y_Model_drop prog_34_method_21_code 2 (some .int)) 2 43 ph (X_Model_drop ph) := zMd_ok (plainFor_of_name (by decide)) rfl (fun h => by cases h) v_Model_drop (k_Model_drop ph) (a_Model_drop ph)
def y_Model_differ : MethodName := ⟨"PackingHouseModel", "diffe\x72", "(II)I"⟩
theorem v_Model_differ : zTv prog_34_method_22_code 4 42 false t_Model_differ = true := by decide +kernel
theorem k_Model_differ (ph : Bool) : zcKey (c_Model_differ ph) t_Model_differ = true := by cases ph <;> decide +kernel
theorem f_Model_differ : zfV y_Model_differ prog_34_method_22_code 4 (some .int) 31 2 := ⟨zq2 (q := (12, 94)) rfl, zq2 (q := (12, 92)) rfl, zq2 (q := (1, 33)) rfl, zq2 (q := (12, 93)) rfl, ⟨by decide, by decide⟩, by decide +kernel⟩
theorem a_Model_differ (ph : Bool) : zcAll 42 2 43 ph (c_Model_differ ph) := ⟨zkV (o := 42) (i := 331) f_Model_noStream (by decide) (ok_Model_noStream ph) (zq2 (q := (12, 75)) rfl), zvt_m (ok_Model_noStream ph).1, trivial⟩
theorem ok_Model_differ (ph : Bool) : zOk y_Model_differ (.code y_Model_differ prog_34_method_22_code 4 (some .int)) 2 43 ph (X_Model_differ ph) := zMd_ok (plainFor_of_name (by decide)) rfl (fun h => by cases h) v_Model_differ (k_Model_differ ph) (a_Model_differ ph)
def y_Model_freeStream : MethodName := ⟨"PackingHouseModel", "freeStream", "()I"⟩
theorem v_Model_freeStream : zTv prog_34_method_23_code 2 42 false t_Model_freeStream = true := by decide +kernel
theorem k_Model_freeStream (ph : Bool) : zcKey (c_Model_freeStream ph) t_Model_freeStream = true := by cases ph <;> decide +kernel
theorem f_Model_freeStream : zfV y_Model_freeStream prog_34_method_23_code 2 (some .int) 31 0 := ⟨zq2 (q := (12, 102)) rfl, zq2 (q := (12, 101)) rfl, zq2 (q := (1, 33)) rfl, zq2 (q := (105, 13)) rfl, ⟨by decide, by decide⟩, by decide +kernel⟩
theorem a_Model_freeStream (ph : Bool) : zcAll 42 0 0 ph (c_Model_freeStream ph) := trivial
theorem ok_Model_freeStream (ph : Bool) : zOk y_Model_freeStream (.code y_Model_freeStream prog_34_method_23_code 2 (some .int)) 0 0 ph (X_Model_freeStream ph) := zMd_ok (plainFor_of_name (by decide)) rfl (fun h => by cases h) v_Model_freeStream (k_Model_freeStream ph) (a_Model_freeStream ph)

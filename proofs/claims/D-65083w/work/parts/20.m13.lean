/-! printed by gen_all.py -/
def y_Model_begin : MethodName := ⟨"PackingHouseModel", "begin", "(Z)V"⟩
theorem v_Model_begin : zTv prog_34_method_25_code 2 42 false t_Model_begin = true := by decide +kernel
theorem k_Model_begin (ph : Bool) : zcKey (c_Model_begin ph) t_Model_begin = true := by cases ph <;> decide +kernel
theorem f_Model_begin : zfV y_Model_begin prog_34_method_25_code 2 none 31 1 := ⟨zq2 (q := (12, 106)) rfl, zq2 (q := (12, 105)) rfl, zq2 (q := (1, 33)) rfl, zq2 (q := (105, 14)) rfl, ⟨by decide, by decide⟩, by decide +kernel⟩
theorem a_Model_begin (ph : Bool) : zcAll 42 0 0 ph (c_Model_begin ph) := trivial
theorem ok_Model_begin (ph : Bool) : zOk y_Model_begin (.code y_Model_begin prog_34_method_25_code 2 none) 0 0 ph (X_Model_begin ph) := zMd_ok (plainFor_of_name (by decide)) rfl (fun h => by cases h) v_Model_begin (k_Model_begin ph) (a_Model_begin ph)
def y_Model_alike : MethodName := ⟨"PackingHouseModel", "alike", "([BIII)I"⟩
theorem v_Model_alike : zTv prog_34_method_51_code 5 42 false t_Model_alike = true := by decide +kernel
theorem k_Model_alike (ph : Bool) : zcKey (c_Model_alike ph) t_Model_alike = true := by cases ph <;> decide +kernel
theorem f_Model_alike : zfS y_Model_alike prog_34_method_51_code 5 (some .int) 4 := ⟨zq2 (q := (12, 117)) rfl, zq2 (q := (12, 116)) rfl, zq2 (q := (1, 33)) rfl, ⟨by decide, by decide⟩, by decide +kernel⟩
theorem a_Model_alike (ph : Bool) : zcAll 42 0 0 ph (c_Model_alike ph) := trivial
theorem ok_Model_alike (ph : Bool) : zOk y_Model_alike (.code y_Model_alike prog_34_method_51_code 5 (some .int)) 0 0 ph (X_Model_alike ph) := zMd_ok (plainFor_of_name (by decide)) rfl (fun h => by cases h) v_Model_alike (k_Model_alike ph) (a_Model_alike ph)
def y_Model_put : MethodName := ⟨"PackingHouseModel", "put", "(I)V"⟩
theorem v_Model_put : zTv prog_34_method_26_code 2 42 false t_Model_put = true := by decide +kernel
theorem k_Model_put (ph : Bool) : zcKey (c_Model_put ph) t_Model_put = true := by cases ph <;> decide +kernel
theorem f_Model_put : zfV y_Model_put prog_34_method_26_code 2 none 31 1 := ⟨zq2 (q := (12, 121)) rfl, zq2 (q := (12, 120)) rfl, zq2 (q := (1, 33)) rfl, zq2 (q := (106, 1)) rfl, ⟨by decide, by decide⟩, by decide +kernel⟩
theorem a_Model_put (ph : Bool) : zcAll 42 0 0 ph (c_Model_put ph) := trivial
theorem ok_Model_put (ph : Bool) : zOk y_Model_put (.code y_Model_put prog_34_method_26_code 2 none) 0 0 ph (X_Model_put ph) := zMd_ok (plainFor_of_name (by decide)) rfl (fun h => by cases h) v_Model_put (k_Model_put ph) (a_Model_put ph)
def y_Model_packRuns : MethodName := ⟨"PackingHouseModel", "packRuns", "()V"⟩
theorem v_Model_packRuns : zTv prog_34_method_52_code 4 42 false t_Model_packRuns = true := by decide +kernel
theorem k_Model_packRuns (ph : Bool) : zcKey (c_Model_packRuns ph) t_Model_packRuns = true := by cases ph <;> decide +kernel
theorem f_Model_packRuns : zfV y_Model_packRuns prog_34_method_52_code 4 none 31 0 := ⟨zq2 (q := (12, 114)) rfl, zq2 (q := (12, 113)) rfl, zq2 (q := (1, 33)) rfl, zq2 (q := (106, 0)) rfl, ⟨by decide, by decide⟩, by decide +kernel⟩
theorem a_Model_packRuns (ph : Bool) : zcAll 42 1 24 ph (c_Model_packRuns ph) := ⟨zkV (o := 42) (i := 349) f_Model_put (by decide) (ok_Model_put ph) (zq2 (q := (12, 118)) rfl), zvt_m (ok_Model_put ph).1, zkS (o := 42) (i := 416) f_Model_alike (by decide) (ok_Model_alike ph) (zq2 (q := (12, 115)) rfl), (ok_Model_alike ph).1, trivial⟩
theorem ok_Model_packRuns (ph : Bool) : zOk y_Model_packRuns (.code y_Model_packRuns prog_34_method_52_code 4 none) 1 24 ph (X_Model_packRuns ph) := zMd_ok (plainFor_of_name (by decide)) rfl (fun h => by cases h) v_Model_packRuns (k_Model_packRuns ph) (a_Model_packRuns ph)
def y_Model_bit : MethodName := ⟨"PackingHouseModel", "bit", "(I)V"⟩
theorem v_Model_bit : zTv prog_34_method_29_code 2 42 false t_Model_bit = true := by decide +kernel
theorem k_Model_bit (ph : Bool) : zcKey (c_Model_bit ph) t_Model_bit = true := by cases ph <;> decide +kernel
theorem f_Model_bit : zfV y_Model_bit prog_34_method_29_code 2 none 31 1 := ⟨zq2 (q := (12, 134)) rfl, zq2 (q := (12, 133)) rfl, zq2 (q := (1, 33)) rfl, zq2 (q := (106, 4)) rfl, ⟨by decide, by decide⟩, by decide +kernel⟩
theorem a_Model_bit (ph : Bool) : zcAll 42 1 21 ph (c_Model_bit ph) := ⟨zkV (o := 42) (i := 349) f_Model_put (by decide) (ok_Model_put ph) (zq2 (q := (12, 118)) rfl), zvt_m (ok_Model_put ph).1, trivial⟩
theorem ok_Model_bit (ph : Bool) : zOk y_Model_bit (.code y_Model_bit prog_34_method_29_code 2 none) 1 21 ph (X_Model_bit ph) := zMd_ok (plainFor_of_name (by decide)) rfl (fun h => by cases h) v_Model_bit (k_Model_bit ph) (a_Model_bit ph)
def y_Model_bitsOf : MethodName := ⟨"PackingHouseModel", "bitsOf", "(JI)V"⟩
theorem v_Model_bitsOf : zTv prog_34_method_30_code 5 42 false t_Model_bitsOf = true := by decide +kernel
theorem k_Model_bitsOf (ph : Bool) : zcKey (c_Model_bitsOf ph) t_Model_bitsOf = true := by cases ph <;> decide +kernel
theorem f_Model_bitsOf : zfV y_Model_bitsOf prog_34_method_30_code 5 none 31 2 := ⟨zq2 (q := (12, 130)) rfl, zq2 (q := (12, 129)) rfl, zq2 (q := (1, 33)) rfl, zq2 (q := (106, 3)) rfl, ⟨by decide, by decide⟩, by decide +kernel⟩
theorem a_Model_bitsOf (ph : Bool) : zcAll 42 2 42 ph (c_Model_bitsOf ph) := ⟨zkV (o := 42) (i := 356) f_Model_bit (by decide) (ok_Model_bit ph) (zq2 (q := (12, 131)) rfl), zvt_m (ok_Model_bit ph).1, trivial⟩
theorem ok_Model_bitsOf (ph : Bool) : zOk y_Model_bitsOf (.code y_Model_bitsOf prog_34_method_30_code 5 none) 2 42 ph (X_Model_bitsOf ph) := zMd_ok (plainFor_of_name (by decide)) rfl (fun h => by cases h) v_Model_bitsOf (k_Model_bitsOf ph) (a_Model_bitsOf ph)
def y_Model_widthOf : MethodName := ⟨"PackingHouseModel", "widthOf", "(I)I"⟩
theorem v_Model_widthOf : zTv prog_34_method_54_code 2 42 false t_Model_widthOf = true := by decide +kernel
theorem k_Model_widthOf (ph : Bool) : zcKey (c_Model_widthOf ph) t_Model_widthOf = true := by cases ph <;> decide +kernel
theorem f_Model_widthOf : zfS y_Model_widthOf prog_34_method_54_code 2 (some .int) 1 := ⟨zq2 (q := (12, 137)) rfl, zq2 (q := (12, 136)) rfl, zq2 (q := (1, 33)) rfl, ⟨by decide, by decide⟩, by decide +kernel⟩
theorem a_Model_widthOf (ph : Bool) : zcAll 42 0 0 ph (c_Model_widthOf ph) := trivial
theorem ok_Model_widthOf (ph : Bool) : zOk y_Model_widthOf (.code y_Model_widthOf prog_34_method_54_code 2 (some .int)) 0 0 ph (X_Model_widthOf ph) := zMd_ok (plainFor_of_name (by decide)) rfl (fun h => by cases h) v_Model_widthOf (k_Model_widthOf ph) (a_Model_widthOf ph)
def y_Model_goesOn : MethodName := ⟨"PackingHouseModel", "goesOn", "([BIII)Z"⟩
theorem v_Model_goesOn : zTv prog_34_method_55_code 6 42 false t_Model_goesOn = true := by decide +kernel
theorem k_Model_goesOn (ph : Bool) : zcKey (c_Model_goesOn ph) t_Model_goesOn = true := by cases ph <;> decide +kernel
theorem f_Model_goesOn : zfV y_Model_goesOn prog_34_method_55_code 6 (some .boolean) 31 4 := ⟨zq2 (q := (12, 141)) rfl, zq2 (q := (12, 140)) rfl, zq2 (q := (1, 33)) rfl, zq2 (q := (106, 5)) rfl, ⟨by decide, by decide⟩, by decide +kernel⟩
theorem a_Model_goesOn (ph : Bool) : zcAll 42 0 0 ph (c_Model_goesOn ph) := trivial
theorem ok_Model_goesOn (ph : Bool) : zOk y_Model_goesOn (.code y_Model_goesOn prog_34_method_55_code 6 (some .boolean)) 0 0 ph (X_Model_goesOn ph) := zMd_ok (plainFor_of_name (by decide)) rfl (fun h => by cases h) v_Model_goesOn (k_Model_goesOn ph) (a_Model_goesOn ph)
def y_Model_fillOctet : MethodName := ⟨"PackingHouseModel", "fillOctet", "()V"⟩
theorem v_Model_fillOctet : zTv prog_34_method_32_code 1 42 false t_Model_fillOctet = true := by decide +kernel
theorem k_Model_fillOctet (ph : Bool) : zcKey (c_Model_fillOctet ph) t_Model_fillOctet = true := by cases ph <;> decide +kernel
theorem f_Model_fillOctet : zfV y_Model_fillOctet prog_34_method_32_code 1 none 31 0 := ⟨zq2 (q := (12, 146)) rfl, zq2 (q := (12, 145)) rfl, zq2 (q := (1, 33)) rfl, zq2 (q := (106, 6)) rfl, ⟨by decide, by decide⟩, by decide +kernel⟩
theorem a_Model_fillOctet (ph : Bool) : zcAll 42 0 0 ph (c_Model_fillOctet ph) := trivial
theorem ok_Model_fillOctet (ph : Bool) : zOk y_Model_fillOctet (.code y_Model_fillOctet prog_34_method_32_code 1 none) 0 0 ph (X_Model_fillOctet ph) := zMd_ok (plainFor_of_name (by decide)) rfl (fun h => by cases h) v_Model_fillOctet (k_Model_fillOctet ph) (a_Model_fillOctet ph)
def y_Model_packWords : MethodName := ⟨"PackingHouseModel", "packWords", "()V"⟩
theorem v_Model_packWords : zTv prog_34_method_56_code 8 42 false t_Model_packWords = true := by decide +kernel
theorem k_Model_packWords (ph : Bool) : zcKey (c_Model_packWords ph) t_Model_packWords = true := by cases ph <;> decide +kernel
theorem f_Model_packWords : zfV y_Model_packWords prog_34_method_56_code 8 none 31 0 := ⟨zq2 (q := (12, 125)) rfl, zq2 (q := (12, 124)) rfl, zq2 (q := (1, 33)) rfl, zq2 (q := (106, 2)) rfl, ⟨by decide, by decide⟩, by decide +kernel⟩
theorem a_Model_packWords (ph : Bool) : zcAll 42 3 66 ph (c_Model_packWords ph) := ⟨zkV (o := 42) (i := 426) f_Model_bitsOf (by decide) (ok_Model_bitsOf ph) (zq2 (q := (12, 127)) rfl), zvt_m (ok_Model_bitsOf ph).1, zkS (o := 42) (i := 430) f_Model_widthOf (by decide) (ok_Model_widthOf ph) (zq2 (q := (12, 135)) rfl), (ok_Model_widthOf ph).1, zkV (o := 42) (i := 434) f_Model_goesOn (by decide) (ok_Model_goesOn ph) (zq2 (q := (12, 138)) rfl), zvt_m (ok_Model_goesOn ph).1, zkV (o := 42) (i := 440) f_Model_fillOctet (by decide) (ok_Model_fillOctet ph) (zq2 (q := (12, 143)) rfl), zvt_m (ok_Model_fillOctet ph).1, trivial⟩
theorem ok_Model_packWords (ph : Bool) : zOk y_Model_packWords (.code y_Model_packWords prog_34_method_56_code 8 none) 3 66 ph (X_Model_packWords ph) := zMd_ok (plainFor_of_name (by decide)) rfl (fun h => by cases h) v_Model_packWords (k_Model_packWords ph) (a_Model_packWords ph)
def y_Model_prepare : MethodName := ⟨"PackingHouseModel", "prepare", "()V"⟩
theorem v_Model_prepare : zTv prog_34_method_58_code 3 42 false t_Model_prepare = true := by decide +kernel
theorem k_Model_prepare (ph : Bool) : zcKey (c_Model_prepare ph) t_Model_prepare = true := by cases ph <;> decide +kernel
theorem f_Model_prepare : zfV y_Model_prepare prog_34_method_58_code 3 none 31 0 := ⟨zq2 (q := (12, 154)) rfl, zq2 (q := (12, 153)) rfl, zq2 (q := (1, 33)) rfl, zq2 (q := (106, 8)) rfl, ⟨by decide, by decide⟩, by decide +kernel⟩
theorem a_Model_prepare (ph : Bool) : zcAll 42 0 0 ph (c_Model_prepare ph) := trivial
theorem ok_Model_prepare (ph : Bool) : zOk y_Model_prepare (.code y_Model_prepare prog_34_method_58_code 3 none) 0 0 ph (X_Model_prepare ph) := zMd_ok (plainFor_of_name (by decide)) rfl (fun h => by cases h) v_Model_prepare (k_Model_prepare ph) (a_Model_prepare ph)
def y_Model_low : MethodName := ⟨"PackingHouseModel", "low", "(JI)V"⟩
theorem v_Model_low : zTv prog_34_method_27_code 5 42 false t_Model_low = true := by decide +kernel
theorem k_Model_low (ph : Bool) : zcKey (c_Model_low ph) t_Model_low = true := by cases ph <;> decide +kernel
theorem f_Model_low : zfV y_Model_low prog_34_method_27_code 5 none 31 2 := ⟨zq2 (q := (12, 158)) rfl, zq2 (q := (12, 157)) rfl, zq2 (q := (1, 33)) rfl, zq2 (q := (106, 9)) rfl, ⟨by decide, by decide⟩, by decide +kernel⟩
theorem a_Model_low (ph : Bool) : zcAll 42 1 21 ph (c_Model_low ph) := ⟨zkV (o := 42) (i := 349) f_Model_put (by decide) (ok_Model_put ph) (zq2 (q := (12, 118)) rfl), zvt_m (ok_Model_put ph).1, trivial⟩
theorem ok_Model_low (ph : Bool) : zOk y_Model_low (.code y_Model_low prog_34_method_27_code 5 none) 1 21 ph (X_Model_low ph) := zMd_ok (plainFor_of_name (by decide)) rfl (fun h => by cases h) v_Model_low (k_Model_low ph) (a_Model_low ph)
def y_Model_longest : MethodName := ⟨"PackingHouseModel", "longest", "([BIIII)V"⟩
theorem v_Model_longest : zTv prog_34_method_49_code 11 42 false t_Model_longest = true := by decide +kernel
theorem k_Model_longest (ph : Bool) : zcKey (c_Model_longest ph) t_Model_longest = true := by cases ph <;> decide +kernel
theorem f_Model_longest : zfV y_Model_longest prog_34_method_49_code 11 none 31 5 := ⟨zq2 (q := (12, 166)) rfl, zq2 (q := (12, 165)) rfl, zq2 (q := (1, 33)) rfl, zq2 (q := (106, 11)) rfl, ⟨by decide, by decide⟩, by decide +kernel⟩
theorem a_Model_longest (ph : Bool) : zcAll 42 0 0 ph (c_Model_longest ph) := trivial
theorem ok_Model_longest (ph : Bool) : zOk y_Model_longest (.code y_Model_longest prog_34_method_49_code 11 none) 0 0 ph (X_Model_longest ph) := zMd_ok (plainFor_of_name (by decide)) rfl (fun h => by cases h) v_Model_longest (k_Model_longest ph) (a_Model_longest ph)
def y_Model_mark : MethodName := ⟨"PackingHouseModel", "mark", "(III)V"⟩
theorem v_Model_mark : zTv prog_34_method_50_code 4 42 false t_Model_mark = true := by decide +kernel
theorem k_Model_mark (ph : Bool) : zcKey (c_Model_mark ph) t_Model_mark = true := by cases ph <;> decide +kernel
theorem f_Model_mark : zfV y_Model_mark prog_34_method_50_code 4 none 31 3 := ⟨zq2 (q := (12, 170)) rfl, zq2 (q := (12, 169)) rfl, zq2 (q := (1, 33)) rfl, zq2 (q := (106, 12)) rfl, ⟨by decide, by decide⟩, by decide +kernel⟩
theorem a_Model_mark (ph : Bool) : zcAll 42 0 0 ph (c_Model_mark ph) := trivial
theorem ok_Model_mark (ph : Bool) : zOk y_Model_mark (.code y_Model_mark prog_34_method_50_code 4 none) 0 0 ph (X_Model_mark ph) := zMd_ok (plainFor_of_name (by decide)) rfl (fun h => by cases h) v_Model_mark (k_Model_mark ph) (a_Model_mark ph)
def y_Model_parseLazy : MethodName := ⟨"PackingHouseModel", "parseLazy", "()V"⟩
theorem v_Model_parseLazy : zTv prog_34_method_63_code 4 42 false t_Model_parseLazy = true := by decide +kernel
theorem k_Model_parseLazy (ph : Bool) : zcKey (c_Model_parseLazy ph) t_Model_parseLazy = true := by cases ph <;> decide +kernel
theorem f_Model_parseLazy : zfV y_Model_parseLazy prog_34_method_63_code 4 none 31 0 := ⟨zq2 (q := (12, 162)) rfl, zq2 (q := (12, 161)) rfl, zq2 (q := (1, 33)) rfl, zq2 (q := (106, 10)) rfl, ⟨by decide, by decide⟩, by decide +kernel⟩
theorem a_Model_parseLazy (ph : Bool) : zcAll 42 1 30 ph (c_Model_parseLazy ph) := ⟨zkV (o := 42) (i := 457) f_Model_longest (by decide) (ok_Model_longest ph) (zq2 (q := (12, 163)) rfl), zvt_m (ok_Model_longest ph).1, zkV (o := 42) (i := 461) f_Model_mark (by decide) (ok_Model_mark ph) (zq2 (q := (12, 167)) rfl), zvt_m (ok_Model_mark ph).1, trivial⟩
theorem ok_Model_parseLazy (ph : Bool) : zOk y_Model_parseLazy (.code y_Model_parseLazy prog_34_method_63_code 4 none) 1 30 ph (X_Model_parseLazy ph) := zMd_ok (plainFor_of_name (by decide)) rfl (fun h => by cases h) v_Model_parseLazy (k_Model_parseLazy ph) (a_Model_parseLazy ph)
def y_Model_parseGreedy : MethodName := ⟨"PackingHouseModel", "parseGreedy", "(I)V"⟩
theorem v_Model_parseGreedy : zTv prog_34_method_62_code 5 42 false t_Model_parseGreedy = true := by decide +kernel
theorem k_Model_parseGreedy (ph : Bool) : zcKey (c_Model_parseGreedy ph) t_Model_parseGreedy = true := by cases ph <;> decide +kernel
theorem f_Model_parseGreedy : zfV y_Model_parseGreedy prog_34_method_62_code 5 none 31 1 := ⟨zq2 (q := (12, 174)) rfl, zq2 (q := (12, 173)) rfl, zq2 (q := (1, 33)) rfl, zq2 (q := (106, 13)) rfl, ⟨by decide, by decide⟩, by decide +kernel⟩
theorem a_Model_parseGreedy (ph : Bool) : zcAll 42 1 30 ph (c_Model_parseGreedy ph) := ⟨zkV (o := 42) (i := 457) f_Model_longest (by decide) (ok_Model_longest ph) (zq2 (q := (12, 163)) rfl), zvt_m (ok_Model_longest ph).1, zkV (o := 42) (i := 461) f_Model_mark (by decide) (ok_Model_mark ph) (zq2 (q := (12, 167)) rfl), zvt_m (ok_Model_mark ph).1, trivial⟩
theorem ok_Model_parseGreedy (ph : Bool) : zOk y_Model_parseGreedy (.code y_Model_parseGreedy prog_34_method_62_code 5 none) 1 30 ph (X_Model_parseGreedy ph) := zMd_ok (plainFor_of_name (by decide)) rfl (fun h => by cases h) v_Model_parseGreedy (k_Model_parseGreedy ph) (a_Model_parseGreedy ph)
def y_Model_lengthSymbol : MethodName := ⟨"PackingHouseModel", "lengthSymbol", "(I)I"⟩
theorem v_Model_lengthSymbol : zTv prog_34_method_59_code 3 42 false t_Model_lengthSymbol = true := by decide +kernel
theorem k_Model_lengthSymbol (ph : Bool) : zcKey (c_Model_lengthSymbol ph) t_Model_lengthSymbol = true := by cases ph <;> decide +kernel
theorem f_Model_lengthSymbol : zfV y_Model_lengthSymbol prog_34_method_59_code 3 (some .int) 31 1 := ⟨zq2 (q := (12, 183)) rfl, zq2 (q := (12, 182)) rfl, zq2 (q := (1, 33)) rfl, zq2 (q := (106, 15)) rfl, ⟨by decide, by decide⟩, by decide +kernel⟩
theorem a_Model_lengthSymbol (ph : Bool) : zcAll 42 0 0 ph (c_Model_lengthSymbol ph) := trivial
theorem ok_Model_lengthSymbol (ph : Bool) : zOk y_Model_lengthSymbol (.code y_Model_lengthSymbol prog_34_method_59_code 3 (some .int)) 0 0 ph (X_Model_lengthSymbol ph) := zMd_ok (plainFor_of_name (by decide)) rfl (fun h => by cases h) v_Model_lengthSymbol (k_Model_lengthSymbol ph) (a_Model_lengthSymbol ph)
def y_Model_distanceSymbol : MethodName := ⟨"PackingHouseModel", "distanceSymbol", "(I)I"⟩
theorem v_Model_distanceSymbol : zTv prog_34_method_60_code 3 42 false t_Model_distanceSymbol = true := by decide +kernel
theorem k_Model_distanceSymbol (ph : Bool) : zcKey (c_Model_distanceSymbol ph) t_Model_distanceSymbol = true := by cases ph <;> decide +kernel
theorem f_Model_distanceSymbol : zfV y_Model_distanceSymbol prog_34_method_60_code 3 (some .int) 31 1 := ⟨zq2 (q := (12, 187)) rfl, zq2 (q := (12, 186)) rfl, zq2 (q := (1, 33)) rfl, zq2 (q := (107, 0)) rfl, ⟨by decide, by decide⟩, by decide +kernel⟩
theorem a_Model_distanceSymbol (ph : Bool) : zcAll 42 0 0 ph (c_Model_distanceSymbol ph) := trivial
theorem ok_Model_distanceSymbol (ph : Bool) : zOk y_Model_distanceSymbol (.code y_Model_distanceSymbol prog_34_method_60_code 3 (some .int)) 0 0 ph (X_Model_distanceSymbol ph) := zMd_ok (plainFor_of_name (by decide)) rfl (fun h => by cases h) v_Model_distanceSymbol (k_Model_distanceSymbol ph) (a_Model_distanceSymbol ph)
def y_Model_least : MethodName := ⟨"PackingHouseModel", "least", "(II)I"⟩
theorem v_Model_least : zTv prog_34_method_48_code 6 42 false t_Model_least = true := by decide +kernel
theorem k_Model_least (ph : Bool) : zcKey (c_Model_least ph) t_Model_least = true := by cases ph <;> decide +kernel
theorem f_Model_least : zfV y_Model_least prog_34_method_48_code 6 (some .int) 31 2 := ⟨zq2 (q := (12, 195)) rfl, zq2 (q := (12, 194)) rfl, zq2 (q := (1, 33)) rfl, zq2 (q := (107, 2)) rfl, ⟨by decide, by decide⟩, by decide +kernel⟩
theorem a_Model_least (ph : Bool) : zcAll 42 0 0 ph (c_Model_least ph) := trivial
theorem ok_Model_least (ph : Bool) : zOk y_Model_least (.code y_Model_least prog_34_method_48_code 6 (some .int)) 0 0 ph (X_Model_least ph) := zMd_ok (plainFor_of_name (by decide)) rfl (fun h => by cases h) v_Model_least (k_Model_least ph) (a_Model_least ph)
def y_Model_lengthsBy : MethodName := ⟨"PackingHouseModel", "lengthsBy", "([III[II)V"⟩
theorem v_Model_lengthsBy : zTv prog_34_method_47_code 12 42 false t_Model_lengthsBy = true := by decide +kernel
theorem k_Model_lengthsBy (ph : Bool) : zcKey (c_Model_lengthsBy ph) t_Model_lengthsBy = true := by cases ph <;> decide +kernel
theorem f_Model_lengthsBy : zfV y_Model_lengthsBy prog_34_method_47_code 12 none 31 5 := ⟨zq2 (q := (12, 191)) rfl, zq2 (q := (12, 190)) rfl, zq2 (q := (1, 33)) rfl, zq2 (q := (107, 1)) rfl, ⟨by decide, by decide⟩, by decide +kernel⟩
theorem a_Model_lengthsBy (ph : Bool) : zcAll 42 1 25 ph (c_Model_lengthsBy ph) := ⟨zkV (o := 42) (i := 402) f_Model_least (by decide) (ok_Model_least ph) (zq2 (q := (12, 192)) rfl), zvt_m (ok_Model_least ph).1, trivial⟩
theorem ok_Model_lengthsBy (ph : Bool) : zOk y_Model_lengthsBy (.code y_Model_lengthsBy prog_34_method_47_code 12 none) 1 25 ph (X_Model_lengthsBy ph) := zMd_ok (plainFor_of_name (by decide)) rfl (fun h => by cases h) v_Model_lengthsBy (k_Model_lengthsBy ph) (a_Model_lengthsBy ph)
def y_Model_codes : MethodName := ⟨"PackingHouseModel", "codes", "([III[I)I"⟩
theorem v_Model_codes : zTv prog_34_method_46_code 8 42 false t_Model_codes = true := by decide +kernel
theorem k_Model_codes (ph : Bool) : zcKey (c_Model_codes ph) t_Model_codes = true := by cases ph <;> decide +kernel
theorem f_Model_codes : zfS y_Model_codes prog_34_method_46_code 8 (some .int) 4 := ⟨zq2 (q := (12, 198)) rfl, zq2 (q := (12, 197)) rfl, zq2 (q := (1, 33)) rfl, ⟨by decide, by decide⟩, by decide +kernel⟩
theorem a_Model_codes (ph : Bool) : zcAll 42 0 0 ph (c_Model_codes ph) := trivial
theorem ok_Model_codes (ph : Bool) : zOk y_Model_codes (.code y_Model_codes prog_34_method_46_code 8 (some .int)) 0 0 ph (X_Model_codes ph) := zMd_ok (plainFor_of_name (by decide)) rfl (fun h => by cases h) v_Model_codes (k_Model_codes ph) (a_Model_codes ph)
def y_Model_tell : MethodName := ⟨"PackingHouseModel", "tell", "(II)V"⟩
theorem v_Model_tell : zTv prog_34_method_66_code 3 42 false t_Model_tell = true := by decide +kernel
theorem k_Model_tell (ph : Bool) : zcKey (c_Model_tell ph) t_Model_tell = true := by cases ph <;> decide +kernel
theorem f_Model_tell : zfV y_Model_tell prog_34_method_66_code 3 none 31 2 := ⟨zq2 (q := (12, 206)) rfl, zq2 (q := (12, 205)) rfl, zq2 (q := (1, 33)) rfl, zq2 (q := (107, 4)) rfl, ⟨by decide, by decide⟩, by decide +kernel⟩
theorem a_Model_tell (ph : Bool) : zcAll 42 0 0 ph (c_Model_tell ph) := trivial
theorem ok_Model_tell (ph : Bool) : zOk y_Model_tell (.code y_Model_tell prog_34_method_66_code 3 none) 0 0 ph (X_Model_tell ph) := zMd_ok (plainFor_of_name (by decide)) rfl (fun h => by cases h) v_Model_tell (k_Model_tell ph) (a_Model_tell ph)
def y_Model_tellLengths : MethodName := ⟨"PackingHouseModel", "tellLengths", "(I)V"⟩
theorem v_Model_tellLengths : zTv prog_34_method_68_code 6 42 false t_Model_tellLengths = true := by decide +kernel
theorem k_Model_tellLengths (ph : Bool) : zcKey (c_Model_tellLengths ph) t_Model_tellLengths = true := by cases ph <;> decide +kernel
theorem f_Model_tellLengths : zfV y_Model_tellLengths prog_34_method_68_code 6 none 31 1 := ⟨zq2 (q := (12, 202)) rfl, zq2 (q := (12, 201)) rfl, zq2 (q := (1, 33)) rfl, zq2 (q := (107, 3)) rfl, ⟨by decide, by decide⟩, by decide +kernel⟩
theorem a_Model_tellLengths (ph : Bool) : zcAll 42 1 22 ph (c_Model_tellLengths ph) := ⟨zkV (o := 42) (i := 490) f_Model_tell (by decide) (ok_Model_tell ph) (zq2 (q := (12, 203)) rfl), zvt_m (ok_Model_tell ph).1, trivial⟩
theorem ok_Model_tellLengths (ph : Bool) : zOk y_Model_tellLengths (.code y_Model_tellLengths prog_34_method_68_code 6 none) 1 22 ph (X_Model_tellLengths ph) := zMd_ok (plainFor_of_name (by decide)) rfl (fun h => by cases h) v_Model_tellLengths (k_Model_tellLengths ph) (a_Model_tellLengths ph)
def y_Model_codeOf : MethodName := ⟨"PackingHouseModel", "codeOf", "(II)V"⟩
theorem v_Model_codeOf : zTv prog_34_method_31_code 4 42 false t_Model_codeOf = true := by decide +kernel
theorem k_Model_codeOf (ph : Bool) : zcKey (c_Model_codeOf ph) t_Model_codeOf = true := by cases ph <;> decide +kernel
theorem f_Model_codeOf : zfV y_Model_codeOf prog_34_method_31_code 4 none 31 2 := ⟨zq2 (q := (12, 212)) rfl, zq2 (q := (12, 211)) rfl, zq2 (q := (1, 33)) rfl, zq2 (q := (107, 5)) rfl, ⟨by decide, by decide⟩, by decide +kernel⟩
theorem a_Model_codeOf (ph : Bool) : zcAll 42 2 42 ph (c_Model_codeOf ph) := ⟨zkV (o := 42) (i := 356) f_Model_bit (by decide) (ok_Model_bit ph) (zq2 (q := (12, 131)) rfl), zvt_m (ok_Model_bit ph).1, trivial⟩
theorem ok_Model_codeOf (ph : Bool) : zOk y_Model_codeOf (.code y_Model_codeOf prog_34_method_31_code 4 none) 2 42 ph (X_Model_codeOf ph) := zMd_ok (plainFor_of_name (by decide)) rfl (fun h => by cases h) v_Model_codeOf (k_Model_codeOf ph) (a_Model_codeOf ph)

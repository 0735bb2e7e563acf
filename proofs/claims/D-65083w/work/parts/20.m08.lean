/-! printed by gen_all.py -/
def y_Sorted_readSigns : MethodName := ⟨"PackingHouse$Sorted", "readSigns", "(LPackingHouse$Source;)V"⟩
theorem v_Sorted_readSigns : zTv prog_27_method_16_code 5 20 false t_Sorted_readSigns = true := by decide +kernel
theorem k_Sorted_readSigns (ph : Bool) : zcKey (c_Sorted_readSigns ph) t_Sorted_readSigns = true := by cases ph <;> decide +kernel
theorem f_Sorted_readSigns : zfV y_Sorted_readSigns prog_27_method_16_code 5 none 18 1 := ⟨zq2 (q := (8, 44)) rfl, zq2 (q := (8, 43)) rfl, zq2 (q := (1, 20)) rfl, zq2 (q := (104, 0)) rfl, ⟨by decide, by decide⟩, by decide +kernel⟩
theorem a_Sorted_readSigns (ph : Bool) : zcAll 20 10 176 ph (c_Sorted_readSigns ph) := ⟨zkV (o := 20) (i := 198) f_Source_highBits (by decide) (ok_Source_highBits ph) (zq2 (q := (8, 31)) rfl), zvt_m (ok_Source_highBits ph).1, zkV (o := 20) (i := 204) f_Source_highBit (by decide) (ok_Source_highBit ph) (zq2 (q := (8, 40)) rfl), zvt_m (ok_Source_highBit ph).1, zkV (o := 20) (i := 208) f_Source_fault (by decide) (ok_Source_fault ph) (zq2 (q := (8, 30)) rfl), zvt_m (ok_Source_fault ph).1, trivial⟩
theorem ok_Sorted_readSigns (ph : Bool) : zOk y_Sorted_readSigns (.code y_Sorted_readSigns prog_27_method_16_code 5 none) 10 176 ph (X_Sorted_readSigns ph) := zMd_ok (plainFor_of_name (by decide)) rfl (fun h => by cases h) v_Sorted_readSigns (k_Sorted_readSigns ph) (a_Sorted_readSigns ph)
def y_Sorted_readChoices : MethodName := ⟨"PackingHouse$Sorted", "readChoices", "(LPackingHouse$Source;I)I"⟩
theorem v_Sorted_readChoices : zTv prog_27_method_17_code 7 20 false t_Sorted_readChoices = true := by decide +kernel
theorem k_Sorted_readChoices (ph : Bool) : zcKey (c_Sorted_readChoices ph) t_Sorted_readChoices = true := by cases ph <;> decide +kernel
theorem f_Sorted_readChoices : zfV y_Sorted_readChoices prog_27_method_17_code 7 (some .int) 18 2 := ⟨zq2 (q := (8, 48)) rfl, zq2 (q := (8, 47)) rfl, zq2 (q := (1, 20)) rfl, zq2 (q := (104, 1)) rfl, ⟨by decide, by decide⟩, by decide +kernel⟩
theorem a_Sorted_readChoices (ph : Bool) : zcAll 20 10 176 ph (c_Sorted_readChoices ph) := ⟨zck_acopy (o := 20) (i := 88) (by decide) (by decide) (zq2 (q := (6, 157)) rfl) w_acn w_acs w_aci, X_acopy_m, zkV (o := 20) (i := 198) f_Source_highBits (by decide) (ok_Source_highBits ph) (zq2 (q := (8, 31)) rfl), zvt_m (ok_Source_highBits ph).1, zkV (o := 20) (i := 204) f_Source_highBit (by decide) (ok_Source_highBit ph) (zq2 (q := (8, 40)) rfl), zvt_m (ok_Source_highBit ph).1, zkV (o := 20) (i := 208) f_Source_fault (by decide) (ok_Source_fault ph) (zq2 (q := (8, 30)) rfl), zvt_m (ok_Source_fault ph).1, trivial⟩
theorem ok_Sorted_readChoices (ph : Bool) : zOk y_Sorted_readChoices (.code y_Sorted_readChoices prog_27_method_17_code 7 (some .int)) 10 176 ph (X_Sorted_readChoices ph) := zMd_ok (plainFor_of_name (by decide)) rfl (fun h => by cases h) v_Sorted_readChoices (k_Sorted_readChoices ph) (a_Sorted_readChoices ph)
def y_Code_isOver : MethodName := ⟨"PackingHouse$Code", "isOve\x72", "()Z"⟩
theorem v_Code_isOver : zTv prog_7_method_5_code 1 11 false t_Code_isOver = true := by decide +kernel
theorem k_Code_isOver (ph : Bool) : zcKey (c_Code_isOver ph) t_Code_isOver = true := by cases ph <;> decide +kernel
theorem f_Code_isOver : zfV y_Code_isOver prog_7_method_5_code 1 (some .boolean) 10 0 := ⟨zq2 (q := (8, 58)) rfl, zq2 (q := (8, 56)) rfl, zq2 (q := (1, 11)) rfl, zq2 (q := (8, 57)) rfl, ⟨by decide, by decide⟩, by decide +kernel⟩
theorem a_Code_isOver (ph : Bool) : zcAll 11 0 0 ph (c_Code_isOver ph) := trivial
theorem ok_Code_isOver (ph : Bool) : zOk y_Code_isOver (.code y_Code_isOver prog_7_method_5_code 1 (some .boolean)) 0 0 ph (X_Code_isOver ph) := zMd_ok (plainFor_of_name (by decide)) rfl (fun h => by cases h) v_Code_isOver (k_Code_isOver ph) (a_Code_isOver ph)
def y_Sorted_readLengths : MethodName := ⟨"PackingHouse$Sorted", "readLengths", "(LPackingHouse$Source;LPackingHouse$Code;)V"⟩
theorem v_Sorted_readLengths : zTv prog_27_method_18_code 5 20 false t_Sorted_readLengths = true := by decide +kernel
theorem k_Sorted_readLengths (ph : Bool) : zcKey (c_Sorted_readLengths ph) t_Sorted_readLengths = true := by cases ph <;> decide +kernel
theorem f_Sorted_readLengths : zfV y_Sorted_readLengths prog_27_method_18_code 5 none 18 2 := ⟨zq2 (q := (8, 52)) rfl, zq2 (q := (8, 51)) rfl, zq2 (q := (1, 20)) rfl, zq2 (q := (104, 2)) rfl, ⟨by decide, by decide⟩, by decide +kernel⟩
theorem a_Sorted_readLengths (ph : Bool) : zcAll 20 10 176 ph (c_Sorted_readLengths ph) := ⟨zkV (o := 20) (i := 198) f_Source_highBits (by decide) (ok_Source_highBits ph) (zq2 (q := (8, 31)) rfl), zvt_m (ok_Source_highBits ph).1, zkV (o := 20) (i := 204) f_Source_highBit (by decide) (ok_Source_highBit ph) (zq2 (q := (8, 40)) rfl), zvt_m (ok_Source_highBit ph).1, zkV (o := 20) (i := 208) f_Source_fault (by decide) (ok_Source_fault ph) (zq2 (q := (8, 30)) rfl), zvt_m (ok_Source_fault ph).1, zkV (o := 20) (i := 212) f_Code_begin (by decide) (ok_Code_begin ph) (zq2 (q := (8, 53)) rfl), zvt_m (ok_Code_begin ph).1, zkV (o := 20) (i := 214) f_Code_make (by decide) (ok_Code_make ph) (zq2 (q := (8, 54)) rfl), zvt_m (ok_Code_make ph).1, zkV (o := 20) (i := 217) f_Code_isOver (by decide) (ok_Code_isOver ph) (zq2 (q := (8, 55)) rfl), zvt_m (ok_Code_isOver ph).1, trivial⟩
theorem ok_Sorted_readLengths (ph : Bool) : zOk y_Sorted_readLengths (.code y_Sorted_readLengths prog_27_method_18_code 5 none) 10 176 ph (X_Sorted_readLengths ph) := zMd_ok (plainFor_of_name (by decide)) rfl (fun h => by cases h) v_Sorted_readLengths (k_Sorted_readLengths ph) (a_Sorted_readLengths ph)
def y_Sorted_addRun : MethodName := ⟨"PackingHouse$Sorted", "addRun", "(LPackingHouse$Source;I)V"⟩
theorem v_Sorted_addRun : zTv prog_27_method_19_code 4 20 false t_Sorted_addRun = true := by decide +kernel
theorem k_Sorted_addRun (ph : Bool) : zcKey (c_Sorted_addRun ph) t_Sorted_addRun = true := by cases ph <;> decide +kernel
theorem f_Sorted_addRun : zfV y_Sorted_addRun prog_27_method_19_code 4 none 18 2 := ⟨zq2 (q := (8, 67)) rfl, zq2 (q := (8, 66)) rfl, zq2 (q := (1, 20)) rfl, zq2 (q := (104, 4)) rfl, ⟨by decide, by decide⟩, by decide +kernel⟩
theorem a_Sorted_addRun (ph : Bool) : zcAll 20 8 133 ph (c_Sorted_addRun ph) := ⟨zkV (o := 20) (i := 81) f_Row_add (by decide) (ok_Row_add ph) (zq2 (q := (6, 140)) rfl), zvt_m (ok_Row_add ph).1, zkV (o := 20) (i := 208) f_Source_fault (by decide) (ok_Source_fault ph) (zq2 (q := (8, 30)) rfl), zvt_m (ok_Source_fault ph).1, trivial⟩
theorem ok_Sorted_addRun (ph : Bool) : zOk y_Sorted_addRun (.code y_Sorted_addRun prog_27_method_19_code 4 none) 8 133 ph (X_Sorted_addRun ph) := zMd_ok (plainFor_of_name (by decide)) rfl (fun h => by cases h) v_Sorted_addRun (k_Sorted_addRun ph) (a_Sorted_addRun ph)
def y_Sorted_readSymbols : MethodName := ⟨"PackingHouse$Sorted", "readSymbols", "(LPackingHouse$Source;I)V"⟩
theorem v_Sorted_readSymbols : zTv prog_27_method_20_code 7 20 false t_Sorted_readSymbols = true := by decide +kernel
theorem k_Sorted_readSymbols (ph : Bool) : zcKey (c_Sorted_readSymbols ph) t_Sorted_readSymbols = true := by cases ph <;> decide +kernel
theorem f_Sorted_readSymbols : zfV y_Sorted_readSymbols prog_27_method_20_code 7 none 18 2 := ⟨zq2 (q := (8, 62)) rfl, zq2 (q := (8, 61)) rfl, zq2 (q := (1, 20)) rfl, zq2 (q := (104, 3)) rfl, ⟨by decide, by decide⟩, by decide +kernel⟩
theorem a_Sorted_readSymbols (ph : Bool) : zcAll 20 10 180 ph (c_Sorted_readSymbols ph) := ⟨zkV (o := 20) (i := 100) f_Sorted_bring (by decide) (ok_Sorted_bring ph) (zq2 (q := (6, 179)) rfl), zvt_m (ok_Sorted_bring ph).1, zkV (o := 20) (i := 208) f_Source_fault (by decide) (ok_Source_fault ph) (zq2 (q := (8, 30)) rfl), zvt_m (ok_Source_fault ph).1, zkV (o := 20) (i := 221) f_Code_read (by decide) (ok_Code_read ph) (zq2 (q := (8, 63)) rfl), zvt_m (ok_Code_read ph).1, zkV (o := 20) (i := 225) f_Sorted_addRun (by decide) (ok_Sorted_addRun ph) (zq2 (q := (8, 64)) rfl), zvt_m (ok_Sorted_addRun ph).1, trivial⟩
theorem ok_Sorted_readSymbols (ph : Bool) : zOk y_Sorted_readSymbols (.code y_Sorted_readSymbols prog_27_method_20_code 7 none) 10 180 ph (X_Sorted_readSymbols ph) := zMd_ok (plainFor_of_name (by decide)) rfl (fun h => by cases h) v_Sorted_readSymbols (k_Sorted_readSymbols ph) (a_Sorted_readSymbols ph)
def y_Sorted_turnBack : MethodName := ⟨"PackingHouse$Sorted", "turnBack", "(I)V"⟩
theorem v_Sorted_turnBack : zTv prog_27_method_21_code 6 20 false t_Sorted_turnBack = true := by decide +kernel
theorem k_Sorted_turnBack (ph : Bool) : zcKey (c_Sorted_turnBack ph) t_Sorted_turnBack = true := by cases ph <;> decide +kernel
theorem f_Sorted_turnBack : zfV y_Sorted_turnBack prog_27_method_21_code 6 none 18 1 := ⟨zq2 (q := (8, 71)) rfl, zq2 (q := (8, 70)) rfl, zq2 (q := (1, 20)) rfl, zq2 (q := (104, 5)) rfl, ⟨by decide, by decide⟩, by decide +kernel⟩
theorem a_Sorted_turnBack (ph : Bool) : zcAll 20 1 21 ph (c_Sorted_turnBack ph) := ⟨zkV (o := 20) (i := 71) f_Row_get (by decide) (ok_Row_get ph) (zq2 (q := (6, 139)) rfl), zvt_m (ok_Row_get ph).1, trivial⟩
theorem ok_Sorted_turnBack (ph : Bool) : zOk y_Sorted_turnBack (.code y_Sorted_turnBack prog_27_method_21_code 6 none) 1 21 ph (X_Sorted_turnBack ph) := zMd_ok (plainFor_of_name (by decide)) rfl (fun h => by cases h) v_Sorted_turnBack (k_Sorted_turnBack ph) (a_Sorted_turnBack ph)
def y_Sorted_isFourth : MethodName := ⟨"PackingHouse$Sorted", "isFourth", "(I)Z"⟩
theorem v_Sorted_isFourth : zTv prog_27_method_22_code 1 20 false t_Sorted_isFourth = true := by decide +kernel
theorem k_Sorted_isFourth (ph : Bool) : zcKey (c_Sorted_isFourth ph) t_Sorted_isFourth = true := by cases ph <;> decide +kernel
theorem f_Sorted_isFourth : zfS y_Sorted_isFourth prog_27_method_22_code 1 (some .boolean) 1 := ⟨zq2 (q := (8, 78)) rfl, zq2 (q := (8, 77)) rfl, zq2 (q := (1, 20)) rfl, ⟨by decide, by decide⟩, by decide +kernel⟩
theorem a_Sorted_isFourth (ph : Bool) : zcAll 20 0 0 ph (c_Sorted_isFourth ph) := trivial
theorem ok_Sorted_isFourth (ph : Bool) : zOk y_Sorted_isFourth (.code y_Sorted_isFourth prog_27_method_22_code 1 (some .boolean)) 0 0 ph (X_Sorted_isFourth ph) := zMd_ok (plainFor_of_name (by decide)) rfl (fun h => by cases h) v_Sorted_isFourth (k_Sorted_isFourth ph) (a_Sorted_isFourth ph)
def y_Sorted_comeOut : MethodName := ⟨"PackingHouse$Sorted", "comeOut", "(LPackingHouse;LPackingHouse$Source;LPackingHouse$Out;)I"⟩
theorem v_Sorted_comeOut : zTv prog_27_method_23_code 11 20 false t_Sorted_comeOut = true := by decide +kernel
theorem k_Sorted_comeOut (ph : Bool) : zcKey (c_Sorted_comeOut ph) t_Sorted_comeOut = true := by cases ph <;> decide +kernel
theorem f_Sorted_comeOut : zfV y_Sorted_comeOut prog_27_method_23_code 11 (some .int) 18 3 := ⟨zq2 (q := (8, 75)) rfl, zq2 (q := (8, 74)) rfl, zq2 (q := (1, 20)) rfl, zq2 (q := (104, 6)) rfl, ⟨by decide, by decide⟩, by decide +kernel⟩
theorem a_Sorted_comeOut (ph : Bool) : zcAll 20 9 154 ph (c_Sorted_comeOut ph) := ⟨zkV (o := 20) (i := 208) f_Source_fault (by decide) (ok_Source_fault ph) (zq2 (q := (8, 30)) rfl), zvt_m (ok_Source_fault ph).1, zkS (o := 20) (i := 232) f_Sorted_isFourth (by decide) (ok_Sorted_isFourth ph) (zq2 (q := (8, 76)) rfl), (ok_Sorted_isFourth ph).1, zkV (o := 20) (i := 235) f_Out_come (by decide) (ok_Out_come ph) (zq2 (q := (8, 79)) rfl), zvt_m (ok_Out_come ph).1, zkV (o := 20) (i := 240) f_Sums_turnedBy (by decide) (ok_Sums_turnedBy ph) (zq2 (q := (8, 80)) rfl), zvt_m (ok_Sums_turnedBy ph).1, trivial⟩
theorem ok_Sorted_comeOut (ph : Bool) : zOk y_Sorted_comeOut (.code y_Sorted_comeOut prog_27_method_23_code 11 (some .int)) 9 154 ph (X_Sorted_comeOut ph) := zMd_ok (plainFor_of_name (by decide)) rfl (fun h => by cases h) v_Sorted_comeOut (k_Sorted_comeOut ph) (a_Sorted_comeOut ph)
def y_Sorted_openBlock : MethodName := ⟨"PackingHouse$Sorted", "openBlock", "(LPackingHouse;LPackingHouse$Source;LPackingHouse$Out;)I"⟩
theorem v_Sorted_openBlock : zTv prog_27_method_24_code 9 20 false t_Sorted_openBlock = true := by decide +kernel
theorem k_Sorted_openBlock (ph : Bool) : zcKey (c_Sorted_openBlock ph) t_Sorted_openBlock = true := by cases ph <;> decide +kernel
theorem f_Sorted_openBlock : zfV y_Sorted_openBlock prog_27_method_24_code 9 (some .int) 18 3 := ⟨zq2 (q := (8, 39)) rfl, zq2 (q := (8, 38)) rfl, zq2 (q := (1, 20)) rfl, zq2 (q := (103, 15)) rfl, ⟨by decide, by decide⟩, by decide +kernel⟩
theorem a_Sorted_openBlock (ph : Bool) : zcAll 20 11 206 ph (c_Sorted_openBlock ph) := ⟨zkV (o := 20) (i := 198) f_Source_highBits (by decide) (ok_Source_highBits ph) (zq2 (q := (8, 31)) rfl), zvt_m (ok_Source_highBits ph).1, zkV (o := 20) (i := 204) f_Source_highBit (by decide) (ok_Source_highBit ph) (zq2 (q := (8, 40)) rfl), zvt_m (ok_Source_highBit ph).1, zkV (o := 20) (i := 208) f_Source_fault (by decide) (ok_Source_fault ph) (zq2 (q := (8, 30)) rfl), zvt_m (ok_Source_fault ph).1, zkV (o := 20) (i := 243) f_Sorted_readSigns (by decide) (ok_Sorted_readSigns ph) (zq2 (q := (8, 41)) rfl), zvt_m (ok_Sorted_readSigns ph).1, zkV (o := 20) (i := 247) f_Sorted_readChoices (by decide) (ok_Sorted_readChoices ph) (zq2 (q := (8, 45)) rfl), zvt_m (ok_Sorted_readChoices ph).1, zkV (o := 20) (i := 251) f_Sorted_readLengths (by decide) (ok_Sorted_readLengths ph) (zq2 (q := (8, 49)) rfl), zvt_m (ok_Sorted_readLengths ph).1, zkV (o := 20) (i := 255) f_Sorted_readSymbols (by decide) (ok_Sorted_readSymbols ph) (zq2 (q := (8, 59)) rfl), zvt_m (ok_Sorted_readSymbols ph).1, zkV (o := 20) (i := 258) f_Sorted_turnBack (by decide) (ok_Sorted_turnBack ph) (zq2 (q := (8, 68)) rfl), zvt_m (ok_Sorted_turnBack ph).1, zkV (o := 20) (i := 261) f_Sorted_comeOut (by decide) (ok_Sorted_comeOut ph) (zq2 (q := (8, 72)) rfl), zvt_m (ok_Sorted_comeOut ph).1, trivial⟩
theorem ok_Sorted_openBlock (ph : Bool) : zOk y_Sorted_openBlock (.code y_Sorted_openBlock prog_27_method_24_code 9 (some .int)) 11 206 ph (X_Sorted_openBlock ph) := zMd_ok (plainFor_of_name (by decide)) rfl (fun h => by cases h) v_Sorted_openBlock (k_Sorted_openBlock ph) (a_Sorted_openBlock ph)
def y_Sorted_open : MethodName := ⟨"PackingHouse$Sorted", "open", "(LPackingHouse;LPackingHouse$Source;LPackingHouse$Out;)V"⟩
theorem v_Sorted_open : zTv prog_27_method_25_code 8 20 false t_Sorted_open = true := by decide +kernel
theorem k_Sorted_open (ph : Bool) : zcKey (c_Sorted_open ph) t_Sorted_open = true := by cases ph <;> decide +kernel
theorem a_Sorted_open (ph : Bool) : zcAll 20 12 234 ph (c_Sorted_open ph) := ⟨zkS (o := 20) (i := 186) f_Integer_rotateLeft (by decide) (ok_Integer_rotateLeft ph) (zq2 (q := (6, 194)) rfl), (ok_Integer_rotateLeft ph).1, zkV (o := 20) (i := 198) f_Source_highBits (by decide) (ok_Source_highBits ph) (zq2 (q := (8, 31)) rfl), zvt_m (ok_Source_highBits ph).1, zkV (o := 20) (i := 208) f_Source_fault (by decide) (ok_Source_fault ph) (zq2 (q := (8, 30)) rfl), zvt_m (ok_Source_fault ph).1, zkV (o := 20) (i := 265) f_Source_octet (by decide) (ok_Source_octet ph) (zq2 (q := (8, 29)) rfl), zvt_m (ok_Source_octet ph).1, zkV (o := 20) (i := 268) f_Sorted_openBlock (by decide) (ok_Sorted_openBlock ph) (zq2 (q := (8, 36)) rfl), zvt_m (ok_Sorted_openBlock ph).1, zkV (o := 20) (i := 271) f_Source_ends (by decide) (ok_Source_ends ph) (zq2 (q := (8, 81)) rfl), zvt_m (ok_Source_ends ph).1, trivial⟩
theorem ok_Sorted_open (ph : Bool) : zOk y_Sorted_open (.code y_Sorted_open prog_27_method_25_code 8 none) 12 234 ph (X_Sorted_open ph) := zMd_ok (plainFor_of_name (by decide)) rfl (fun h => by cases h) v_Sorted_open (k_Sorted_open ph) (a_Sorted_open ph)
def y_Words_first : MethodName := ⟨"PackingHouse$Words", "first", "(I)I"⟩
theorem v_Words_first : zTv prog_32_method_7_code 3 15 false t_Words_first = true := by decide +kernel
theorem k_Words_first (ph : Bool) : zcKey (c_Words_first ph) t_Words_first = true := by cases ph <;> decide +kernel
theorem f_Words_first : zfV y_Words_first prog_32_method_7_code 3 (some .int) 13 1 := ⟨zq2 (q := (8, 90)) rfl, zq2 (q := (8, 89)) rfl, zq2 (q := (1, 15)) rfl, zq2 (q := (104, 7)) rfl, ⟨by decide, by decide⟩, by decide +kernel⟩
theorem a_Words_first (ph : Bool) : zcAll 15 0 0 ph (c_Words_first ph) := trivial
theorem ok_Words_first (ph : Bool) : zOk y_Words_first (.code y_Words_first prog_32_method_7_code 3 (some .int)) 0 0 ph (X_Words_first ph) := zMd_ok (plainFor_of_name (by decide)) rfl (fun h => by cases h) v_Words_first (k_Words_first ph) (a_Words_first ph)
def y_Words_come : MethodName := ⟨"PackingHouse$Words", "come", "(LPackingHouse$Out;I)V"⟩
theorem v_Words_come : zTv prog_32_method_8_code 6 15 false t_Words_come = true := by decide +kernel
theorem k_Words_come (ph : Bool) : zcKey (c_Words_come ph) t_Words_come = true := by cases ph <;> decide +kernel
theorem f_Words_come : zfV y_Words_come prog_32_method_8_code 6 none 13 2 := ⟨zq2 (q := (8, 94)) rfl, zq2 (q := (8, 93)) rfl, zq2 (q := (1, 15)) rfl, zq2 (q := (104, 8)) rfl, ⟨by decide, by decide⟩, by decide +kernel⟩
theorem a_Words_come (ph : Bool) : zcAll 15 9 154 ph (c_Words_come ph) := ⟨zkV (o := 15) (i := 82) f_Out_come (by decide) (ok_Out_come ph) (zq2 (q := (8, 95)) rfl), zvt_m (ok_Out_come ph).1, trivial⟩
theorem ok_Words_come (ph : Bool) : zOk y_Words_come (.code y_Words_come prog_32_method_8_code 6 none) 9 154 ph (X_Words_come ph) := zMd_ok (plainFor_of_name (by decide)) rfl (fun h => by cases h) v_Words_come (k_Words_come ph) (a_Words_come ph)
def y_Words_open : MethodName := ⟨"PackingHouse$Words", "open", "(LPackingHouse;LPackingHouse$Source;LPackingHouse$Out;)V"⟩
theorem v_Words_open : zTv prog_32_method_9_code 7 15 false t_Words_open = true := by decide +kernel
theorem k_Words_open (ph : Bool) : zcKey (c_Words_open ph) t_Words_open = true := by cases ph <;> decide +kernel
theorem a_Words_open (ph : Bool) : zcAll 15 10 179 ph (c_Words_open ph) := ⟨zkV (o := 15) (i := 57) f_Words_clear (by decide) (ok_Words_clear ph) (zq2 (q := (6, 203)) rfl), zvt_m (ok_Words_clear ph).1, zkS (o := 15) (i := 72) f_Words_width (by decide) (ok_Words_width ph) (zq2 (q := (6, 212)) rfl), (ok_Words_width ph).1, zkV (o := 15) (i := 75) f_Words_enter (by decide) (ok_Words_enter ph) (zq2 (q := (6, 220)) rfl), zvt_m (ok_Words_enter ph).1, zkV (o := 15) (i := 88) f_Source_lowBits (by decide) (ok_Source_lowBits ph) (zq2 (q := (8, 85)) rfl), zvt_m (ok_Source_lowBits ph).1, zkV (o := 15) (i := 93) f_Source_fault (by decide) (ok_Source_fault ph) (zq2 (q := (8, 86)) rfl), zvt_m (ok_Source_fault ph).1, zkV (o := 15) (i := 97) f_Words_first (by decide) (ok_Words_first ph) (zq2 (q := (8, 87)) rfl), zvt_m (ok_Words_first ph).1, zkV (o := 15) (i := 100) f_Words_come (by decide) (ok_Words_come ph) (zq2 (q := (8, 91)) rfl), zvt_m (ok_Words_come ph).1, zkV (o := 15) (i := 103) f_Source_ends (by decide) (ok_Source_ends ph) (zq2 (q := (8, 96)) rfl), zvt_m (ok_Source_ends ph).1, trivial⟩
theorem ok_Words_open (ph : Bool) : zOk y_Words_open (.code y_Words_open prog_32_method_9_code 7 none) 10 179 ph (X_Words_open ph) := zMd_ok (plainFor_of_name (by decide)) rfl (fun h => by cases h) v_Words_open (k_Words_open ph) (a_Words_open ph)
def y_House_fails : MethodName := ⟨"PackingHouse", "fails", "(LPackingHouse$Fault;I)I"⟩
theorem v_House_fails : zTv prog_1_method_21_code 3 0 false t_House_fails = true := by decide +kernel
theorem k_House_fails (ph : Bool) : zcKey (c_House_fails ph) t_House_fails = true := by cases ph <;> decide +kernel
theorem f_House_fails : zfV y_House_fails prog_1_method_21_code 3 (some .int) 1 2 := ⟨zq2 (q := (8, 100)) rfl, zq2 (q := (8, 99)) rfl, zq2 (q := (1, 1)) rfl, zq2 (q := (104, 9)) rfl, ⟨by decide, by decide⟩, by decide +kernel⟩
theorem a_House_fails (ph : Bool) : zcAll 0 0 0 ph (c_House_fails ph) := trivial
theorem ok_House_fails (ph : Bool) : zOk y_House_fails (.code y_House_fails prog_1_method_21_code 3 (some .int)) 0 0 ph (X_House_fails ph) := zMd_ok (plainFor_of_name (by decide)) rfl (fun h => by cases h) v_House_fails (k_House_fails ph) (a_House_fails ph)
def y_House_works : MethodName := ⟨"PackingHouse", "works", "(I)V"⟩
theorem v_House_works : zTv prog_1_method_22_code 2 0 false t_House_works = true := by decide +kernel
theorem k_House_works (ph : Bool) : zcKey (c_House_works ph) t_House_works = true := by cases ph <;> decide +kernel
theorem f_House_works : zfV y_House_works prog_1_method_22_code 2 none 1 1 := ⟨zq2 (q := (8, 104)) rfl, zq2 (q := (8, 103)) rfl, zq2 (q := (1, 1)) rfl, zq2 (q := (104, 10)) rfl, ⟨by decide, by decide⟩, by decide +kernel⟩
theorem a_House_works (ph : Bool) : zcAll 0 0 0 ph (c_House_works ph) := trivial
theorem ok_House_works (ph : Bool) : zOk y_House_works (.code y_House_works prog_1_method_22_code 2 none) 0 0 ph (X_House_works ph) := zMd_ok (plainFor_of_name (by decide)) rfl (fun h => by cases h) v_House_works (k_House_works ph) (a_House_works ph)
def y_House_fault : MethodName := ⟨"PackingHouse", "fault", "(I)I"⟩
theorem v_House_fault : zTv prog_1_method_24_code 2 0 false t_House_fault = true := by decide +kernel
theorem k_House_fault (ph : Bool) : zcKey (c_House_fault ph) t_House_fault = true := by cases ph <;> decide +kernel
theorem f_House_fault : zfV y_House_fault prog_1_method_24_code 2 (some .int) 1 1 := ⟨zq2 (q := (8, 108)) rfl, zq2 (q := (8, 106)) rfl, zq2 (q := (1, 1)) rfl, zq2 (q := (8, 107)) rfl, ⟨by decide, by decide⟩, by decide +kernel⟩
theorem a_House_fault (ph : Bool) : zcAll 0 0 0 ph (c_House_fault ph) := trivial
theorem ok_House_fault (ph : Bool) : zOk y_House_fault (.code y_House_fault prog_1_method_24_code 2 (some .int)) 0 0 ph (X_House_fault ph) := zMd_ok (plainFor_of_name (by decide)) rfl (fun h => by cases h) v_House_fault (k_House_fault ph) (a_House_fault ph)
def y_House_token : MethodName := ⟨"PackingHouse", "token", "(II)I"⟩
theorem v_House_token : zTv prog_1_method_25_code 4 0 false t_House_token = true := by decide +kernel
theorem k_House_token (ph : Bool) : zcKey (c_House_token ph) t_House_token = true := by cases ph <;> decide +kernel
theorem f_House_token : zfV y_House_token prog_1_method_25_code 4 (some .int) 1 2 := ⟨zq2 (q := (8, 112)) rfl, zq2 (q := (8, 110)) rfl, zq2 (q := (1, 1)) rfl, zq2 (q := (8, 111)) rfl, ⟨by decide, by decide⟩, by decide +kernel⟩
theorem a_House_token (ph : Bool) : zcAll 0 1 25 ph (c_House_token ph) := ⟨zkS (o := 0) (i := 165) f_House_isIn (by decide) (ok_House_isIn ph) (zq2 (q := (4, 187)) rfl), (ok_House_isIn ph).1, trivial⟩
theorem ok_House_token (ph : Bool) : zOk y_House_token (.code y_House_token prog_1_method_25_code 4 (some .int)) 1 25 ph (X_House_token ph) := zMd_ok (plainFor_of_name (by decide)) rfl (fun h => by cases h) v_House_token (k_House_token ph) (a_House_token ph)
def y_House_bits : MethodName := ⟨"PackingHouse", "bits", "()I"⟩
theorem v_House_bits : zTv prog_1_method_26_code 1 0 false t_House_bits = true := by decide +kernel
theorem k_House_bits (ph : Bool) : zcKey (c_House_bits ph) t_House_bits = true := by cases ph <;> decide +kernel
theorem f_House_bits : zfV y_House_bits prog_1_method_26_code 1 (some .int) 1 0 := ⟨zq2 (q := (8, 116)) rfl, zq2 (q := (8, 114)) rfl, zq2 (q := (1, 1)) rfl, zq2 (q := (8, 115)) rfl, ⟨by decide, by decide⟩, by decide +kernel⟩
theorem a_House_bits (ph : Bool) : zcAll 0 0 0 ph (c_House_bits ph) := trivial
theorem ok_House_bits (ph : Bool) : zOk y_House_bits (.code y_House_bits prog_1_method_26_code 1 (some .int)) 0 0 ph (X_House_bits ph) := zMd_ok (plainFor_of_name (by decide)) rfl (fun h => by cases h) v_House_bits (k_House_bits ph) (a_House_bits ph)
def y_House_name : MethodName := ⟨"PackingHouse", "name", "(JI)I"⟩
theorem v_House_name : zTv prog_1_method_27_code 5 0 false t_House_name = true := by decide +kernel
theorem k_House_name (ph : Bool) : zcKey (c_House_name ph) t_House_name = true := by cases ph <;> decide +kernel
theorem f_House_name : zfV y_House_name prog_1_method_27_code 5 (some .int) 1 2 := ⟨zq2 (q := (8, 120)) rfl, zq2 (q := (8, 118)) rfl, zq2 (q := (1, 1)) rfl, zq2 (q := (8, 119)) rfl, ⟨by decide, by decide⟩, by decide +kernel⟩
theorem a_House_name (ph : Bool) : zcAll 0 3 69 ph (c_House_name ph) := ⟨zkS (o := 0) (i := 165) f_House_isIn (by decide) (ok_House_isIn ph) (zq2 (q := (4, 187)) rfl), (ok_House_isIn ph).1, zkS (o := 0) (i := 177) f_House_append (by decide) (ok_House_append ph) (zq2 (q := (4, 183)) rfl), (ok_House_append ph).1, trivial⟩
theorem ok_House_name (ph : Bool) : zOk y_House_name (.code y_House_name prog_1_method_27_code 5 (some .int)) 3 69 ph (X_House_name ph) := zMd_ok (plainFor_of_name (by decide)) rfl (fun h => by cases h) v_House_name (k_House_name ph) (a_House_name ph)
def y_House_entry : MethodName := ⟨"PackingHouse", "entry", "(III)I"⟩
theorem v_House_entry : zTv prog_1_method_28_code 6 0 false t_House_entry = true := by decide +kernel
theorem k_House_entry (ph : Bool) : zcKey (c_House_entry ph) t_House_entry = true := by cases ph <;> decide +kernel
theorem f_House_entry : zfV y_House_entry prog_1_method_28_code 6 (some .int) 1 3 := ⟨zq2 (q := (8, 124)) rfl, zq2 (q := (8, 122)) rfl, zq2 (q := (1, 1)) rfl, zq2 (q := (8, 123)) rfl, ⟨by decide, by decide⟩, by decide +kernel⟩
theorem a_House_entry (ph : Bool) : zcAll 0 2 81 ph (c_House_entry ph) := ⟨zkS (o := 0) (i := 165) f_House_isIn (by decide) (ok_House_isIn ph) (zq2 (q := (4, 187)) rfl), (ok_House_isIn ph).1, zkV (o := 0) (i := 221) f_Row_copy (by decide) (ok_Row_copy ph) (zq2 (q := (5, 48)) rfl), zvt_m (ok_Row_copy ph).1, zkV (o := 0) (i := 225) f_House_stream (by decide) (ok_House_stream ph) (zq2 (q := (5, 35)) rfl), zvt_m (ok_House_stream ph).1, trivial⟩
theorem ok_House_entry (ph : Bool) : zOk y_House_entry (.code y_House_entry prog_1_method_28_code 6 (some .int)) 2 81 ph (X_House_entry ph) := zMd_ok (plainFor_of_name (by decide)) rfl (fun h => by cases h) v_House_entry (k_House_entry ph) (a_House_entry ph)
def y_Bench_takes : MethodName := ⟨"PackingHouse$Bench", "takes", "(LPackingHouse$Entry;)Z"⟩
theorem v_Bench_takes : zTv prog_2_method_2_code 4 24 false t_Bench_takes = true := by decide +kernel
theorem k_Bench_takes (ph : Bool) : zcKey (c_Bench_takes ph) t_Bench_takes = true := by cases ph <;> decide +kernel
theorem a_Bench_takes (ph : Bool) : zcAll 24 1 21 ph (c_Bench_takes ph) := ⟨zkV (o := 24) (i := 21) f_Row_get (by decide) (ok_Row_get ph) (zq2 (q := (8, 138)) rfl), zvt_m (ok_Row_get ph).1, trivial⟩
theorem ok_Bench_takes (ph : Bool) : zOk y_Bench_takes (.code y_Bench_takes prog_2_method_2_code 4 (some .boolean)) 1 21 ph (X_Bench_takes ph) := zMd_ok (plainFor_of_name (by decide)) rfl (fun h => by cases h) v_Bench_takes (k_Bench_takes ph) (a_Bench_takes ph)
def y_Shelf_takes : MethodName := ⟨"PackingHouse$Shelf", "takes", "(LPackingHouse$Entry;)Z"⟩
theorem v_Shelf_takes : zTv prog_25_method_2_code 2 23 false t_Shelf_takes = true := by decide +kernel
theorem k_Shelf_takes (ph : Bool) : zcKey (c_Shelf_takes ph) t_Shelf_takes = true := by cases ph <;> decide +kernel
theorem a_Shelf_takes (ph : Bool) : zcAll 23 0 0 ph (c_Shelf_takes ph) := trivial
theorem ok_Shelf_takes (ph : Bool) : zOk y_Shelf_takes (.code y_Shelf_takes prog_25_method_2_code 2 (some .boolean)) 0 0 ph (X_Shelf_takes ph) := zMd_ok (plainFor_of_name (by decide)) rfl (fun h => by cases h) v_Shelf_takes (k_Shelf_takes ph) (a_Shelf_takes ph)
def y_Shelf_hasRoom : MethodName := ⟨"PackingHouse$Shelf", "hasRoom", "(LPackingHouse$Row;I)Z"⟩
theorem v_Shelf_hasRoom : zTv prog_25_method_5_code 2 23 false t_Shelf_hasRoom = true := by decide +kernel
theorem k_Shelf_hasRoom (ph : Bool) : zcKey (c_Shelf_hasRoom ph) t_Shelf_hasRoom = true := by cases ph <;> decide +kernel
theorem f_Shelf_hasRoom : zfS y_Shelf_hasRoom prog_25_method_5_code 2 (some .boolean) 2 := ⟨zq2 (q := (8, 193)) rfl, zq2 (q := (8, 192)) rfl, zq2 (q := (1, 22)) rfl, ⟨by decide, by decide⟩, by decide +kernel⟩
theorem a_Shelf_hasRoom (ph : Bool) : zcAll 23 0 0 ph (c_Shelf_hasRoom ph) := trivial
theorem ok_Shelf_hasRoom (ph : Bool) : zOk y_Shelf_hasRoom (.code y_Shelf_hasRoom prog_25_method_5_code 2 (some .boolean)) 0 0 ph (X_Shelf_hasRoom ph) := zMd_ok (plainFor_of_name (by decide)) rfl (fun h => by cases h) v_Shelf_hasRoom (k_Shelf_hasRoom ph) (a_Shelf_hasRoom ph)

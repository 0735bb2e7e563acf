/-! printed by gen_all.py -/
def y_Blocks_storedBlocks : MethodName := ⟨"PackingHouse$Blocks", "storedBlocks", "(LPackingHouse$Bits;LPackingHouse$Row;)V"⟩
theorem v_Blocks_storedBlocks : zTv prog_5_method_20_code 4 9 false t_Blocks_storedBlocks = true := by decide +kernel
theorem k_Blocks_storedBlocks (ph : Bool) : zcKey (c_Blocks_storedBlocks ph) t_Blocks_storedBlocks = true := by cases ph <;> decide +kernel
theorem f_Blocks_storedBlocks : zfS y_Blocks_storedBlocks prog_5_method_20_code 4 none 2 := ⟨zq2 (q := (5, 104)) rfl, zq2 (q := (5, 103)) rfl, zq2 (q := (1, 10)) rfl, ⟨by decide, by decide⟩, by decide +kernel⟩
theorem a_Blocks_storedBlocks (ph : Bool) : zcAll 9 4 89 ph (c_Blocks_storedBlocks ph) := ⟨zkS (o := 9) (i := 160) f_Math_min0 (by decide) (ok_Math_min0 ph) (zq2 (q := (5, 105)) rfl), (ok_Math_min0 ph).1, zkS (o := 9) (i := 166) f_Blocks_stored (by decide) (ok_Blocks_stored ph) (zq2 (q := (5, 106)) rfl), (ok_Blocks_stored ph).1, trivial⟩
theorem ok_Blocks_storedBlocks (ph : Bool) : zOk y_Blocks_storedBlocks (.code y_Blocks_storedBlocks prog_5_method_20_code 4 none) 4 89 ph (X_Blocks_storedBlocks ph) := zMd_ok (plainFor_of_name (by decide)) rfl (fun h => by cases h) v_Blocks_storedBlocks (k_Blocks_storedBlocks ph) (a_Blocks_storedBlocks ph)
def y_Matches_alike : MethodName := ⟨"PackingHouse$Matches", "alike", "(III)I"⟩
theorem v_Matches_alike : zTv prog_16_method_4_code 5 8 false t_Matches_alike = true := by decide +kernel
theorem k_Matches_alike (ph : Bool) : zcKey (c_Matches_alike ph) t_Matches_alike = true := by cases ph <;> decide +kernel
theorem f_Matches_alike : zfV y_Matches_alike prog_16_method_4_code 5 (some .int) 8 3 := ⟨zq2 (q := (5, 138)) rfl, zq2 (q := (5, 137)) rfl, zq2 (q := (1, 8)) rfl, zq2 (q := (101, 5)) rfl, ⟨by decide, by decide⟩, by decide +kernel⟩
theorem a_Matches_alike (ph : Bool) : zcAll 8 1 21 ph (c_Matches_alike ph) := ⟨zkV (o := 8) (i := 22) f_Row_get (by decide) (ok_Row_get ph) (zq2 (q := (5, 101)) rfl), zvt_m (ok_Row_get ph).1, trivial⟩
theorem ok_Matches_alike (ph : Bool) : zOk y_Matches_alike (.code y_Matches_alike prog_16_method_4_code 5 (some .int)) 1 21 ph (X_Matches_alike ph) := zMd_ok (plainFor_of_name (by decide)) rfl (fun h => by cases h) v_Matches_alike (k_Matches_alike ph) (a_Matches_alike ph)
def y_Matches_find : MethodName := ⟨"PackingHouse$Matches", "find", "(IIII)I"⟩
theorem v_Matches_find : zTv prog_16_method_5_code 8 8 false t_Matches_find = true := by decide +kernel
theorem k_Matches_find (ph : Bool) : zcKey (c_Matches_find ph) t_Matches_find = true := by cases ph <;> decide +kernel
theorem f_Matches_find : zfV y_Matches_find prog_16_method_5_code 8 (some .int) 8 4 := ⟨zq2 (q := (5, 133)) rfl, zq2 (q := (5, 131)) rfl, zq2 (q := (1, 8)) rfl, zq2 (q := (5, 132)) rfl, ⟨by decide, by decide⟩, by decide +kernel⟩
theorem a_Matches_find (ph : Bool) : zcAll 8 2 45 ph (c_Matches_find ph) := ⟨zkS (o := 8) (i := 36) f_Math_min0 (by decide) (ok_Math_min0 ph) (zq2 (q := (5, 134)) rfl), (ok_Math_min0 ph).1, zkV (o := 8) (i := 48) f_Matches_alike (by decide) (ok_Matches_alike ph) (zq2 (q := (5, 135)) rfl), zvt_m (ok_Matches_alike ph).1, trivial⟩
theorem ok_Matches_find (ph : Bool) : zOk y_Matches_find (.code y_Matches_find prog_16_method_5_code 8 (some .int)) 2 45 ph (X_Matches_find ph) := zMd_ok (plainFor_of_name (by decide)) rfl (fun h => by cases h) v_Matches_find (k_Matches_find ph) (a_Matches_find ph)
def y_Parse_add : MethodName := ⟨"PackingHouse$Parse", "add", "(II)V"⟩
theorem v_Parse_add : zTv prog_20_method_3_code 3 7 false t_Parse_add = true := by decide +kernel
theorem k_Parse_add (ph : Bool) : zcKey (c_Parse_add ph) t_Parse_add = true := by cases ph <;> decide +kernel
theorem f_Parse_add : zfV y_Parse_add prog_20_method_3_code 3 none 7 2 := ⟨zq2 (q := (5, 146)) rfl, zq2 (q := (5, 145)) rfl, zq2 (q := (1, 7)) rfl, zq2 (q := (101, 7)) rfl, ⟨by decide, by decide⟩, by decide +kernel⟩
theorem a_Parse_add (ph : Bool) : zcAll 7 0 0 ph (c_Parse_add ph) := trivial
theorem ok_Parse_add (ph : Bool) : zOk y_Parse_add (.code y_Parse_add prog_20_method_3_code 3 none) 0 0 ph (X_Parse_add ph) := zMd_ok (plainFor_of_name (by decide)) rfl (fun h => by cases h) v_Parse_add (k_Parse_add ph) (a_Parse_add ph)
def y_Parse_take : MethodName := ⟨"PackingHouse$Parse", "take", "(I)V"⟩
theorem v_Parse_take : zTv prog_20_method_4_code 2 7 false t_Parse_take = true := by decide +kernel
theorem k_Parse_take (ph : Bool) : zcKey (c_Parse_take ph) t_Parse_take = true := by cases ph <;> decide +kernel
theorem f_Parse_take : zfV y_Parse_take prog_20_method_4_code 2 none 7 1 := ⟨zq2 (q := (5, 142)) rfl, zq2 (q := (5, 141)) rfl, zq2 (q := (1, 7)) rfl, zq2 (q := (101, 6)) rfl, ⟨by decide, by decide⟩, by decide +kernel⟩
theorem a_Parse_take (ph : Bool) : zcAll 7 1 22 ph (c_Parse_take ph) := ⟨zkV (o := 7) (i := 48) f_Parse_add (by decide) (ok_Parse_add ph) (zq2 (q := (5, 143)) rfl), zvt_m (ok_Parse_add ph).1, trivial⟩
theorem ok_Parse_take (ph : Bool) : zOk y_Parse_take (.code y_Parse_take prog_20_method_4_code 2 none) 1 22 ph (X_Parse_take ph) := zMd_ok (plainFor_of_name (by decide)) rfl (fun h => by cases h) v_Parse_take (k_Parse_take ph) (a_Parse_take ph)
def y_Parse_greedy : MethodName := ⟨"PackingHouse$Parse", "greedy", "(LPackingHouse$Row;III)V"⟩
theorem v_Parse_greedy : zTv prog_20_method_6_code 5 7 false t_Parse_greedy = true := by decide +kernel
theorem k_Parse_greedy (ph : Bool) : zcKey (c_Parse_greedy ph) t_Parse_greedy = true := by cases ph <;> decide +kernel
theorem f_Parse_greedy : zfV y_Parse_greedy prog_20_method_6_code 5 none 7 4 := ⟨zq2 (q := (5, 128)) rfl, zq2 (q := (5, 126)) rfl, zq2 (q := (1, 7)) rfl, zq2 (q := (5, 127)) rfl, ⟨by decide, by decide⟩, by decide +kernel⟩
theorem a_Parse_greedy (ph : Bool) : zcAll 7 4 86 ph (c_Parse_greedy ph) := ⟨zkV (o := 7) (i := 61) f_Parse_take (by decide) (ok_Parse_take ph) (zq2 (q := (5, 139)) rfl), zvt_m (ok_Parse_take ph).1, zkV (o := 7) (i := 65) f_Parse_begin (by decide) (ok_Parse_begin ph) (zq2 (q := (5, 129)) rfl), zvt_m (ok_Parse_begin ph).1, zkV (o := 7) (i := 71) f_Matches_find (by decide) (ok_Matches_find ph) (zq2 (q := (5, 130)) rfl), zvt_m (ok_Matches_find ph).1, trivial⟩
theorem ok_Parse_greedy (ph : Bool) : zOk y_Parse_greedy (.code y_Parse_greedy prog_20_method_6_code 5 none) 4 86 ph (X_Parse_greedy ph) := zMd_ok (plainFor_of_name (by decide)) rfl (fun h => by cases h) v_Parse_greedy (k_Parse_greedy ph) (a_Parse_greedy ph)
def y_Bits_code : MethodName := ⟨"PackingHouse$Bits", "code", "(II)V"⟩
theorem v_Bits_code : zTv prog_3_method_6_code 4 5 false t_Bits_code = true := by decide +kernel
theorem k_Bits_code (ph : Bool) : zcKey (c_Bits_code ph) t_Bits_code = true := by cases ph <;> decide +kernel
theorem f_Bits_code : zfV y_Bits_code prog_3_method_6_code 4 none 5 2 := ⟨zq2 (q := (5, 160)) rfl, zq2 (q := (5, 158)) rfl, zq2 (q := (1, 5)) rfl, zq2 (q := (5, 159)) rfl, ⟨by decide, by decide⟩, by decide +kernel⟩
theorem a_Bits_code (ph : Bool) : zcAll 5 3 64 ph (c_Bits_code ph) := ⟨zkV (o := 5) (i := 32) f_Bits_low (by decide) (ok_Bits_low ph) (zq2 (q := (5, 161)) rfl), zvt_m (ok_Bits_low ph).1, trivial⟩
theorem ok_Bits_code (ph : Bool) : zOk y_Bits_code (.code y_Bits_code prog_3_method_6_code 4 none) 3 64 ph (X_Bits_code ph) := zMd_ok (plainFor_of_name (by decide)) rfl (fun h => by cases h) v_Bits_code (k_Bits_code ph) (a_Bits_code ph)
def y_Blocks_lengthBits : MethodName := ⟨"PackingHouse$Blocks", "lengthBits", "(I)I"⟩
theorem v_Blocks_lengthBits : zTv prog_5_method_2_code 1 9 false t_Blocks_lengthBits = true := by decide +kernel
theorem k_Blocks_lengthBits (ph : Bool) : zcKey (c_Blocks_lengthBits ph) t_Blocks_lengthBits = true := by cases ph <;> decide +kernel
theorem f_Blocks_lengthBits : zfS y_Blocks_lengthBits prog_5_method_2_code 1 (some .int) 1 := ⟨zq2 (q := (5, 170)) rfl, zq2 (q := (5, 169)) rfl, zq2 (q := (1, 10)) rfl, ⟨by decide, by decide⟩, by decide +kernel⟩
theorem a_Blocks_lengthBits (ph : Bool) : zcAll 9 0 0 ph (c_Blocks_lengthBits ph) := trivial
theorem ok_Blocks_lengthBits (ph : Bool) : zOk y_Blocks_lengthBits (.code y_Blocks_lengthBits prog_5_method_2_code 1 (some .int)) 0 0 ph (X_Blocks_lengthBits ph) := zMd_ok (plainFor_of_name (by decide)) rfl (fun h => by cases h) v_Blocks_lengthBits (k_Blocks_lengthBits ph) (a_Blocks_lengthBits ph)
def y_Blocks_lengthOf : MethodName := ⟨"PackingHouse$Blocks", "lengthOf", "(I)I"⟩
theorem v_Blocks_lengthOf : zTv prog_5_method_3_code 2 9 false t_Blocks_lengthOf = true := by decide +kernel
theorem k_Blocks_lengthOf (ph : Bool) : zcKey (c_Blocks_lengthOf ph) t_Blocks_lengthOf = true := by cases ph <;> decide +kernel
theorem f_Blocks_lengthOf : zfS y_Blocks_lengthOf prog_5_method_3_code 2 (some .int) 1 := ⟨zq2 (q := (5, 167)) rfl, zq2 (q := (5, 166)) rfl, zq2 (q := (1, 10)) rfl, ⟨by decide, by decide⟩, by decide +kernel⟩
theorem a_Blocks_lengthOf (ph : Bool) : zcAll 9 1 20 ph (c_Blocks_lengthOf ph) := ⟨zkS (o := 9) (i := 59) f_Blocks_lengthBits (by decide) (ok_Blocks_lengthBits ph) (zq2 (q := (5, 168)) rfl), (ok_Blocks_lengthBits ph).1, trivial⟩
theorem ok_Blocks_lengthOf (ph : Bool) : zOk y_Blocks_lengthOf (.code y_Blocks_lengthOf prog_5_method_3_code 2 (some .int)) 1 20 ph (X_Blocks_lengthOf ph) := zMd_ok (plainFor_of_name (by decide)) rfl (fun h => by cases h) v_Blocks_lengthOf (k_Blocks_lengthOf ph) (a_Blocks_lengthOf ph)
def y_Blocks_lengthSymbol : MethodName := ⟨"PackingHouse$Blocks", "lengthSymbol", "(I)I"⟩
theorem v_Blocks_lengthSymbol : zTv prog_5_method_4_code 2 9 false t_Blocks_lengthSymbol = true := by decide +kernel
theorem k_Blocks_lengthSymbol (ph : Bool) : zcKey (c_Blocks_lengthSymbol ph) t_Blocks_lengthSymbol = true := by cases ph <;> decide +kernel
theorem f_Blocks_lengthSymbol : zfS y_Blocks_lengthSymbol prog_5_method_4_code 2 (some .int) 1 := ⟨zq2 (q := (5, 164)) rfl, zq2 (q := (5, 163)) rfl, zq2 (q := (1, 10)) rfl, ⟨by decide, by decide⟩, by decide +kernel⟩
theorem a_Blocks_lengthSymbol (ph : Bool) : zcAll 9 2 41 ph (c_Blocks_lengthSymbol ph) := ⟨zkS (o := 9) (i := 63) f_Blocks_lengthOf (by decide) (ok_Blocks_lengthOf ph) (zq2 (q := (5, 165)) rfl), (ok_Blocks_lengthOf ph).1, trivial⟩
theorem ok_Blocks_lengthSymbol (ph : Bool) : zOk y_Blocks_lengthSymbol (.code y_Blocks_lengthSymbol prog_5_method_4_code 2 (some .int)) 2 41 ph (X_Blocks_lengthSymbol ph) := zMd_ok (plainFor_of_name (by decide)) rfl (fun h => by cases h) v_Blocks_lengthSymbol (k_Blocks_lengthSymbol ph) (a_Blocks_lengthSymbol ph)
def y_Blocks_farBits : MethodName := ⟨"PackingHouse$Blocks", "farBits", "(I)I"⟩
theorem v_Blocks_farBits : zTv prog_5_method_5_code 1 9 false t_Blocks_farBits = true := by decide +kernel
theorem k_Blocks_farBits (ph : Bool) : zcKey (c_Blocks_farBits ph) t_Blocks_farBits = true := by cases ph <;> decide +kernel
theorem f_Blocks_farBits : zfS y_Blocks_farBits prog_5_method_5_code 1 (some .int) 1 := ⟨zq2 (q := (5, 179)) rfl, zq2 (q := (5, 178)) rfl, zq2 (q := (1, 10)) rfl, ⟨by decide, by decide⟩, by decide +kernel⟩
theorem a_Blocks_farBits (ph : Bool) : zcAll 9 0 0 ph (c_Blocks_farBits ph) := trivial
theorem ok_Blocks_farBits (ph : Bool) : zOk y_Blocks_farBits (.code y_Blocks_farBits prog_5_method_5_code 1 (some .int)) 0 0 ph (X_Blocks_farBits ph) := zMd_ok (plainFor_of_name (by decide)) rfl (fun h => by cases h) v_Blocks_farBits (k_Blocks_farBits ph) (a_Blocks_farBits ph)
def y_Blocks_farOf : MethodName := ⟨"PackingHouse$Blocks", "farOf", "(I)I"⟩
theorem v_Blocks_farOf : zTv prog_5_method_6_code 1 9 false t_Blocks_farOf = true := by decide +kernel
theorem k_Blocks_farOf (ph : Bool) : zcKey (c_Blocks_farOf ph) t_Blocks_farOf = true := by cases ph <;> decide +kernel
theorem f_Blocks_farOf : zfS y_Blocks_farOf prog_5_method_6_code 1 (some .int) 1 := ⟨zq2 (q := (5, 176)) rfl, zq2 (q := (5, 175)) rfl, zq2 (q := (1, 10)) rfl, ⟨by decide, by decide⟩, by decide +kernel⟩
theorem a_Blocks_farOf (ph : Bool) : zcAll 9 1 20 ph (c_Blocks_farOf ph) := ⟨zkS (o := 9) (i := 66) f_Blocks_farBits (by decide) (ok_Blocks_farBits ph) (zq2 (q := (5, 177)) rfl), (ok_Blocks_farBits ph).1, trivial⟩
theorem ok_Blocks_farOf (ph : Bool) : zOk y_Blocks_farOf (.code y_Blocks_farOf prog_5_method_6_code 1 (some .int)) 1 20 ph (X_Blocks_farOf ph) := zMd_ok (plainFor_of_name (by decide)) rfl (fun h => by cases h) v_Blocks_farOf (k_Blocks_farOf ph) (a_Blocks_farOf ph)
def y_Blocks_farSymbol : MethodName := ⟨"PackingHouse$Blocks", "farSymbol", "(I)I"⟩
theorem v_Blocks_farSymbol : zTv prog_5_method_7_code 2 9 false t_Blocks_farSymbol = true := by decide +kernel
theorem k_Blocks_farSymbol (ph : Bool) : zcKey (c_Blocks_farSymbol ph) t_Blocks_farSymbol = true := by cases ph <;> decide +kernel
theorem f_Blocks_farSymbol : zfS y_Blocks_farSymbol prog_5_method_7_code 2 (some .int) 1 := ⟨zq2 (q := (5, 173)) rfl, zq2 (q := (5, 172)) rfl, zq2 (q := (1, 10)) rfl, ⟨by decide, by decide⟩, by decide +kernel⟩
theorem a_Blocks_farSymbol (ph : Bool) : zcAll 9 2 40 ph (c_Blocks_farSymbol ph) := ⟨zkS (o := 9) (i := 69) f_Blocks_farOf (by decide) (ok_Blocks_farOf ph) (zq2 (q := (5, 174)) rfl), (ok_Blocks_farOf ph).1, trivial⟩
theorem ok_Blocks_farSymbol (ph : Bool) : zOk y_Blocks_farSymbol (.code y_Blocks_farSymbol prog_5_method_7_code 2 (some .int)) 2 40 ph (X_Blocks_farSymbol ph) := zMd_ok (plainFor_of_name (by decide)) rfl (fun h => by cases h) v_Blocks_farSymbol (k_Blocks_farSymbol ph) (a_Blocks_farSymbol ph)
def y_Blocks_token : MethodName := ⟨"PackingHouse$Blocks", "token", "(LPackingHouse$Bits;LPackingHouse$Row;LPackingHouse$Parse;ILPackingHouse$Code;LPackingHouse$Code;)V"⟩
theorem v_Blocks_token : zTv prog_5_method_10_code 8 9 false t_Blocks_token = true := by decide +kernel
theorem k_Blocks_token (ph : Bool) : zcKey (c_Blocks_token ph) t_Blocks_token = true := by cases ph <;> decide +kernel
theorem f_Blocks_token : zfS y_Blocks_token prog_5_method_10_code 8 none 6 := ⟨zq2 (q := (5, 156)) rfl, zq2 (q := (5, 155)) rfl, zq2 (q := (1, 10)) rfl, ⟨by decide, by decide⟩, by decide +kernel⟩
theorem a_Blocks_token (ph : Bool) : zcAll 9 4 87 ph (c_Blocks_token ph) := ⟨zkS (o := 9) (i := 59) f_Blocks_lengthBits (by decide) (ok_Blocks_lengthBits ph) (zq2 (q := (5, 168)) rfl), (ok_Blocks_lengthBits ph).1, zkS (o := 9) (i := 63) f_Blocks_lengthOf (by decide) (ok_Blocks_lengthOf ph) (zq2 (q := (5, 165)) rfl), (ok_Blocks_lengthOf ph).1, zkS (o := 9) (i := 66) f_Blocks_farBits (by decide) (ok_Blocks_farBits ph) (zq2 (q := (5, 177)) rfl), (ok_Blocks_farBits ph).1, zkS (o := 9) (i := 69) f_Blocks_farOf (by decide) (ok_Blocks_farOf ph) (zq2 (q := (5, 174)) rfl), (ok_Blocks_farOf ph).1, zkS (o := 9) (i := 72) f_Blocks_lengthSymbol (by decide) (ok_Blocks_lengthSymbol ph) (zq2 (q := (5, 162)) rfl), (ok_Blocks_lengthSymbol ph).1, zkS (o := 9) (i := 75) f_Blocks_farSymbol (by decide) (ok_Blocks_farSymbol ph) (zq2 (q := (5, 171)) rfl), (ok_Blocks_farSymbol ph).1, zkV (o := 9) (i := 78) f_Bits_low (by decide) (ok_Bits_low ph) (zq2 (q := (5, 109)) rfl), zvt_m (ok_Bits_low ph).1, zkV (o := 9) (i := 88) f_Row_get (by decide) (ok_Row_get ph) (zq2 (q := (5, 123)) rfl), zvt_m (ok_Row_get ph).1, zkV (o := 9) (i := 104) f_Bits_code (by decide) (ok_Bits_code ph) (zq2 (q := (5, 157)) rfl), zvt_m (ok_Bits_code ph).1, trivial⟩
theorem ok_Blocks_token (ph : Bool) : zOk y_Blocks_token (.code y_Blocks_token prog_5_method_10_code 8 none) 4 87 ph (X_Blocks_token ph) := zMd_ok (plainFor_of_name (by decide)) rfl (fun h => by cases h) v_Blocks_token (k_Blocks_token ph) (a_Blocks_token ph)
def y_Blocks_tokens : MethodName := ⟨"PackingHouse$Blocks", "tokens", "(LPackingHouse$Bits;LPackingHouse$Row;LPackingHouse$Parse;IILPackingHouse$Code;LPackingHouse$Code;)V"⟩
theorem v_Blocks_tokens : zTv prog_5_method_11_code 8 9 false t_Blocks_tokens = true := by decide +kernel
theorem k_Blocks_tokens (ph : Bool) : zcKey (c_Blocks_tokens ph) t_Blocks_tokens = true := by cases ph <;> decide +kernel
theorem f_Blocks_tokens : zfS y_Blocks_tokens prog_5_method_11_code 8 none 7 := ⟨zq2 (q := (5, 153)) rfl, zq2 (q := (5, 152)) rfl, zq2 (q := (1, 10)) rfl, ⟨by decide, by decide⟩, by decide +kernel⟩
theorem a_Blocks_tokens (ph : Bool) : zcAll 9 5 114 ph (c_Blocks_tokens ph) := ⟨zkV (o := 9) (i := 104) f_Bits_code (by decide) (ok_Bits_code ph) (zq2 (q := (5, 157)) rfl), zvt_m (ok_Bits_code ph).1, zkS (o := 9) (i := 108) f_Blocks_token (by decide) (ok_Blocks_token ph) (zq2 (q := (5, 154)) rfl), (ok_Blocks_token ph).1, trivial⟩
theorem ok_Blocks_tokens (ph : Bool) : zOk y_Blocks_tokens (.code y_Blocks_tokens prog_5_method_11_code 8 none) 5 114 ph (X_Blocks_tokens ph) := zMd_ok (plainFor_of_name (by decide)) rfl (fun h => by cases h) v_Blocks_tokens (k_Blocks_tokens ph) (a_Blocks_tokens ph)
def y_Blocks_fixedBlock : MethodName := ⟨"PackingHouse$Blocks", "fixedBlock", "(LPackingHouse$Bits;LPackingHouse$Row;LPackingHouse$Parse;)V"⟩
theorem v_Blocks_fixedBlock : zTv prog_5_method_19_code 4 9 false t_Blocks_fixedBlock = true := by decide +kernel
theorem k_Blocks_fixedBlock (ph : Bool) : zcKey (c_Blocks_fixedBlock ph) t_Blocks_fixedBlock = true := by cases ph <;> decide +kernel
theorem f_Blocks_fixedBlock : zfV y_Blocks_fixedBlock prog_5_method_19_code 4 none 9 3 := ⟨zq2 (q := (5, 150)) rfl, zq2 (q := (5, 149)) rfl, zq2 (q := (1, 10)) rfl, zq2 (q := (101, 8)) rfl, ⟨by decide, by decide⟩, by decide +kernel⟩
theorem a_Blocks_fixedBlock (ph : Bool) : zcAll 9 6 141 ph (c_Blocks_fixedBlock ph) := ⟨zkV (o := 9) (i := 78) f_Bits_low (by decide) (ok_Bits_low ph) (zq2 (q := (5, 109)) rfl), zvt_m (ok_Bits_low ph).1, zkS (o := 9) (i := 153) f_Blocks_tokens (by decide) (ok_Blocks_tokens ph) (zq2 (q := (5, 151)) rfl), (ok_Blocks_tokens ph).1, trivial⟩
theorem ok_Blocks_fixedBlock (ph : Bool) : zOk y_Blocks_fixedBlock (.code y_Blocks_fixedBlock prog_5_method_19_code 4 none) 6 141 ph (X_Blocks_fixedBlock ph) := zMd_ok (plainFor_of_name (by decide)) rfl (fun h => by cases h) v_Blocks_fixedBlock (k_Blocks_fixedBlock ph) (a_Blocks_fixedBlock ph)
def y_Parse_lazy : MethodName := ⟨"PackingHouse$Parse", "lazy", "(LPackingHouse$Row;)V"⟩
theorem v_Parse_lazy : zTv prog_20_method_9_code 4 7 false t_Parse_lazy = true := by decide +kernel
theorem k_Parse_lazy (ph : Bool) : zcKey (c_Parse_lazy ph) t_Parse_lazy = true := by cases ph <;> decide +kernel
theorem f_Parse_lazy : zfV y_Parse_lazy prog_20_method_9_code 4 none 7 1 := ⟨zq2 (q := (5, 183)) rfl, zq2 (q := (5, 181)) rfl, zq2 (q := (1, 7)) rfl, zq2 (q := (5, 182)) rfl, ⟨by decide, by decide⟩, by decide +kernel⟩
theorem a_Parse_lazy (ph : Bool) : zcAll 7 4 86 ph (c_Parse_lazy ph) := ⟨zkV (o := 7) (i := 61) f_Parse_take (by decide) (ok_Parse_take ph) (zq2 (q := (5, 139)) rfl), zvt_m (ok_Parse_take ph).1, zkV (o := 7) (i := 65) f_Parse_begin (by decide) (ok_Parse_begin ph) (zq2 (q := (5, 129)) rfl), zvt_m (ok_Parse_begin ph).1, zkV (o := 7) (i := 71) f_Matches_find (by decide) (ok_Matches_find ph) (zq2 (q := (5, 130)) rfl), zvt_m (ok_Matches_find ph).1, trivial⟩
theorem ok_Parse_lazy (ph : Bool) : zOk y_Parse_lazy (.code y_Parse_lazy prog_20_method_9_code 4 none) 4 86 ph (X_Parse_lazy ph) := zMd_ok (plainFor_of_name (by decide)) rfl (fun h => by cases h) v_Parse_lazy (k_Parse_lazy ph) (a_Parse_lazy ph)
def y_Blocks_count : MethodName := ⟨"PackingHouse$Blocks", "count", "(LPackingHouse$Row;LPackingHouse$Parse;II)V"⟩
theorem v_Blocks_count : zTv prog_5_method_12_code 6 9 false t_Blocks_count = true := by decide +kernel
theorem k_Blocks_count (ph : Bool) : zcKey (c_Blocks_count ph) t_Blocks_count = true := by cases ph <;> decide +kernel
theorem f_Blocks_count : zfV y_Blocks_count prog_5_method_12_code 6 none 9 4 := ⟨zq2 (q := (5, 192)) rfl, zq2 (q := (5, 191)) rfl, zq2 (q := (1, 10)) rfl, zq2 (q := (101, 10)) rfl, ⟨by decide, by decide⟩, by decide +kernel⟩
theorem a_Blocks_count (ph : Bool) : zcAll 9 3 62 ph (c_Blocks_count ph) := ⟨zkS (o := 9) (i := 72) f_Blocks_lengthSymbol (by decide) (ok_Blocks_lengthSymbol ph) (zq2 (q := (5, 162)) rfl), (ok_Blocks_lengthSymbol ph).1, zkS (o := 9) (i := 75) f_Blocks_farSymbol (by decide) (ok_Blocks_farSymbol ph) (zq2 (q := (5, 171)) rfl), (ok_Blocks_farSymbol ph).1, zkV (o := 9) (i := 88) f_Row_get (by decide) (ok_Row_get ph) (zq2 (q := (5, 123)) rfl), zvt_m (ok_Row_get ph).1, trivial⟩
theorem ok_Blocks_count (ph : Bool) : zOk y_Blocks_count (.code y_Blocks_count prog_5_method_12_code 6 none) 3 62 ph (X_Blocks_count ph) := zMd_ok (plainFor_of_name (by decide)) rfl (fun h => by cases h) v_Blocks_count (k_Blocks_count ph) (a_Blocks_count ph)
def y_Code_sortLeaves : MethodName := ⟨"PackingHouse$Code", "sortLeaves", "(I)V"⟩
theorem v_Code_sortLeaves : zTv prog_7_method_8_code 5 11 false t_Code_sortLeaves = true := by decide +kernel
theorem k_Code_sortLeaves (ph : Bool) : zcKey (c_Code_sortLeaves ph) t_Code_sortLeaves = true := by cases ph <;> decide +kernel
theorem f_Code_sortLeaves : zfV y_Code_sortLeaves prog_7_method_8_code 5 none 10 1 := ⟨zq2 (q := (5, 205)) rfl, zq2 (q := (5, 204)) rfl, zq2 (q := (1, 11)) rfl, zq2 (q := (101, 12)) rfl, ⟨by decide, by decide⟩, by decide +kernel⟩
theorem a_Code_sortLeaves (ph : Bool) : zcAll 11 0 0 ph (c_Code_sortLeaves ph) := trivial
theorem ok_Code_sortLeaves (ph : Bool) : zOk y_Code_sortLeaves (.code y_Code_sortLeaves prog_7_method_8_code 5 none) 0 0 ph (X_Code_sortLeaves ph) := zMd_ok (plainFor_of_name (by decide)) rfl (fun h => by cases h) v_Code_sortLeaves (k_Code_sortLeaves ph) (a_Code_sortLeaves ph)
def y_Code_join : MethodName := ⟨"PackingHouse$Code", "join", "(I)Z"⟩
theorem v_Code_join : zTv prog_7_method_9_code 8 11 false t_Code_join = true := by decide +kernel
theorem k_Code_join (ph : Bool) : zcKey (c_Code_join ph) t_Code_join = true := by cases ph <;> decide +kernel
theorem f_Code_join : zfV y_Code_join prog_7_method_9_code 8 (some .boolean) 10 1 := ⟨zq2 (q := (5, 201)) rfl, zq2 (q := (5, 200)) rfl, zq2 (q := (1, 11)) rfl, zq2 (q := (101, 11)) rfl, ⟨by decide, by decide⟩, by decide +kernel⟩
theorem a_Code_join (ph : Bool) : zcAll 11 1 24 ph (c_Code_join ph) := ⟨zkV (o := 11) (i := 69) f_Code_sortLeaves (by decide) (ok_Code_sortLeaves ph) (zq2 (q := (5, 202)) rfl), zvt_m (ok_Code_sortLeaves ph).1, trivial⟩
theorem ok_Code_join (ph : Bool) : zOk y_Code_join (.code y_Code_join prog_7_method_9_code 8 (some .boolean)) 1 24 ph (X_Code_join ph) := zMd_ok (plainFor_of_name (by decide)) rfl (fun h => by cases h) v_Code_join (k_Code_join ph) (a_Code_join ph)
def y_Code_byCounts : MethodName := ⟨"PackingHouse$Code", "byCounts", "([III)V"⟩
theorem v_Code_byCounts : zTv prog_7_method_10_code 5 11 false t_Code_byCounts = true := by decide +kernel
theorem k_Code_byCounts (ph : Bool) : zcKey (c_Code_byCounts ph) t_Code_byCounts = true := by cases ph <;> decide +kernel
theorem f_Code_byCounts : zfV y_Code_byCounts prog_7_method_10_code 5 none 10 3 := ⟨zq2 (q := (5, 196)) rfl, zq2 (q := (5, 194)) rfl, zq2 (q := (1, 11)) rfl, zq2 (q := (5, 195)) rfl, ⟨by decide, by decide⟩, by decide +kernel⟩
theorem a_Code_byCounts (ph : Bool) : zcAll 11 2 60 ph (c_Code_byCounts ph) := ⟨zck_acopy (o := 11) (i := 73) (by decide) (by decide) (zq2 (q := (5, 197)) rfl) w_acn w_acs w_aci, X_acopy_m, zkV (o := 11) (i := 79) f_Code_join (by decide) (ok_Code_join ph) (zq2 (q := (5, 198)) rfl), zvt_m (ok_Code_join ph).1, zkV (o := 11) (i := 83) f_Code_make (by decide) (ok_Code_make ph) (zq2 (q := (5, 206)) rfl), zvt_m (ok_Code_make ph).1, trivial⟩
theorem ok_Code_byCounts (ph : Bool) : zOk y_Code_byCounts (.code y_Code_byCounts prog_7_method_10_code 5 none) 2 60 ph (X_Code_byCounts ph) := zMd_ok (plainFor_of_name (by decide)) rfl (fun h => by cases h) v_Code_byCounts (k_Code_byCounts ph) (a_Code_byCounts ph)
def y_Blocks_used : MethodName := ⟨"PackingHouse$Blocks", "used", "(LPackingHouse$Code;I)I"⟩
theorem v_Blocks_used : zTv prog_5_method_13_code 3 9 false t_Blocks_used = true := by decide +kernel
theorem k_Blocks_used (ph : Bool) : zcKey (c_Blocks_used ph) t_Blocks_used = true := by cases ph <;> decide +kernel
theorem f_Blocks_used : zfS y_Blocks_used prog_5_method_13_code 3 (some .int) 2 := ⟨zq2 (q := (5, 213)) rfl, zq2 (q := (5, 212)) rfl, zq2 (q := (1, 10)) rfl, ⟨by decide, by decide⟩, by decide +kernel⟩
theorem a_Blocks_used (ph : Bool) : zcAll 9 0 0 ph (c_Blocks_used ph) := trivial
theorem ok_Blocks_used (ph : Bool) : zOk y_Blocks_used (.code y_Blocks_used prog_5_method_13_code 3 (some .int)) 0 0 ph (X_Blocks_used ph) := zMd_ok (plainFor_of_name (by decide)) rfl (fun h => by cases h) v_Blocks_used (k_Blocks_used ph) (a_Blocks_used ph)
def y_Blocks_tell : MethodName := ⟨"PackingHouse$Blocks", "tell", "(II)V"⟩
theorem v_Blocks_tell : zTv prog_5_method_14_code 3 9 false t_Blocks_tell = true := by decide +kernel
theorem k_Blocks_tell (ph : Bool) : zcKey (c_Blocks_tell ph) t_Blocks_tell = true := by cases ph <;> decide +kernel
theorem f_Blocks_tell : zfV y_Blocks_tell prog_5_method_14_code 3 none 9 2 := ⟨zq2 (q := (5, 222)) rfl, zq2 (q := (5, 221)) rfl, zq2 (q := (1, 10)) rfl, zq2 (q := (101, 15)) rfl, ⟨by decide, by decide⟩, by decide +kernel⟩
theorem a_Blocks_tell (ph : Bool) : zcAll 9 0 0 ph (c_Blocks_tell ph) := trivial
theorem ok_Blocks_tell (ph : Bool) : zOk y_Blocks_tell (.code y_Blocks_tell prog_5_method_14_code 3 none) 0 0 ph (X_Blocks_tell ph) := zMd_ok (plainFor_of_name (by decide)) rfl (fun h => by cases h) v_Blocks_tell (k_Blocks_tell ph) (a_Blocks_tell ph)
def y_Blocks_tellLengths : MethodName := ⟨"PackingHouse$Blocks", "tellLengths", "(I)V"⟩
theorem v_Blocks_tellLengths : zTv prog_5_method_15_code 6 9 false t_Blocks_tellLengths = true := by decide +kernel
theorem k_Blocks_tellLengths (ph : Bool) : zcKey (c_Blocks_tellLengths ph) t_Blocks_tellLengths = true := by cases ph <;> decide +kernel
theorem f_Blocks_tellLengths : zfV y_Blocks_tellLengths prog_5_method_15_code 6 none 9 1 := ⟨zq2 (q := (5, 218)) rfl, zq2 (q := (5, 217)) rfl, zq2 (q := (1, 10)) rfl, zq2 (q := (101, 14)) rfl, ⟨by decide, by decide⟩, by decide +kernel⟩
theorem a_Blocks_tellLengths (ph : Bool) : zcAll 9 1 22 ph (c_Blocks_tellLengths ph) := ⟨zkV (o := 9) (i := 119) f_Blocks_tell (by decide) (ok_Blocks_tell ph) (zq2 (q := (5, 219)) rfl), zvt_m (ok_Blocks_tell ph).1, trivial⟩
theorem ok_Blocks_tellLengths (ph : Bool) : zOk y_Blocks_tellLengths (.code y_Blocks_tellLengths prog_5_method_15_code 6 none) 1 22 ph (X_Blocks_tellLengths ph) := zMd_ok (plainFor_of_name (by decide)) rfl (fun h => by cases h) v_Blocks_tellLengths (k_Blocks_tellLengths ph) (a_Blocks_tellLengths ph)

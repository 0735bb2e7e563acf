/-! printed by gen_all.py -/
def y_House_protect : MethodName := ⟨"PackingHouse", "protect", "(II)I"⟩
theorem v_House_protect : zTv prog_1_method_37_code 3 0 false t_House_protect = true := by decide +kernel
theorem k_House_protect (ph : Bool) : zcKey (c_House_protect ph) t_House_protect = true := by cases ph <;> decide +kernel
theorem f_House_protect : zfV y_House_protect prog_1_method_37_code 3 (some .int) 1 2 := ⟨zq2 (q := (9, 184)) rfl, zq2 (q := (9, 182)) rfl, zq2 (q := (1, 1)) rfl, zq2 (q := (9, 183)) rfl, ⟨by decide, by decide⟩, by decide +kernel⟩
theorem a_House_protect (ph : Bool) : zcAll 0 4 94 ph (c_House_protect ph) := ⟨zkS (o := 0) (i := 165) f_House_isIn (by decide) (ok_House_isIn ph) (zq2 (q := (4, 187)) rfl), (ok_House_isIn ph).1, zkV (o := 0) (i := 362) f_Parts_make (by decide) (ok_Parts_make ph) (zq2 (q := (9, 187)) rfl), zvt_m (ok_Parts_make ph).1, trivial⟩
theorem ok_House_protect (ph : Bool) : zOk y_House_protect (.code y_House_protect prog_1_method_37_code 3 (some .int)) 4 94 ph (X_House_protect ph) := zMd_ok (plainFor_of_name (by decide)) rfl (fun h => by cases h) v_House_protect (k_House_protect ph) (a_House_protect ph)
def y_Parts_isThere : MethodName := ⟨"PackingHouse$Parts", "isThere", "()Z"⟩
theorem v_Parts_isThere : zTv prog_21_method_5_code 1 29 false t_Parts_isThere = true := by decide +kernel
theorem k_Parts_isThere (ph : Bool) : zcKey (c_Parts_isThere ph) t_Parts_isThere = true := by cases ph <;> decide +kernel
theorem f_Parts_isThere : zfV y_Parts_isThere prog_21_method_5_code 1 (some .boolean) 26 0 := ⟨zq2 (q := (9, 222)) rfl, zq2 (q := (9, 220)) rfl, zq2 (q := (1, 29)) rfl, zq2 (q := (9, 221)) rfl, ⟨by decide, by decide⟩, by decide +kernel⟩
theorem a_Parts_isThere (ph : Bool) : zcAll 29 0 0 ph (c_Parts_isThere ph) := trivial
theorem ok_Parts_isThere (ph : Bool) : zOk y_Parts_isThere (.code y_Parts_isThere prog_21_method_5_code 1 (some .boolean)) 0 0 ph (X_Parts_isThere ph) := zMd_ok (plainFor_of_name (by decide)) rfl (fun h => by cases h) v_Parts_isThere (k_Parts_isThere ph) (a_Parts_isThere ph)
def y_Parts_isPart : MethodName := ⟨"PackingHouse$Parts", "isPart", "(I)Z"⟩
theorem v_Parts_isPart : zTv prog_21_method_6_code 2 29 false t_Parts_isPart = true := by decide +kernel
theorem k_Parts_isPart (ph : Bool) : zcKey (c_Parts_isPart ph) t_Parts_isPart = true := by cases ph <;> decide +kernel
theorem f_Parts_isPart : zfV y_Parts_isPart prog_21_method_6_code 2 (some .boolean) 26 1 := ⟨zq2 (q := (9, 218)) rfl, zq2 (q := (9, 216)) rfl, zq2 (q := (1, 29)) rfl, zq2 (q := (9, 217)) rfl, ⟨by decide, by decide⟩, by decide +kernel⟩
theorem a_Parts_isPart (ph : Bool) : zcAll 29 1 25 ph (c_Parts_isPart ph) := ⟨zkV (o := 29) (i := 52) f_Parts_isThere (by decide) (ok_Parts_isThere ph) (zq2 (q := (9, 219)) rfl), zvt_m (ok_Parts_isThere ph).1, zkSN (o := 29) (i := 62) f_House_isIn (by decide) (ok_House_isIn ph) (zq2 (q := (9, 223)) rfl), (ok_House_isIn ph).1, trivial⟩
theorem ok_Parts_isPart (ph : Bool) : zOk y_Parts_isPart (.code y_Parts_isPart prog_21_method_6_code 2 (some .boolean)) 1 25 ph (X_Parts_isPart ph) := zMd_ok (plainFor_of_name (by decide)) rfl (fun h => by cases h) v_Parts_isPart (k_Parts_isPart ph) (a_Parts_isPart ph)
def y_House_part : MethodName := ⟨"PackingHouse", "part", "(II)I"⟩
theorem v_House_part : zTv prog_1_method_38_code 3 0 false t_House_part = true := by decide +kernel
theorem k_House_part (ph : Bool) : zcKey (c_House_part ph) t_House_part = true := by cases ph <;> decide +kernel
theorem f_House_part : zfV y_House_part prog_1_method_38_code 3 (some .int) 1 2 := ⟨zq2 (q := (9, 214)) rfl, zq2 (q := (9, 212)) rfl, zq2 (q := (1, 1)) rfl, zq2 (q := (9, 213)) rfl, ⟨by decide, by decide⟩, by decide +kernel⟩
theorem a_House_part (ph : Bool) : zcAll 0 2 46 ph (c_House_part ph) := ⟨zkS (o := 0) (i := 165) f_House_isIn (by decide) (ok_House_isIn ph) (zq2 (q := (4, 187)) rfl), (ok_House_isIn ph).1, zkV (o := 0) (i := 181) f_Row_get (by decide) (ok_Row_get ph) (zq2 (q := (4, 210)) rfl), zvt_m (ok_Row_get ph).1, zkV (o := 0) (i := 365) f_Parts_isPart (by decide) (ok_Parts_isPart ph) (zq2 (q := (9, 215)) rfl), zvt_m (ok_Parts_isPart ph).1, trivial⟩
theorem ok_House_part (ph : Bool) : zOk y_House_part (.code y_House_part prog_1_method_38_code 3 (some .int)) 2 46 ph (X_House_part ph) := zMd_ok (plainFor_of_name (by decide)) rfl (fun h => by cases h) v_House_part (k_House_part ph) (a_House_part ph)
def y_House_lose : MethodName := ⟨"PackingHouse", "lose", "(I)I"⟩
theorem v_House_lose : zTv prog_1_method_39_code 3 0 false t_House_lose = true := by decide +kernel
theorem k_House_lose (ph : Bool) : zcKey (c_House_lose ph) t_House_lose = true := by cases ph <;> decide +kernel
theorem f_House_lose : zfV y_House_lose prog_1_method_39_code 3 (some .int) 1 1 := ⟨zq2 (q := (9, 227)) rfl, zq2 (q := (9, 225)) rfl, zq2 (q := (1, 1)) rfl, zq2 (q := (9, 226)) rfl, ⟨by decide, by decide⟩, by decide +kernel⟩
theorem a_House_lose (ph : Bool) : zcAll 0 2 46 ph (c_House_lose ph) := ⟨zkV (o := 0) (i := 365) f_Parts_isPart (by decide) (ok_Parts_isPart ph) (zq2 (q := (9, 215)) rfl), zvt_m (ok_Parts_isPart ph).1, trivial⟩
theorem ok_House_lose (ph : Bool) : zOk y_House_lose (.code y_House_lose prog_1_method_39_code 3 (some .int)) 2 46 ph (X_House_lose ph) := zMd_ok (plainFor_of_name (by decide)) rfl (fun h => by cases h) v_House_lose (k_House_lose ph) (a_House_lose ph)
def y_House_spoil : MethodName := ⟨"PackingHouse", "spoil", "(III)I"⟩
theorem v_House_spoil : zTv prog_1_method_40_code 5 0 false t_House_spoil = true := by decide +kernel
theorem k_House_spoil (ph : Bool) : zcKey (c_House_spoil ph) t_House_spoil = true := by cases ph <;> decide +kernel
theorem f_House_spoil : zfV y_House_spoil prog_1_method_40_code 5 (some .int) 1 3 := ⟨zq2 (q := (9, 231)) rfl, zq2 (q := (9, 229)) rfl, zq2 (q := (1, 1)) rfl, zq2 (q := (9, 230)) rfl, ⟨by decide, by decide⟩, by decide +kernel⟩
theorem a_House_spoil (ph : Bool) : zcAll 0 2 46 ph (c_House_spoil ph) := ⟨zkS (o := 0) (i := 165) f_House_isIn (by decide) (ok_House_isIn ph) (zq2 (q := (4, 187)) rfl), (ok_House_isIn ph).1, zkV (o := 0) (i := 181) f_Row_get (by decide) (ok_Row_get ph) (zq2 (q := (4, 210)) rfl), zvt_m (ok_Row_get ph).1, zkV (o := 0) (i := 365) f_Parts_isPart (by decide) (ok_Parts_isPart ph) (zq2 (q := (9, 215)) rfl), zvt_m (ok_Parts_isPart ph).1, trivial⟩
theorem ok_House_spoil (ph : Bool) : zOk y_House_spoil (.code y_House_spoil prog_1_method_40_code 5 (some .int)) 2 46 ph (X_House_spoil ph) := zMd_ok (plainFor_of_name (by decide)) rfl (fun h => by cases h) v_House_spoil (k_House_spoil ph) (a_House_spoil ph)
def y_Parts_isGone : MethodName := ⟨"PackingHouse$Parts", "isGone", "(LPackingHouse;I)Z"⟩
theorem v_Parts_isGone : zTv prog_21_method_9_code 3 29 false t_Parts_isGone = true := by decide +kernel
theorem k_Parts_isGone (ph : Bool) : zcKey (c_Parts_isGone ph) t_Parts_isGone = true := by cases ph <;> decide +kernel
theorem f_Parts_isGone : zfV y_Parts_isGone prog_21_method_9_code 3 (some .boolean) 26 2 := ⟨zq2 (q := (10, 4)) rfl, zq2 (q := (10, 2)) rfl, zq2 (q := (1, 29)) rfl, zq2 (q := (10, 3)) rfl, ⟨by decide, by decide⟩, by decide +kernel⟩
theorem a_Parts_isGone (ph : Bool) : zcAll 29 2 46 ph (c_Parts_isGone ph) := ⟨zkV (o := 29) (i := 94) f_Sums_round (by decide) (ok_Sums_round ph) (zq2 (q := (9, 210)) rfl), zvt_m (ok_Sums_round ph).1, trivial⟩
theorem ok_Parts_isGone (ph : Bool) : zOk y_Parts_isGone (.code y_Parts_isGone prog_21_method_9_code 3 (some .boolean)) 2 46 ph (X_Parts_isGone ph) := zMd_ok (plainFor_of_name (by decide)) rfl (fun h => by cases h) v_Parts_isGone (k_Parts_isGone ph) (a_Parts_isGone ph)
def y_Parts_solve : MethodName := ⟨"PackingHouse$Parts", "solve", "(I)V"⟩
theorem v_Parts_solve : zTv prog_21_method_10_code 8 29 false t_Parts_solve = true := by decide +kernel
theorem k_Parts_solve (ph : Bool) : zcKey (c_Parts_solve ph) t_Parts_solve = true := by cases ph <;> decide +kernel
theorem f_Parts_solve : zfV y_Parts_solve prog_21_method_10_code 8 none 26 1 := ⟨zq2 (q := (10, 12)) rfl, zq2 (q := (10, 11)) rfl, zq2 (q := (1, 29)) rfl, zq2 (q := (105, 6)) rfl, ⟨by decide, by decide⟩, by decide +kernel⟩
theorem a_Parts_solve (ph : Bool) : zcAll 29 1 22 ph (c_Parts_solve ph) := ⟨zkV (o := 29) (i := 48) f_Parts_inverse (by decide) (ok_Parts_inverse ph) (zq2 (q := (9, 202)) rfl), zvt_m (ok_Parts_inverse ph).1, zkV (o := 29) (i := 77) f_Parts_times (by decide) (ok_Parts_times ph) (zq2 (q := (9, 206)) rfl), zvt_m (ok_Parts_times ph).1, trivial⟩
theorem ok_Parts_solve (ph : Bool) : zOk y_Parts_solve (.code y_Parts_solve prog_21_method_10_code 8 none) 1 22 ph (X_Parts_solve ph) := zMd_ok (plainFor_of_name (by decide)) rfl (fun h => by cases h) v_Parts_solve (k_Parts_solve ph) (a_Parts_solve ph)
def y_Parts_isAmong : MethodName := ⟨"PackingHouse$Parts", "isAmong", "(II)Z"⟩
theorem v_Parts_isAmong : zTv prog_21_method_12_code 5 29 false t_Parts_isAmong = true := by decide +kernel
theorem k_Parts_isAmong (ph : Bool) : zcKey (c_Parts_isAmong ph) t_Parts_isAmong = true := by cases ph <;> decide +kernel
theorem f_Parts_isAmong : zfV y_Parts_isAmong prog_21_method_12_code 5 (some .boolean) 26 2 := ⟨zq2 (q := (10, 16)) rfl, zq2 (q := (10, 15)) rfl, zq2 (q := (1, 29)) rfl, zq2 (q := (105, 7)) rfl, ⟨by decide, by decide⟩, by decide +kernel⟩
theorem a_Parts_isAmong (ph : Bool) : zcAll 29 0 0 ph (c_Parts_isAmong ph) := trivial
theorem ok_Parts_isAmong (ph : Bool) : zOk y_Parts_isAmong (.code y_Parts_isAmong prog_21_method_12_code 5 (some .boolean)) 0 0 ph (X_Parts_isAmong ph) := zMd_ok (plainFor_of_name (by decide)) rfl (fun h => by cases h) v_Parts_isAmong (k_Parts_isAmong ph) (a_Parts_isAmong ph)
def y_Parts_fillData : MethodName := ⟨"PackingHouse$Parts", "fillData", "(I)V"⟩
theorem v_Parts_fillData : zTv prog_21_method_11_code 6 29 false t_Parts_fillData = true := by decide +kernel
theorem k_Parts_fillData (ph : Bool) : zcKey (c_Parts_fillData ph) t_Parts_fillData = true := by cases ph <;> decide +kernel
theorem f_Parts_fillData : zfV y_Parts_fillData prog_21_method_11_code 6 none 26 1 := ⟨zq2 (q := (10, 8)) rfl, zq2 (q := (10, 7)) rfl, zq2 (q := (1, 29)) rfl, zq2 (q := (105, 5)) rfl, ⟨by decide, by decide⟩, by decide +kernel⟩
theorem a_Parts_fillData (ph : Bool) : zcAll 29 2 49 ph (c_Parts_fillData ph) := ⟨zkV (o := 29) (i := 70) f_Row_get (by decide) (ok_Row_get ph) (zq2 (q := (9, 192)) rfl), zvt_m (ok_Row_get ph).1, zkV (o := 29) (i := 73) f_Parts_factor (by decide) (ok_Parts_factor ph) (zq2 (q := (9, 198)) rfl), zvt_m (ok_Parts_factor ph).1, zkV (o := 29) (i := 77) f_Parts_times (by decide) (ok_Parts_times ph) (zq2 (q := (9, 206)) rfl), zvt_m (ok_Parts_times ph).1, zkV (o := 29) (i := 100) f_Parts_solve (by decide) (ok_Parts_solve ph) (zq2 (q := (10, 9)) rfl), zvt_m (ok_Parts_solve ph).1, zkV (o := 29) (i := 107) f_Parts_isAmong (by decide) (ok_Parts_isAmong ph) (zq2 (q := (10, 13)) rfl), zvt_m (ok_Parts_isAmong ph).1, trivial⟩
theorem ok_Parts_fillData (ph : Bool) : zOk y_Parts_fillData (.code y_Parts_fillData prog_21_method_11_code 6 none) 2 49 ph (X_Parts_fillData ph) := zMd_ok (plainFor_of_name (by decide)) rfl (fun h => by cases h) v_Parts_fillData (k_Parts_fillData ph) (a_Parts_fillData ph)
def y_Parts_repair : MethodName := ⟨"PackingHouse$Parts", "repai\x72", "(LPackingHouse;)I"⟩
theorem v_Parts_repair : zTv prog_21_method_13_code 7 29 false t_Parts_repair = true := by decide +kernel
theorem k_Parts_repair (ph : Bool) : zcKey (c_Parts_repair ph) t_Parts_repair = true := by cases ph <;> decide +kernel
theorem f_Parts_repair : zfV y_Parts_repair prog_21_method_13_code 7 (some .int) 26 1 := ⟨zq2 (q := (10, 0)) rfl, zq2 (q := (9, 238)) rfl, zq2 (q := (1, 29)) rfl, zq2 (q := (9, 239)) rfl, ⟨by decide, by decide⟩, by decide +kernel⟩
theorem a_Parts_repair (ph : Bool) : zcAll 29 3 74 ph (c_Parts_repair ph) := ⟨zkV (o := 29) (i := 88) f_Parts_makeCheck (by decide) (ok_Parts_makeCheck ph) (zq2 (q := (9, 194)) rfl), zvt_m (ok_Parts_makeCheck ph).1, zkV (o := 29) (i := 111) f_Parts_isGone (by decide) (ok_Parts_isGone ph) (zq2 (q := (10, 1)) rfl), zvt_m (ok_Parts_isGone ph).1, zkV (o := 29) (i := 115) f_Parts_fillData (by decide) (ok_Parts_fillData ph) (zq2 (q := (10, 5)) rfl), zvt_m (ok_Parts_fillData ph).1, trivial⟩
theorem ok_Parts_repair (ph : Bool) : zOk y_Parts_repair (.code y_Parts_repair prog_21_method_13_code 7 (some .int)) 3 74 ph (X_Parts_repair ph) := zMd_ok (plainFor_of_name (by decide)) rfl (fun h => by cases h) v_Parts_repair (k_Parts_repair ph) (a_Parts_repair ph)
def y_House_repair : MethodName := ⟨"PackingHouse", "repai\x72", "()I"⟩
theorem v_House_repair : zTv prog_1_method_41_code 1 0 false t_House_repair = true := by decide +kernel
theorem k_House_repair (ph : Bool) : zcKey (c_House_repair ph) t_House_repair = true := by cases ph <;> decide +kernel
theorem f_House_repair : zfV y_House_repair prog_1_method_41_code 1 (some .int) 1 0 := ⟨zq2 (q := (9, 235)) rfl, zq2 (q := (9, 233)) rfl, zq2 (q := (1, 1)) rfl, zq2 (q := (9, 234)) rfl, ⟨by decide, by decide⟩, by decide +kernel⟩
theorem a_House_repair (ph : Bool) : zcAll 0 4 100 ph (c_House_repair ph) := ⟨zkV (o := 0) (i := 375) f_Parts_isThere (by decide) (ok_Parts_isThere ph) (zq2 (q := (9, 236)) rfl), zvt_m (ok_Parts_isThere ph).1, zkV (o := 0) (i := 378) f_Parts_repair (by decide) (ok_Parts_repair ph) (zq2 (q := (9, 237)) rfl), zvt_m (ok_Parts_repair ph).1, trivial⟩
theorem ok_House_repair (ph : Bool) : zOk y_House_repair (.code y_House_repair prog_1_method_41_code 1 (some .int)) 4 100 ph (X_House_repair ph) := zMd_ok (plainFor_of_name (by decide)) rfl (fun h => by cases h) v_House_repair (k_House_repair ph) (a_House_repair ph)
def y_House_whole : MethodName := ⟨"PackingHouse", "whole", "()I"⟩
theorem v_House_whole : zTv prog_1_method_42_code 3 0 false t_House_whole = true := by decide +kernel
theorem k_House_whole (ph : Bool) : zcKey (c_House_whole ph) t_House_whole = true := by cases ph <;> decide +kernel
theorem f_House_whole : zfV y_House_whole prog_1_method_42_code 3 (some .int) 1 0 := ⟨zq2 (q := (10, 20)) rfl, zq2 (q := (10, 18)) rfl, zq2 (q := (1, 1)) rfl, zq2 (q := (10, 19)) rfl, ⟨by decide, by decide⟩, by decide +kernel⟩
theorem a_House_whole (ph : Bool) : zcAll 0 3 103 ph (c_House_whole ph) := ⟨zkV (o := 0) (i := 181) f_Row_get (by decide) (ok_Row_get ph) (zq2 (q := (4, 210)) rfl), zvt_m (ok_Row_get ph).1, zkV (o := 0) (i := 195) f_Row_add (by decide) (ok_Row_add ph) (zq2 (q := (4, 214)) rfl), zvt_m (ok_Row_add ph).1, zkV (o := 0) (i := 242) f_House_spare (by decide) (ok_House_spare ph) (zq2 (q := (5, 75)) rfl), zvt_m (ok_House_spare ph).1, zkV (o := 0) (i := 257) f_House_keep (by decide) (ok_House_keep ph) (zq2 (q := (6, 225)) rfl), zvt_m (ok_House_keep ph).1, zkV (o := 0) (i := 375) f_Parts_isThere (by decide) (ok_Parts_isThere ph) (zq2 (q := (9, 236)) rfl), zvt_m (ok_Parts_isThere ph).1, zkV (o := 0) (i := 385) f_Parts_isGone (by decide) (ok_Parts_isGone ph) (zq2 (q := (10, 21)) rfl), zvt_m (ok_Parts_isGone ph).1, trivial⟩
theorem ok_House_whole (ph : Bool) : zOk y_House_whole (.code y_House_whole prog_1_method_42_code 3 (some .int)) 3 103 ph (X_House_whole ph) := zMd_ok (plainFor_of_name (by decide)) rfl (fun h => by cases h) v_House_whole (k_House_whole ph) (a_House_whole ph)
def y_Store_end : MethodName := ⟨"PackingHouse$Store", "end", "(LPackingHouse$Row;I)I"⟩
theorem v_Store_end : zTv prog_29_method_3_code 6 30 false t_Store_end = true := by decide +kernel
theorem k_Store_end (ph : Bool) : zcKey (c_Store_end ph) t_Store_end = true := by cases ph <;> decide +kernel
theorem f_Store_end : zfS y_Store_end prog_29_method_3_code 6 (some .int) 2 := ⟨zq2 (q := (10, 32)) rfl, zq2 (q := (10, 31)) rfl, zq2 (q := (1, 30)) rfl, ⟨by decide, by decide⟩, by decide +kernel⟩
theorem a_Store_end (ph : Bool) : zcAll 30 1 21 ph (c_Store_end ph) := ⟨zkV (o := 30) (i := 37) f_Row_get (by decide) (ok_Row_get ph) (zq2 (q := (10, 33)) rfl), zvt_m (ok_Row_get ph).1, trivial⟩
theorem ok_Store_end (ph : Bool) : zOk y_Store_end (.code y_Store_end prog_29_method_3_code 6 (some .int)) 1 21 ph (X_Store_end ph) := zMd_ok (plainFor_of_name (by decide)) rfl (fun h => by cases h) v_Store_end (k_Store_end ph) (a_Store_end ph)
def y_Store_isPiece : MethodName := ⟨"PackingHouse$Store", "isPiece", "(LPackingHouse$Block;LPackingHouse$Row;II)Z"⟩
theorem v_Store_isPiece : zTv prog_29_method_4_code 6 30 false t_Store_isPiece = true := by decide +kernel
theorem k_Store_isPiece (ph : Bool) : zcKey (c_Store_isPiece ph) t_Store_isPiece = true := by cases ph <;> decide +kernel
theorem f_Store_isPiece : zfS y_Store_isPiece prog_29_method_4_code 6 (some .boolean) 4 := ⟨zq2 (q := (10, 40)) rfl, zq2 (q := (10, 39)) rfl, zq2 (q := (1, 30)) rfl, ⟨by decide, by decide⟩, by decide +kernel⟩
theorem a_Store_isPiece (ph : Bool) : zcAll 30 0 0 ph (c_Store_isPiece ph) := trivial
theorem ok_Store_isPiece (ph : Bool) : zOk y_Store_isPiece (.code y_Store_isPiece prog_29_method_4_code 6 (some .boolean)) 0 0 ph (X_Store_isPiece ph) := zMd_ok (plainFor_of_name (by decide)) rfl (fun h => by cases h) v_Store_isPiece (k_Store_isPiece ph) (a_Store_isPiece ph)
def y_Store_blockFor : MethodName := ⟨"PackingHouse$Store", "blockFo\x72", "(LPackingHouse$Row;II)LPackingHouse$Block;"⟩
theorem v_Store_blockFor : zTv prog_29_method_5_code 5 30 false t_Store_blockFor = true := by decide +kernel
theorem k_Store_blockFor (ph : Bool) : zcKey (c_Store_blockFor ph) t_Store_blockFor = true := by cases ph <;> decide +kernel
theorem f_Store_blockFor : zfV y_Store_blockFor prog_29_method_5_code 5 (some (.object "PackingHouse$Block")) 27 3 := ⟨zq2 (q := (10, 37)) rfl, zq2 (q := (10, 36)) rfl, zq2 (q := (1, 30)) rfl, zq2 (q := (105, 8)) rfl, ⟨by decide, by decide⟩, by decide +kernel⟩
theorem a_Store_blockFor (ph : Bool) : zcAll 30 1 60 ph (c_Store_blockFor ph) := ⟨zkS (o := 30) (i := 50) f_Store_isPiece (by decide) (ok_Store_isPiece ph) (zq2 (q := (10, 38)) rfl), (ok_Store_isPiece ph).1, zck_acopy (o := 30) (i := 61) (by decide) (by decide) (zq2 (q := (10, 42)) rfl) w_acn w_acs w_aci, X_acopy_m, trivial⟩
theorem ok_Store_blockFor (ph : Bool) : zOk y_Store_blockFor (.code y_Store_blockFor prog_29_method_5_code 5 (some (.object "PackingHouse$Block"))) 1 60 ph (X_Store_blockFor ph) := zMd_ok (plainFor_of_name (by decide)) rfl (fun h => by cases h) v_Store_blockFor (k_Store_blockFor ph) (a_Store_blockFor ph)
def y_Store_sweep : MethodName := ⟨"PackingHouse$Store", "sweep", "()I"⟩
theorem v_Store_sweep : zTv prog_29_method_6_code 5 30 false t_Store_sweep = true := by decide +kernel
theorem k_Store_sweep (ph : Bool) : zcKey (c_Store_sweep ph) t_Store_sweep = true := by cases ph <;> decide +kernel
theorem f_Store_sweep : zfV y_Store_sweep prog_29_method_6_code 5 (some .int) 27 0 := ⟨zq2 (q := (10, 46)) rfl, zq2 (q := (10, 45)) rfl, zq2 (q := (1, 30)) rfl, zq2 (q := (105, 9)) rfl, ⟨by decide, by decide⟩, by decide +kernel⟩
theorem a_Store_sweep (ph : Bool) : zcAll 30 0 0 ph (c_Store_sweep ph) := trivial
theorem ok_Store_sweep (ph : Bool) : zOk y_Store_sweep (.code y_Store_sweep prog_29_method_6_code 5 (some .int)) 0 0 ph (X_Store_sweep ph) := zMd_ok (plainFor_of_name (by decide)) rfl (fun h => by cases h) v_Store_sweep (k_Store_sweep ph) (a_Store_sweep ph)
def y_Store_save : MethodName := ⟨"PackingHouse$Store", "save", "(LPackingHouse$Row;)I"⟩
theorem v_Store_save : zTv prog_29_method_7_code 6 30 false t_Store_save = true := by decide +kernel
theorem k_Store_save (ph : Bool) : zcKey (c_Store_save ph) t_Store_save = true := by cases ph <;> decide +kernel
theorem f_Store_save : zfV y_Store_save prog_29_method_7_code 6 (some .int) 27 1 := ⟨zq2 (q := (10, 29)) rfl, zq2 (q := (10, 27)) rfl, zq2 (q := (1, 30)) rfl, zq2 (q := (10, 28)) rfl, ⟨by decide, by decide⟩, by decide +kernel⟩
theorem a_Store_save (ph : Bool) : zcAll 30 2 84 ph (c_Store_save ph) := ⟨zkS (o := 30) (i := 68) f_Store_end (by decide) (ok_Store_end ph) (zq2 (q := (10, 30)) rfl), (ok_Store_end ph).1, zkV (o := 30) (i := 72) f_Store_blockFor (by decide) (ok_Store_blockFor ph) (zq2 (q := (10, 34)) rfl), zvt_m (ok_Store_blockFor ph).1, zkV (o := 30) (i := 76) f_Store_sweep (by decide) (ok_Store_sweep ph) (zq2 (q := (10, 43)) rfl), zvt_m (ok_Store_sweep ph).1, trivial⟩
theorem ok_Store_save (ph : Bool) : zOk y_Store_save (.code y_Store_save prog_29_method_7_code 6 (some .int)) 2 84 ph (X_Store_save ph) := zMd_ok (plainFor_of_name (by decide)) rfl (fun h => by cases h) v_Store_save (k_Store_save ph) (a_Store_save ph)
def y_House_save : MethodName := ⟨"PackingHouse", "save", "()I"⟩
theorem v_House_save : zTv prog_1_method_43_code 1 0 false t_House_save = true := by decide +kernel
theorem k_House_save (ph : Bool) : zcKey (c_House_save ph) t_House_save = true := by cases ph <;> decide +kernel
theorem f_House_save : zfV y_House_save prog_1_method_43_code 1 (some .int) 1 0 := ⟨zq2 (q := (10, 25)) rfl, zq2 (q := (10, 23)) rfl, zq2 (q := (1, 1)) rfl, zq2 (q := (10, 24)) rfl, ⟨by decide, by decide⟩, by decide +kernel⟩
theorem a_House_save (ph : Bool) : zcAll 0 3 109 ph (c_House_save ph) := ⟨zkV (o := 0) (i := 392) f_Store_save (by decide) (ok_Store_save ph) (zq2 (q := (10, 26)) rfl), zvt_m (ok_Store_save ph).1, trivial⟩
theorem ok_House_save (ph : Bool) : zOk y_House_save (.code y_House_save prog_1_method_43_code 1 (some .int)) 3 109 ph (X_House_save ph) := zMd_ok (plainFor_of_name (by decide)) rfl (fun h => by cases h) v_House_save (k_House_save ph) (a_House_save ph)
def y_Store_find : MethodName := ⟨"PackingHouse$Store", "find", "(I)LPackingHouse$Snapshot;"⟩
theorem v_Store_find : zTv prog_29_method_2_code 3 30 false t_Store_find = true := by decide +kernel
theorem k_Store_find (ph : Bool) : zcKey (c_Store_find ph) t_Store_find = true := by cases ph <;> decide +kernel
theorem f_Store_find : zfV y_Store_find prog_29_method_2_code 3 (some (.object "PackingHouse$Snapshot")) 27 1 := ⟨zq2 (q := (10, 54)) rfl, zq2 (q := (10, 52)) rfl, zq2 (q := (1, 30)) rfl, zq2 (q := (10, 53)) rfl, ⟨by decide, by decide⟩, by decide +kernel⟩
theorem a_Store_find (ph : Bool) : zcAll 30 0 0 ph (c_Store_find ph) := trivial
theorem ok_Store_find (ph : Bool) : zOk y_Store_find (.code y_Store_find prog_29_method_2_code 3 (some (.object "PackingHouse$Snapshot"))) 0 0 ph (X_Store_find ph) := zMd_ok (plainFor_of_name (by decide)) rfl (fun h => by cases h) v_Store_find (k_Store_find ph) (a_Store_find ph)
def y_House_restore : MethodName := ⟨"PackingHouse", "restore", "(I)I"⟩
theorem v_House_restore : zTv prog_1_method_44_code 6 0 false t_House_restore = true := by decide +kernel
theorem k_House_restore (ph : Bool) : zcKey (c_House_restore ph) t_House_restore = true := by cases ph <;> decide +kernel
theorem f_House_restore : zfV y_House_restore prog_1_method_44_code 6 (some .int) 1 1 := ⟨zq2 (q := (10, 50)) rfl, zq2 (q := (10, 48)) rfl, zq2 (q := (1, 1)) rfl, zq2 (q := (10, 49)) rfl, ⟨by decide, by decide⟩, by decide +kernel⟩
theorem a_House_restore (ph : Bool) : zcAll 0 3 103 ph (c_House_restore ph) := ⟨zkV (o := 0) (i := 195) f_Row_add (by decide) (ok_Row_add ph) (zq2 (q := (4, 214)) rfl), zvt_m (ok_Row_add ph).1, zkV (o := 0) (i := 242) f_House_spare (by decide) (ok_House_spare ph) (zq2 (q := (5, 75)) rfl), zvt_m (ok_House_spare ph).1, zkV (o := 0) (i := 257) f_House_keep (by decide) (ok_House_keep ph) (zq2 (q := (6, 225)) rfl), zvt_m (ok_House_keep ph).1, zkV (o := 0) (i := 396) f_Store_find (by decide) (ok_Store_find ph) (zq2 (q := (10, 51)) rfl), zvt_m (ok_Store_find ph).1, trivial⟩
theorem ok_House_restore (ph : Bool) : zOk y_House_restore (.code y_House_restore prog_1_method_44_code 6 (some .int)) 3 103 ph (X_House_restore ph) := zMd_ok (plainFor_of_name (by decide)) rfl (fun h => by cases h) v_House_restore (k_House_restore ph) (a_House_restore ph)
def y_Store_forget : MethodName := ⟨"PackingHouse$Store", "forget", "(LPackingHouse$Snapshot;)I"⟩
theorem v_Store_forget : zTv prog_29_method_8_code 3 30 false t_Store_forget = true := by decide +kernel
theorem k_Store_forget (ph : Bool) : zcKey (c_Store_forget ph) t_Store_forget = true := by cases ph <;> decide +kernel
theorem f_Store_forget : zfV y_Store_forget prog_29_method_8_code 3 (some .int) 27 1 := ⟨zq2 (q := (10, 62)) rfl, zq2 (q := (10, 60)) rfl, zq2 (q := (1, 30)) rfl, zq2 (q := (10, 61)) rfl, ⟨by decide, by decide⟩, by decide +kernel⟩
theorem a_Store_forget (ph : Bool) : zcAll 30 1 24 ph (c_Store_forget ph) := ⟨zkV (o := 30) (i := 76) f_Store_sweep (by decide) (ok_Store_sweep ph) (zq2 (q := (10, 43)) rfl), zvt_m (ok_Store_sweep ph).1, trivial⟩
theorem ok_Store_forget (ph : Bool) : zOk y_Store_forget (.code y_Store_forget prog_29_method_8_code 3 (some .int)) 1 24 ph (X_Store_forget ph) := zMd_ok (plainFor_of_name (by decide)) rfl (fun h => by cases h) v_Store_forget (k_Store_forget ph) (a_Store_forget ph)
def y_House_forget : MethodName := ⟨"PackingHouse", "forget", "(I)I"⟩
theorem v_House_forget : zTv prog_1_method_45_code 3 0 false t_House_forget = true := by decide +kernel
theorem k_House_forget (ph : Bool) : zcKey (c_House_forget ph) t_House_forget = true := by cases ph <;> decide +kernel
theorem f_House_forget : zfV y_House_forget prog_1_method_45_code 3 (some .int) 1 1 := ⟨zq2 (q := (10, 58)) rfl, zq2 (q := (10, 56)) rfl, zq2 (q := (1, 1)) rfl, zq2 (q := (10, 57)) rfl, ⟨by decide, by decide⟩, by decide +kernel⟩
theorem a_House_forget (ph : Bool) : zcAll 0 2 46 ph (c_House_forget ph) := ⟨zkV (o := 0) (i := 396) f_Store_find (by decide) (ok_Store_find ph) (zq2 (q := (10, 51)) rfl), zvt_m (ok_Store_find ph).1, zkV (o := 0) (i := 410) f_Store_forget (by decide) (ok_Store_forget ph) (zq2 (q := (10, 59)) rfl), zvt_m (ok_Store_forget ph).1, trivial⟩
theorem ok_House_forget (ph : Bool) : zOk y_House_forget (.code y_House_forget prog_1_method_45_code 3 (some .int)) 2 46 ph (X_House_forget ph) := zMd_ok (plainFor_of_name (by decide)) rfl (fun h => by cases h) v_House_forget (k_House_forget ph) (a_House_forget ph)
def y_Store_shared : MethodName := ⟨"PackingHouse$Store", "shared", "(LPackingHouse$Snapshot;LPackingHouse$Snapshot;)I"⟩
theorem v_Store_shared : zTv prog_29_method_9_code 5 30 false t_Store_shared = true := by decide +kernel
theorem k_Store_shared (ph : Bool) : zcKey (c_Store_shared ph) t_Store_shared = true := by cases ph <;> decide +kernel
theorem f_Store_shared : zfV y_Store_shared prog_29_method_9_code 5 (some .int) 27 2 := ⟨zq2 (q := (10, 70)) rfl, zq2 (q := (10, 68)) rfl, zq2 (q := (1, 30)) rfl, zq2 (q := (10, 69)) rfl, ⟨by decide, by decide⟩, by decide +kernel⟩
theorem a_Store_shared (ph : Bool) : zcAll 30 0 0 ph (c_Store_shared ph) := trivial
theorem ok_Store_shared (ph : Bool) : zOk y_Store_shared (.code y_Store_shared prog_29_method_9_code 5 (some .int)) 0 0 ph (X_Store_shared ph) := zMd_ok (plainFor_of_name (by decide)) rfl (fun h => by cases h) v_Store_shared (k_Store_shared ph) (a_Store_shared ph)

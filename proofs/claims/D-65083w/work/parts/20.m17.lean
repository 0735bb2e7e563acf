/-! printed by gen_all.py -/
def y_Model_entry : MethodName := ⟨"PackingHouseModel", "entry", "(III)I"⟩
theorem v_Model_entry : zTv prog_34_method_120_code 6 42 false t_Model_entry = true := by decide +kernel
theorem k_Model_entry (ph : Bool) : zcKey (c_Model_entry ph) t_Model_entry = true := by cases ph <;> decide +kernel
theorem f_Model_entry : zfV y_Model_entry prog_34_method_120_code 6 (some .int) 31 3 := ⟨zq2 (q := (14, 24)) rfl, zq2 (q := (14, 22)) rfl, zq2 (q := (1, 33)) rfl, zq2 (q := (14, 23)) rfl, ⟨by decide, by decide⟩, by decide +kernel⟩
theorem a_Model_entry (ph : Bool) : zcAll 42 2 43 ph (c_Model_entry ph) := ⟨zkS (o := 42) (i := 304) f_Model_in (by decide) (ok_Model_in ph) (zq2 (q := (12, 12)) rfl), (ok_Model_in ph).1, zkV (o := 42) (i := 331) f_Model_noStream (by decide) (ok_Model_noStream ph) (zq2 (q := (12, 75)) rfl), zvt_m (ok_Model_noStream ph).1, trivial⟩
theorem ok_Model_entry (ph : Bool) : zOk y_Model_entry (.code y_Model_entry prog_34_method_120_code 6 (some .int)) 2 43 ph (X_Model_entry ph) := zMd_ok (plainFor_of_name (by decide)) rfl (fun h => by cases h) v_Model_entry (k_Model_entry ph) (a_Model_entry ph)
def y_Model_noEntry : MethodName := ⟨"PackingHouseModel", "noEntry", "(I)Z"⟩
theorem v_Model_noEntry : zTv prog_34_method_121_code 2 42 false t_Model_noEntry = true := by decide +kernel
theorem k_Model_noEntry (ph : Bool) : zcKey (c_Model_noEntry ph) t_Model_noEntry = true := by cases ph <;> decide +kernel
theorem f_Model_noEntry : zfV y_Model_noEntry prog_34_method_121_code 2 (some .boolean) 31 1 := ⟨zq2 (q := (14, 32)) rfl, zq2 (q := (14, 31)) rfl, zq2 (q := (1, 33)) rfl, zq2 (q := (111, 4)) rfl, ⟨by decide, by decide⟩, by decide +kernel⟩
theorem a_Model_noEntry (ph : Bool) : zcAll 42 0 0 ph (c_Model_noEntry ph) := trivial
theorem ok_Model_noEntry (ph : Bool) : zOk y_Model_noEntry (.code y_Model_noEntry prog_34_method_121_code 2 (some .boolean)) 0 0 ph (X_Model_noEntry ph) := zMd_ok (plainFor_of_name (by decide)) rfl (fun h => by cases h) v_Model_noEntry (k_Model_noEntry ph) (a_Model_noEntry ph)
def y_Model_isUnsafe : MethodName := ⟨"PackingHouseModel", "isUnsafe", "(I)Z"⟩
theorem v_Model_isUnsafe : zTv prog_34_method_122_code 7 42 false t_Model_isUnsafe = true := by decide +kernel
theorem k_Model_isUnsafe (ph : Bool) : zcKey (c_Model_isUnsafe ph) t_Model_isUnsafe = true := by cases ph <;> decide +kernel
theorem f_Model_isUnsafe : zfV y_Model_isUnsafe prog_34_method_122_code 7 (some .boolean) 31 1 := ⟨zq2 (q := (14, 36)) rfl, zq2 (q := (14, 35)) rfl, zq2 (q := (1, 33)) rfl, zq2 (q := (111, 5)) rfl, ⟨by decide, by decide⟩, by decide +kernel⟩
theorem a_Model_isUnsafe (ph : Bool) : zcAll 42 0 0 ph (c_Model_isUnsafe ph) := trivial
theorem ok_Model_isUnsafe (ph : Bool) : zOk y_Model_isUnsafe (.code y_Model_isUnsafe prog_34_method_122_code 7 (some .boolean)) 0 0 ph (X_Model_isUnsafe ph) := zMd_ok (plainFor_of_name (by decide)) rfl (fun h => by cases h) v_Model_isUnsafe (k_Model_isUnsafe ph) (a_Model_isUnsafe ph)
def y_Model_told : MethodName := ⟨"PackingHouseModel", "told", "(II)I"⟩
theorem v_Model_told : zTv prog_34_method_123_code 3 42 false t_Model_told = true := by decide +kernel
theorem k_Model_told (ph : Bool) : zcKey (c_Model_told ph) t_Model_told = true := by cases ph <;> decide +kernel
theorem f_Model_told : zfV y_Model_told prog_34_method_123_code 3 (some .int) 31 2 := ⟨zq2 (q := (14, 28)) rfl, zq2 (q := (14, 26)) rfl, zq2 (q := (1, 33)) rfl, zq2 (q := (14, 27)) rfl, ⟨by decide, by decide⟩, by decide +kernel⟩
theorem a_Model_told (ph : Bool) : zcAll 42 1 26 ph (c_Model_told ph) := ⟨zkV (o := 42) (i := 773) f_Model_noEntry (by decide) (ok_Model_noEntry ph) (zq2 (q := (14, 29)) rfl), zvt_m (ok_Model_noEntry ph).1, zkV (o := 42) (i := 776) f_Model_isUnsafe (by decide) (ok_Model_isUnsafe ph) (zq2 (q := (14, 33)) rfl), zvt_m (ok_Model_isUnsafe ph).1, trivial⟩
theorem ok_Model_told (ph : Bool) : zOk y_Model_told (.code y_Model_told prog_34_method_123_code 3 (some .int)) 1 26 ph (X_Model_told ph) := zMd_ok (plainFor_of_name (by decide)) rfl (fun h => by cases h) v_Model_told (k_Model_told ph) (a_Model_told ph)
def y_Model_nameAt : MethodName := ⟨"PackingHouseModel", "nameAt", "(II)I"⟩
theorem v_Model_nameAt : zTv prog_34_method_124_code 3 42 false t_Model_nameAt = true := by decide +kernel
theorem k_Model_nameAt (ph : Bool) : zcKey (c_Model_nameAt ph) t_Model_nameAt = true := by cases ph <;> decide +kernel
theorem f_Model_nameAt : zfV y_Model_nameAt prog_34_method_124_code 3 (some .int) 31 2 := ⟨zq2 (q := (14, 40)) rfl, zq2 (q := (14, 38)) rfl, zq2 (q := (1, 33)) rfl, zq2 (q := (14, 39)) rfl, ⟨by decide, by decide⟩, by decide +kernel⟩
theorem a_Model_nameAt (ph : Bool) : zcAll 42 1 21 ph (c_Model_nameAt ph) := ⟨zkV (o := 42) (i := 773) f_Model_noEntry (by decide) (ok_Model_noEntry ph) (zq2 (q := (14, 29)) rfl), zvt_m (ok_Model_noEntry ph).1, trivial⟩
theorem ok_Model_nameAt (ph : Bool) : zOk y_Model_nameAt (.code y_Model_nameAt prog_34_method_124_code 3 (some .int)) 1 21 ph (X_Model_nameAt ph) := zMd_ok (plainFor_of_name (by decide)) rfl (fun h => by cases h) v_Model_nameAt (k_Model_nameAt ph) (a_Model_nameAt ph)
def y_Model_extract : MethodName := ⟨"PackingHouseModel", "extract", "(I)I"⟩
theorem v_Model_extract : zTv prog_34_method_125_code 2 42 false t_Model_extract = true := by decide +kernel
theorem k_Model_extract (ph : Bool) : zcKey (c_Model_extract ph) t_Model_extract = true := by cases ph <;> decide +kernel
theorem f_Model_extract : zfV y_Model_extract prog_34_method_125_code 2 (some .int) 31 1 := ⟨zq2 (q := (14, 44)) rfl, zq2 (q := (14, 42)) rfl, zq2 (q := (1, 33)) rfl, zq2 (q := (14, 43)) rfl, ⟨by decide, by decide⟩, by decide +kernel⟩
theorem a_Model_extract (ph : Bool) : zcAll 42 2 46 ph (c_Model_extract ph) := ⟨zkV (o := 42) (i := 335) f_Model_freeStream (by decide) (ok_Model_freeStream ph) (zq2 (q := (12, 99)) rfl), zvt_m (ok_Model_freeStream ph).1, zkV (o := 42) (i := 695) f_Model_newStream (by decide) (ok_Model_newStream ph) (zq2 (q := (13, 73)) rfl), zvt_m (ok_Model_newStream ph).1, zkV (o := 42) (i := 773) f_Model_noEntry (by decide) (ok_Model_noEntry ph) (zq2 (q := (14, 29)) rfl), zvt_m (ok_Model_noEntry ph).1, trivial⟩
theorem ok_Model_extract (ph : Bool) : zOk y_Model_extract (.code y_Model_extract prog_34_method_125_code 2 (some .int)) 2 46 ph (X_Model_extract ph) := zMd_ok (plainFor_of_name (by decide)) rfl (fun h => by cases h) v_Model_extract (k_Model_extract ph) (a_Model_extract ph)
def y_Model_wipe : MethodName := ⟨"PackingHouseModel", "wipe", "()I"⟩
theorem v_Model_wipe : zTv prog_34_method_126_code 2 42 false t_Model_wipe = true := by decide +kernel
theorem k_Model_wipe (ph : Bool) : zcKey (c_Model_wipe ph) t_Model_wipe = true := by cases ph <;> decide +kernel
theorem f_Model_wipe : zfV y_Model_wipe prog_34_method_126_code 2 (some .int) 31 0 := ⟨zq2 (q := (14, 48)) rfl, zq2 (q := (14, 46)) rfl, zq2 (q := (1, 33)) rfl, zq2 (q := (14, 47)) rfl, ⟨by decide, by decide⟩, by decide +kernel⟩
theorem a_Model_wipe (ph : Bool) : zcAll 42 0 0 ph (c_Model_wipe ph) := trivial
theorem ok_Model_wipe (ph : Bool) : zOk y_Model_wipe (.code y_Model_wipe prog_34_method_126_code 2 (some .int)) 0 0 ph (X_Model_wipe ph) := zMd_ok (plainFor_of_name (by decide)) rfl (fun h => by cases h) v_Model_wipe (k_Model_wipe ph) (a_Model_wipe ph)
def y_Model_canBench : MethodName := ⟨"PackingHouseModel", "canBench", "()Z"⟩
theorem v_Model_canBench : zTv prog_34_method_134_code 4 42 false t_Model_canBench = true := by decide +kernel
theorem k_Model_canBench (ph : Bool) : zcKey (c_Model_canBench ph) t_Model_canBench = true := by cases ph <;> decide +kernel
theorem f_Model_canBench : zfV y_Model_canBench prog_34_method_134_code 4 (some .boolean) 31 0 := ⟨zq2 (q := (14, 56)) rfl, zq2 (q := (14, 55)) rfl, zq2 (q := (1, 33)) rfl, zq2 (q := (111, 6)) rfl, ⟨by decide, by decide⟩, by decide +kernel⟩
theorem a_Model_canBench (ph : Bool) : zcAll 42 0 0 ph (c_Model_canBench ph) := trivial
theorem ok_Model_canBench (ph : Bool) : zOk y_Model_canBench (.code y_Model_canBench prog_34_method_134_code 4 (some .boolean)) 0 0 ph (X_Model_canBench ph) := zMd_ok (plainFor_of_name (by decide)) rfl (fun h => by cases h) v_Model_canBench (k_Model_canBench ph) (a_Model_canBench ph)
def y_Model_nameOf : MethodName := ⟨"PackingHouseModel", "nameOf", "(I)V"⟩
theorem v_Model_nameOf : zTv prog_34_method_129_code 3 42 false t_Model_nameOf = true := by decide +kernel
theorem k_Model_nameOf (ph : Bool) : zcKey (c_Model_nameOf ph) t_Model_nameOf = true := by cases ph <;> decide +kernel
theorem f_Model_nameOf : zfV y_Model_nameOf prog_34_method_129_code 3 none 31 1 := ⟨zq2 (q := (14, 68)) rfl, zq2 (q := (14, 67)) rfl, zq2 (q := (1, 33)) rfl, zq2 (q := (111, 9)) rfl, ⟨by decide, by decide⟩, by decide +kernel⟩
theorem a_Model_nameOf (ph : Bool) : zcAll 42 1 21 ph (c_Model_nameOf ph) := ⟨zkV (o := 42) (i := 349) f_Model_put (by decide) (ok_Model_put ph) (zq2 (q := (12, 118)) rfl), zvt_m (ok_Model_put ph).1, trivial⟩
theorem ok_Model_nameOf (ph : Bool) : zOk y_Model_nameOf (.code y_Model_nameOf prog_34_method_129_code 3 none) 1 21 ph (X_Model_nameOf ph) := zMd_ok (plainFor_of_name (by decide)) rfl (fun h => by cases h) v_Model_nameOf (k_Model_nameOf ph) (a_Model_nameOf ph)
def y_Model_fillTo : MethodName := ⟨"PackingHouseModel", "fillTo", "(II)V"⟩
theorem v_Model_fillTo : zTv prog_34_method_128_code 3 42 false t_Model_fillTo = true := by decide +kernel
theorem k_Model_fillTo (ph : Bool) : zcKey (c_Model_fillTo ph) t_Model_fillTo = true := by cases ph <;> decide +kernel
theorem f_Model_fillTo : zfV y_Model_fillTo prog_34_method_128_code 3 none 31 2 := ⟨zq2 (q := (14, 72)) rfl, zq2 (q := (14, 71)) rfl, zq2 (q := (1, 33)) rfl, zq2 (q := (111, 10)) rfl, ⟨by decide, by decide⟩, by decide +kernel⟩
theorem a_Model_fillTo (ph : Bool) : zcAll 42 1 21 ph (c_Model_fillTo ph) := ⟨zkV (o := 42) (i := 349) f_Model_put (by decide) (ok_Model_put ph) (zq2 (q := (12, 118)) rfl), zvt_m (ok_Model_put ph).1, trivial⟩
theorem ok_Model_fillTo (ph : Bool) : zOk y_Model_fillTo (.code y_Model_fillTo prog_34_method_128_code 3 none) 1 21 ph (X_Model_fillTo ph) := zMd_ok (plainFor_of_name (by decide)) rfl (fun h => by cases h) v_Model_fillTo (k_Model_fillTo ph) (a_Model_fillTo ph)
def y_Model_figures : MethodName := ⟨"PackingHouseModel", "figures", "(JII)V"⟩
theorem v_Model_figures : zTv prog_34_method_127_code 8 42 false t_Model_figures = true := by decide +kernel
theorem k_Model_figures (ph : Bool) : zcKey (c_Model_figures ph) t_Model_figures = true := by cases ph <;> decide +kernel
theorem f_Model_figures : zfV y_Model_figures prog_34_method_127_code 8 none 31 3 := ⟨zq2 (q := (14, 76)) rfl, zq2 (q := (14, 75)) rfl, zq2 (q := (1, 33)) rfl, zq2 (q := (111, 11)) rfl, ⟨by decide, by decide⟩, by decide +kernel⟩
theorem a_Model_figures (ph : Bool) : zcAll 42 1 21 ph (c_Model_figures ph) := ⟨zkV (o := 42) (i := 349) f_Model_put (by decide) (ok_Model_put ph) (zq2 (q := (12, 118)) rfl), zvt_m (ok_Model_put ph).1, trivial⟩
theorem ok_Model_figures (ph : Bool) : zOk y_Model_figures (.code y_Model_figures prog_34_method_127_code 8 none) 1 21 ph (X_Model_figures ph) := zMd_ok (plainFor_of_name (by decide)) rfl (fun h => by cases h) v_Model_figures (k_Model_figures ph) (a_Model_figures ph)
def y_Model_tapeRow : MethodName := ⟨"PackingHouseModel", "tapeRow", "(I)V"⟩
theorem v_Model_tapeRow : zTv prog_34_method_131_code 5 42 false t_Model_tapeRow = true := by decide +kernel
theorem k_Model_tapeRow (ph : Bool) : zcKey (c_Model_tapeRow ph) t_Model_tapeRow = true := by cases ph <;> decide +kernel
theorem f_Model_tapeRow : zfV y_Model_tapeRow prog_34_method_131_code 5 none 31 1 := ⟨zq2 (q := (14, 64)) rfl, zq2 (q := (14, 63)) rfl, zq2 (q := (1, 33)) rfl, zq2 (q := (111, 8)) rfl, ⟨by decide, by decide⟩, by decide +kernel⟩
theorem a_Model_tapeRow (ph : Bool) : zcAll 42 2 48 ph (c_Model_tapeRow ph) := ⟨zkV (o := 42) (i := 349) f_Model_put (by decide) (ok_Model_put ph) (zq2 (q := (12, 118)) rfl), zvt_m (ok_Model_put ph).1, zkV (o := 42) (i := 781) f_Model_nameOf (by decide) (ok_Model_nameOf ph) (zq2 (q := (14, 65)) rfl), zvt_m (ok_Model_nameOf ph).1, zkV (o := 42) (i := 784) f_Model_fillTo (by decide) (ok_Model_fillTo ph) (zq2 (q := (14, 69)) rfl), zvt_m (ok_Model_fillTo ph).1, zkV (o := 42) (i := 787) f_Model_figures (by decide) (ok_Model_figures ph) (zq2 (q := (14, 73)) rfl), zvt_m (ok_Model_figures ph).1, trivial⟩
theorem ok_Model_tapeRow (ph : Bool) : zOk y_Model_tapeRow (.code y_Model_tapeRow prog_34_method_131_code 5 none) 2 48 ph (X_Model_tapeRow ph) := zMd_ok (plainFor_of_name (by decide)) rfl (fun h => by cases h) v_Model_tapeRow (k_Model_tapeRow ph) (a_Model_tapeRow ph)
def y_Model_textOf : MethodName := ⟨"PackingHouseModel", "textOf", "(I)V"⟩
theorem v_Model_textOf : zTv prog_34_method_130_code 3 42 false t_Model_textOf = true := by decide +kernel
theorem k_Model_textOf (ph : Bool) : zcKey (c_Model_textOf ph) t_Model_textOf = true := by cases ph <;> decide +kernel
theorem f_Model_textOf : zfV y_Model_textOf prog_34_method_130_code 3 none 31 1 := ⟨zq2 (q := (14, 81)) rfl, zq2 (q := (14, 80)) rfl, zq2 (q := (1, 33)) rfl, zq2 (q := (111, 12)) rfl, ⟨by decide, by decide⟩, by decide +kernel⟩
theorem a_Model_textOf (ph : Bool) : zcAll 42 1 21 ph (c_Model_textOf ph) := ⟨zkV (o := 42) (i := 349) f_Model_put (by decide) (ok_Model_put ph) (zq2 (q := (12, 118)) rfl), zvt_m (ok_Model_put ph).1, trivial⟩
theorem ok_Model_textOf (ph : Bool) : zOk y_Model_textOf (.code y_Model_textOf prog_34_method_130_code 3 none) 1 21 ph (X_Model_textOf ph) := zMd_ok (plainFor_of_name (by decide)) rfl (fun h => by cases h) v_Model_textOf (k_Model_textOf ph) (a_Model_textOf ph)
def y_Model_writeTape : MethodName := ⟨"PackingHouseModel", "writeTape", "()Z"⟩
theorem v_Model_writeTape : zTv prog_34_method_132_code 2 42 false t_Model_writeTape = true := by decide +kernel
theorem k_Model_writeTape (ph : Bool) : zcKey (c_Model_writeTape ph) t_Model_writeTape = true := by cases ph <;> decide +kernel
theorem f_Model_writeTape : zfV y_Model_writeTape prog_34_method_132_code 2 (some .boolean) 31 0 := ⟨zq2 (q := (14, 60)) rfl, zq2 (q := (14, 59)) rfl, zq2 (q := (1, 33)) rfl, zq2 (q := (111, 7)) rfl, ⟨by decide, by decide⟩, by decide +kernel⟩
theorem a_Model_writeTape (ph : Bool) : zcAll 42 3 72 ph (c_Model_writeTape ph) := ⟨zkV (o := 42) (i := 784) f_Model_fillTo (by decide) (ok_Model_fillTo ph) (zq2 (q := (14, 69)) rfl), zvt_m (ok_Model_fillTo ph).1, zkV (o := 42) (i := 791) f_Model_tapeRow (by decide) (ok_Model_tapeRow ph) (zq2 (q := (14, 61)) rfl), zvt_m (ok_Model_tapeRow ph).1, zkV (o := 42) (i := 794) f_Model_textOf (by decide) (ok_Model_textOf ph) (zq2 (q := (14, 78)) rfl), zvt_m (ok_Model_textOf ph).1, trivial⟩
theorem ok_Model_writeTape (ph : Bool) : zOk y_Model_writeTape (.code y_Model_writeTape prog_34_method_132_code 2 (some .boolean)) 3 72 ph (X_Model_writeTape ph) := zMd_ok (plainFor_of_name (by decide)) rfl (fun h => by cases h) v_Model_writeTape (k_Model_writeTape ph) (a_Model_writeTape ph)
def y_Model_tens : MethodName := ⟨"PackingHouseModel", "tens", "(JII)V"⟩
theorem v_Model_tens : zTv prog_34_method_133_code 8 42 false t_Model_tens = true := by decide +kernel
theorem k_Model_tens (ph : Bool) : zcKey (c_Model_tens ph) t_Model_tens = true := by cases ph <;> decide +kernel
theorem f_Model_tens : zfV y_Model_tens prog_34_method_133_code 8 none 31 3 := ⟨zq2 (q := (14, 91)) rfl, zq2 (q := (14, 90)) rfl, zq2 (q := (1, 33)) rfl, zq2 (q := (111, 14)) rfl, ⟨by decide, by decide⟩, by decide +kernel⟩
theorem a_Model_tens (ph : Bool) : zcAll 42 2 43 ph (c_Model_tens ph) := ⟨zkV (o := 42) (i := 349) f_Model_put (by decide) (ok_Model_put ph) (zq2 (q := (12, 118)) rfl), zvt_m (ok_Model_put ph).1, zkV (o := 42) (i := 784) f_Model_fillTo (by decide) (ok_Model_fillTo ph) (zq2 (q := (14, 69)) rfl), zvt_m (ok_Model_fillTo ph).1, trivial⟩
theorem ok_Model_tens (ph : Bool) : zOk y_Model_tens (.code y_Model_tens prog_34_method_133_code 8 none) 2 43 ph (X_Model_tens ph) := zMd_ok (plainFor_of_name (by decide)) rfl (fun h => by cases h) v_Model_tens (k_Model_tens ph) (a_Model_tens ph)
def y_Model_writeBench : MethodName := ⟨"PackingHouseModel", "writeBench", "()V"⟩
theorem v_Model_writeBench : zTv prog_34_method_135_code 3 42 false t_Model_writeBench = true := by decide +kernel
theorem k_Model_writeBench (ph : Bool) : zcKey (c_Model_writeBench ph) t_Model_writeBench = true := by cases ph <;> decide +kernel
theorem f_Model_writeBench : zfV y_Model_writeBench prog_34_method_135_code 3 none 31 0 := ⟨zq2 (q := (14, 85)) rfl, zq2 (q := (14, 84)) rfl, zq2 (q := (1, 33)) rfl, zq2 (q := (111, 13)) rfl, ⟨by decide, by decide⟩, by decide +kernel⟩
theorem a_Model_writeBench (ph : Bool) : zcAll 42 3 70 ph (c_Model_writeBench ph) := ⟨zkV (o := 42) (i := 349) f_Model_put (by decide) (ok_Model_put ph) (zq2 (q := (12, 118)) rfl), zvt_m (ok_Model_put ph).1, zkV (o := 42) (i := 781) f_Model_nameOf (by decide) (ok_Model_nameOf ph) (zq2 (q := (14, 65)) rfl), zvt_m (ok_Model_nameOf ph).1, zkV (o := 42) (i := 784) f_Model_fillTo (by decide) (ok_Model_fillTo ph) (zq2 (q := (14, 69)) rfl), zvt_m (ok_Model_fillTo ph).1, zkV (o := 42) (i := 794) f_Model_textOf (by decide) (ok_Model_textOf ph) (zq2 (q := (14, 78)) rfl), zvt_m (ok_Model_textOf ph).1, zkV (o := 42) (i := 800) f_Model_tens (by decide) (ok_Model_tens ph) (zq2 (q := (14, 88)) rfl), zvt_m (ok_Model_tens ph).1, trivial⟩
theorem ok_Model_writeBench (ph : Bool) : zOk y_Model_writeBench (.code y_Model_writeBench prog_34_method_135_code 3 none) 3 70 ph (X_Model_writeBench ph) := zMd_ok (plainFor_of_name (by decide)) rfl (fun h => by cases h) v_Model_writeBench (k_Model_writeBench ph) (a_Model_writeBench ph)
def y_Model_boxText : MethodName := ⟨"PackingHouseModel", "boxText", "(II)V"⟩
theorem v_Model_boxText : zTv prog_34_method_137_code 5 42 false t_Model_boxText = true := by decide +kernel
theorem k_Model_boxText (ph : Bool) : zcKey (c_Model_boxText ph) t_Model_boxText = true := by cases ph <;> decide +kernel
theorem f_Model_boxText : zfV y_Model_boxText prog_34_method_137_code 5 none 31 2 := ⟨zq2 (q := (14, 99)) rfl, zq2 (q := (14, 98)) rfl, zq2 (q := (1, 33)) rfl, zq2 (q := (112, 0)) rfl, ⟨by decide, by decide⟩, by decide +kernel⟩
theorem a_Model_boxText (ph : Bool) : zcAll 42 6 147 ph (c_Model_boxText ph) := ⟨zkV (o := 42) (i := 317) f_Model_round (by decide) (ok_Model_round ph) (zq2 (q := (12, 42)) rfl), zvt_m (ok_Model_round ph).1, zkV (o := 42) (i := 496) f_Model_low (by decide) (ok_Model_low ph) (zq2 (q := (12, 155)) rfl), zvt_m (ok_Model_low ph).1, zkV (o := 42) (i := 554) f_Model_packBlocks (by decide) (ok_Model_packBlocks ph) (zq2 (q := (12, 147)) rfl), zvt_m (ok_Model_packBlocks ph).1, zkV (o := 42) (i := 781) f_Model_nameOf (by decide) (ok_Model_nameOf ph) (zq2 (q := (14, 65)) rfl), zvt_m (ok_Model_nameOf ph).1, zkV (o := 42) (i := 794) f_Model_textOf (by decide) (ok_Model_textOf ph) (zq2 (q := (14, 78)) rfl), zvt_m (ok_Model_textOf ph).1, trivial⟩
theorem ok_Model_boxText (ph : Bool) : zOk y_Model_boxText (.code y_Model_boxText prog_34_method_137_code 5 none) 6 147 ph (X_Model_boxText ph) := zMd_ok (plainFor_of_name (by decide)) rfl (fun h => by cases h) v_Model_boxText (k_Model_boxText ph) (a_Model_boxText ph)
def y_Model_writeBox : MethodName := ⟨"PackingHouseModel", "writeBox", "(I)V"⟩
theorem v_Model_writeBox : zTv prog_34_method_136_code 5 42 false t_Model_writeBox = true := by decide +kernel
theorem k_Model_writeBox (ph : Bool) : zcKey (c_Model_writeBox ph) t_Model_writeBox = true := by cases ph <;> decide +kernel
theorem f_Model_writeBox : zfV y_Model_writeBox prog_34_method_136_code 5 none 31 1 := ⟨zq2 (q := (14, 95)) rfl, zq2 (q := (14, 94)) rfl, zq2 (q := (1, 33)) rfl, zq2 (q := (111, 15)) rfl, ⟨by decide, by decide⟩, by decide +kernel⟩
theorem a_Model_writeBox (ph : Bool) : zcAll 42 7 171 ph (c_Model_writeBox ph) := ⟨zkV (o := 42) (i := 496) f_Model_low (by decide) (ok_Model_low ph) (zq2 (q := (12, 155)) rfl), zvt_m (ok_Model_low ph).1, zkV (o := 42) (i := 781) f_Model_nameOf (by decide) (ok_Model_nameOf ph) (zq2 (q := (14, 65)) rfl), zvt_m (ok_Model_nameOf ph).1, zkV (o := 42) (i := 803) f_Model_boxText (by decide) (ok_Model_boxText ph) (zq2 (q := (14, 96)) rfl), zvt_m (ok_Model_boxText ph).1, trivial⟩
theorem ok_Model_writeBox (ph : Bool) : zOk y_Model_writeBox (.code y_Model_writeBox prog_34_method_136_code 5 none) 7 171 ph (X_Model_writeBox ph) := zMd_ok (plainFor_of_name (by decide)) rfl (fun h => by cases h) v_Model_writeBox (k_Model_writeBox ph) (a_Model_writeBox ph)
def y_Model_write : MethodName := ⟨"PackingHouseModel", "write", "(II)I"⟩
theorem v_Model_write : zTv prog_34_method_138_code 4 42 false t_Model_write = true := by decide +kernel
theorem k_Model_write (ph : Bool) : zcKey (c_Model_write ph) t_Model_write = true := by cases ph <;> decide +kernel
theorem f_Model_write : zfV y_Model_write prog_34_method_138_code 4 (some .int) 31 2 := ⟨zq2 (q := (14, 52)) rfl, zq2 (q := (14, 50)) rfl, zq2 (q := (1, 33)) rfl, zq2 (q := (14, 51)) rfl, ⟨by decide, by decide⟩, by decide +kernel⟩
theorem a_Model_write (ph : Bool) : zcAll 42 8 195 ph (c_Model_write ph) := ⟨zkS (o := 42) (i := 304) f_Model_in (by decide) (ok_Model_in ph) (zq2 (q := (12, 12)) rfl), (ok_Model_in ph).1, zkV (o := 42) (i := 335) f_Model_freeStream (by decide) (ok_Model_freeStream ph) (zq2 (q := (12, 99)) rfl), zvt_m (ok_Model_freeStream ph).1, zkV (o := 42) (i := 679) f_Model_begin (by decide) (ok_Model_begin ph) (zq2 (q := (12, 103)) rfl), zvt_m (ok_Model_begin ph).1, zkV (o := 42) (i := 695) f_Model_newStream (by decide) (ok_Model_newStream ph) (zq2 (q := (13, 73)) rfl), zvt_m (ok_Model_newStream ph).1, zkV (o := 42) (i := 814) f_Model_canBench (by decide) (ok_Model_canBench ph) (zq2 (q := (14, 53)) rfl), zvt_m (ok_Model_canBench ph).1, zkV (o := 42) (i := 817) f_Model_writeTape (by decide) (ok_Model_writeTape ph) (zq2 (q := (14, 57)) rfl), zvt_m (ok_Model_writeTape ph).1, zkV (o := 42) (i := 820) f_Model_writeBench (by decide) (ok_Model_writeBench ph) (zq2 (q := (14, 82)) rfl), zvt_m (ok_Model_writeBench ph).1, zkV (o := 42) (i := 823) f_Model_writeBox (by decide) (ok_Model_writeBox ph) (zq2 (q := (14, 92)) rfl), zvt_m (ok_Model_writeBox ph).1, trivial⟩
theorem ok_Model_write (ph : Bool) : zOk y_Model_write (.code y_Model_write prog_34_method_138_code 4 (some .int)) 8 195 ph (X_Model_write ph) := zMd_ok (plainFor_of_name (by decide)) rfl (fun h => by cases h) v_Model_write (k_Model_write ph) (a_Model_write ph)
def y_Model_eights : MethodName := ⟨"PackingHouseModel", "eights", "(II)J"⟩
theorem v_Model_eights : zTv prog_34_method_139_code 8 42 false t_Model_eights = true := by decide +kernel
theorem k_Model_eights (ph : Bool) : zcKey (c_Model_eights ph) t_Model_eights = true := by cases ph <;> decide +kernel
theorem f_Model_eights : zfV y_Model_eights prog_34_method_139_code 8 (some .long) 31 2 := ⟨zq2 (q := (14, 115)) rfl, zq2 (q := (14, 114)) rfl, zq2 (q := (1, 33)) rfl, zq2 (q := (112, 2)) rfl, ⟨by decide, by decide⟩, by decide +kernel⟩
theorem a_Model_eights (ph : Bool) : zcAll 42 1 22 ph (c_Model_eights ph) := ⟨zkS (o := 42) (i := 304) f_Model_in (by decide) (ok_Model_in ph) (zq2 (q := (12, 12)) rfl), (ok_Model_in ph).1, trivial⟩
theorem ok_Model_eights (ph : Bool) : zOk y_Model_eights (.code y_Model_eights prog_34_method_139_code 8 (some .long)) 1 22 ph (X_Model_eights ph) := zMd_ok (plainFor_of_name (by decide)) rfl (fun h => by cases h) v_Model_eights (k_Model_eights ph) (a_Model_eights ph)
def y_Model_upTo0 : MethodName := ⟨"PackingHouseModel", "upTo0", "(II)I"⟩
theorem v_Model_upTo0 : zTv prog_34_method_141_code 4 42 false t_Model_upTo0 = true := by decide +kernel
theorem k_Model_upTo0 (ph : Bool) : zcKey (c_Model_upTo0 ph) t_Model_upTo0 = true := by cases ph <;> decide +kernel
theorem f_Model_upTo0 : zfV y_Model_upTo0 prog_34_method_141_code 4 (some .int) 31 2 := ⟨zq2 (q := (14, 121)) rfl, zq2 (q := (14, 120)) rfl, zq2 (q := (1, 33)) rfl, zq2 (q := (112, 3)) rfl, ⟨by decide, by decide⟩, by decide +kernel⟩
theorem a_Model_upTo0 (ph : Bool) : zcAll 42 0 0 ph (c_Model_upTo0 ph) := trivial
theorem ok_Model_upTo0 (ph : Bool) : zOk y_Model_upTo0 (.code y_Model_upTo0 prog_34_method_141_code 4 (some .int)) 0 0 ph (X_Model_upTo0 ph) := zMd_ok (plainFor_of_name (by decide)) rfl (fun h => by cases h) v_Model_upTo0 (k_Model_upTo0 ph) (a_Model_upTo0 ph)
def y_Model_newName : MethodName := ⟨"PackingHouseModel", "newName", "(II)Z"⟩
theorem v_Model_newName : zTv prog_34_method_140_code 4 42 false t_Model_newName = true := by decide +kernel
theorem k_Model_newName (ph : Bool) : zcKey (c_Model_newName ph) t_Model_newName = true := by cases ph <;> decide +kernel
theorem f_Model_newName : zfV y_Model_newName prog_34_method_140_code 4 (some .boolean) 31 2 := ⟨zq2 (q := (14, 127)) rfl, zq2 (q := (14, 126)) rfl, zq2 (q := (1, 33)) rfl, zq2 (q := (112, 4)) rfl, ⟨by decide, by decide⟩, by decide +kernel⟩
theorem a_Model_newName (ph : Bool) : zcAll 42 0 0 ph (c_Model_newName ph) := trivial
theorem ok_Model_newName (ph : Bool) : zOk y_Model_newName (.code y_Model_newName prog_34_method_140_code 4 (some .boolean)) 0 0 ph (X_Model_newName ph) := zMd_ok (plainFor_of_name (by decide)) rfl (fun h => by cases h) v_Model_newName (k_Model_newName ph) (a_Model_newName ph)
def y_Model_entryOf : MethodName := ⟨"PackingHouseModel", "entryOf", "(II[BII)V"⟩
theorem v_Model_entryOf : zTv prog_34_method_143_code 7 42 false t_Model_entryOf = true := by decide +kernel
theorem k_Model_entryOf (ph : Bool) : zcKey (c_Model_entryOf ph) t_Model_entryOf = true := by cases ph <;> decide +kernel
theorem f_Model_entryOf : zfV y_Model_entryOf prog_34_method_143_code 7 none 31 5 := ⟨zq2 (q := (14, 131)) rfl, zq2 (q := (14, 130)) rfl, zq2 (q := (1, 33)) rfl, zq2 (q := (112, 5)) rfl, ⟨by decide, by decide⟩, by decide +kernel⟩
theorem a_Model_entryOf (ph : Bool) : zcAll 42 0 0 ph (c_Model_entryOf ph) := trivial
theorem ok_Model_entryOf (ph : Bool) : zOk y_Model_entryOf (.code y_Model_entryOf prog_34_method_143_code 7 none) 0 0 ph (X_Model_entryOf ph) := zMd_ok (plainFor_of_name (by decide)) rfl (fun h => by cases h) v_Model_entryOf (k_Model_entryOf ph) (a_Model_entryOf ph)
def y_Model_readTape : MethodName := ⟨"PackingHouseModel", "readTape", "()V"⟩
theorem v_Model_readTape_0 : zTv prog_34_method_142_code 18 42 false ((t_Model_readTape.drop 0).take 16) = true := by decide +kernel
theorem v_Model_readTape_1 : zTv prog_34_method_142_code 18 42 false ((t_Model_readTape.drop 16).take 16) = true := by decide +kernel
theorem v_Model_readTape_2 : zTv prog_34_method_142_code 18 42 false ((t_Model_readTape.drop 32).take 16) = true := by decide +kernel
theorem v_Model_readTape_3 : zTv prog_34_method_142_code 18 42 false ((t_Model_readTape.drop 48).take 16) = true := by decide +kernel
theorem v_Model_readTape_4 : zTv prog_34_method_142_code 18 42 false (t_Model_readTape.drop 64) = true := by decide +kernel
theorem v_Model_readTape : zTv prog_34_method_142_code 18 42 false t_Model_readTape = true := zTv_0 (t := t_Model_readTape) (zTv_cut (t := t_Model_readTape) (k := 0) (C := 16) v_Model_readTape_0 (zTv_cut (t := t_Model_readTape) (k := 16) (C := 16) v_Model_readTape_1 (zTv_cut (t := t_Model_readTape) (k := 32) (C := 16) v_Model_readTape_2 (zTv_cut (t := t_Model_readTape) (k := 48) (C := 16) v_Model_readTape_3 (v_Model_readTape_4)))))
theorem k_Model_readTape (ph : Bool) : zcKey (c_Model_readTape ph) t_Model_readTape = true := by cases ph <;> decide +kernel
theorem f_Model_readTape : zfV y_Model_readTape prog_34_method_142_code 18 none 31 0 := ⟨zq2 (q := (14, 111)) rfl, zq2 (q := (14, 110)) rfl, zq2 (q := (1, 33)) rfl, zq2 (q := (112, 1)) rfl, ⟨by decide, by decide⟩, by decide +kernel⟩
theorem a_Model_readTape (ph : Bool) : zcAll 42 2 49 ph (c_Model_readTape ph) := ⟨zkS (o := 42) (i := 304) f_Model_in (by decide) (ok_Model_in ph) (zq2 (q := (12, 12)) rfl), (ok_Model_in ph).1, zkV (o := 42) (i := 377) f_Model_wrongAt (by decide) (ok_Model_wrongAt ph) (zq2 (q := (13, 101)) rfl), zvt_m (ok_Model_wrongAt ph).1, zkV (o := 42) (i := 420) f_Model_fine (by decide) (ok_Model_fine ph) (zq2 (q := (13, 93)) rfl), zvt_m (ok_Model_fine ph).1, zkV (o := 42) (i := 833) f_Model_eights (by decide) (ok_Model_eights ph) (zq2 (q := (14, 112)) rfl), zvt_m (ok_Model_eights ph).1, zkV (o := 42) (i := 837) f_Model_upTo0 (by decide) (ok_Model_upTo0 ph) (zq2 (q := (14, 118)) rfl), zvt_m (ok_Model_upTo0 ph).1, zkV (o := 42) (i := 844) f_Model_newName (by decide) (ok_Model_newName ph) (zq2 (q := (14, 124)) rfl), zvt_m (ok_Model_newName ph).1, zkV (o := 42) (i := 848) f_Model_entryOf (by decide) (ok_Model_entryOf ph) (zq2 (q := (14, 128)) rfl), zvt_m (ok_Model_entryOf ph).1, trivial⟩
theorem ok_Model_readTape (ph : Bool) : zOk y_Model_readTape (.code y_Model_readTape prog_34_method_142_code 18 none) 2 49 ph (X_Model_readTape ph) := zMd_ok (plainFor_of_name (by decide)) rfl (fun h => by cases h) v_Model_readTape (k_Model_readTape ph) (a_Model_readTape ph)

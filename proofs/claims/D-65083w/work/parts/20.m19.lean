/-! printed by gen_all.py -/
def y_Model_pieceEnd : MethodName := ⟨"PackingHouseModel", "pieceEnd", "(I)I"⟩
theorem v_Model_pieceEnd : zTv prog_34_method_168_code 4 42 false t_Model_pieceEnd = true := by decide +kernel
theorem k_Model_pieceEnd (ph : Bool) : zcKey (c_Model_pieceEnd ph) t_Model_pieceEnd = true := by cases ph <;> decide +kernel
theorem f_Model_pieceEnd : zfV y_Model_pieceEnd prog_34_method_168_code 4 (some .int) 31 1 := ⟨zq2 (q := (14, 234)) rfl, zq2 (q := (14, 233)) rfl, zq2 (q := (1, 33)) rfl, zq2 (q := (113, 4)) rfl, ⟨by decide, by decide⟩, by decide +kernel⟩
theorem a_Model_pieceEnd (ph : Bool) : zcAll 42 0 0 ph (c_Model_pieceEnd ph) := trivial
theorem ok_Model_pieceEnd (ph : Bool) : zOk y_Model_pieceEnd (.code y_Model_pieceEnd prog_34_method_168_code 4 (some .int)) 0 0 ph (X_Model_pieceEnd ph) := zMd_ok (plainFor_of_name (by decide)) rfl (fun h => by cases h) v_Model_pieceEnd (k_Model_pieceEnd ph) (a_Model_pieceEnd ph)
def y_Model_blockOf : MethodName := ⟨"PackingHouseModel", "blockOf", "(II)I"⟩
theorem v_Model_blockOf : zTv prog_34_method_169_code 6 42 false t_Model_blockOf = true := by decide +kernel
theorem k_Model_blockOf (ph : Bool) : zcKey (c_Model_blockOf ph) t_Model_blockOf = true := by cases ph <;> decide +kernel
theorem f_Model_blockOf : zfV y_Model_blockOf prog_34_method_169_code 6 (some .int) 31 2 := ⟨zq2 (q := (14, 238)) rfl, zq2 (q := (14, 237)) rfl, zq2 (q := (1, 33)) rfl, zq2 (q := (113, 5)) rfl, ⟨by decide, by decide⟩, by decide +kernel⟩
theorem a_Model_blockOf (ph : Bool) : zcAll 42 0 0 ph (c_Model_blockOf ph) := trivial
theorem ok_Model_blockOf (ph : Bool) : zOk y_Model_blockOf (.code y_Model_blockOf prog_34_method_169_code 6 (some .int)) 0 0 ph (X_Model_blockOf ph) := zMd_ok (plainFor_of_name (by decide)) rfl (fun h => by cases h) v_Model_blockOf (k_Model_blockOf ph) (a_Model_blockOf ph)
def y_Model_dropBlock : MethodName := ⟨"PackingHouseModel", "dropBlock", "(I)I"⟩
theorem v_Model_dropBlock : zTv prog_34_method_170_code 4 42 false t_Model_dropBlock = true := by decide +kernel
theorem k_Model_dropBlock (ph : Bool) : zcKey (c_Model_dropBlock ph) t_Model_dropBlock = true := by cases ph <;> decide +kernel
theorem f_Model_dropBlock : zfV y_Model_dropBlock prog_34_method_170_code 4 (some .int) 31 1 := ⟨zq2 (q := (15, 3)) rfl, zq2 (q := (15, 2)) rfl, zq2 (q := (1, 33)) rfl, zq2 (q := (113, 6)) rfl, ⟨by decide, by decide⟩, by decide +kernel⟩
theorem a_Model_dropBlock (ph : Bool) : zcAll 42 0 0 ph (c_Model_dropBlock ph) := trivial
theorem ok_Model_dropBlock (ph : Bool) : zOk y_Model_dropBlock (.code y_Model_dropBlock prog_34_method_170_code 4 (some .int)) 0 0 ph (X_Model_dropBlock ph) := zMd_ok (plainFor_of_name (by decide)) rfl (fun h => by cases h) v_Model_dropBlock (k_Model_dropBlock ph) (a_Model_dropBlock ph)
def y_Model_save : MethodName := ⟨"PackingHouseModel", "save", "()I"⟩
theorem v_Model_save : zTv prog_34_method_171_code 7 42 false t_Model_save = true := by decide +kernel
theorem k_Model_save (ph : Bool) : zcKey (c_Model_save ph) t_Model_save = true := by cases ph <;> decide +kernel
theorem f_Model_save : zfV y_Model_save prog_34_method_171_code 7 (some .int) 31 0 := ⟨zq2 (q := (14, 230)) rfl, zq2 (q := (14, 228)) rfl, zq2 (q := (1, 33)) rfl, zq2 (q := (14, 229)) rfl, ⟨by decide, by decide⟩, by decide +kernel⟩
theorem a_Model_save (ph : Bool) : zcAll 42 1 25 ph (c_Model_save ph) := ⟨zkV (o := 42) (i := 929) f_Model_pieceEnd (by decide) (ok_Model_pieceEnd ph) (zq2 (q := (14, 231)) rfl), zvt_m (ok_Model_pieceEnd ph).1, zkV (o := 42) (i := 932) f_Model_blockOf (by decide) (ok_Model_blockOf ph) (zq2 (q := (14, 235)) rfl), zvt_m (ok_Model_blockOf ph).1, zkV (o := 42) (i := 936) f_Model_dropBlock (by decide) (ok_Model_dropBlock ph) (zq2 (q := (15, 0)) rfl), zvt_m (ok_Model_dropBlock ph).1, trivial⟩
theorem ok_Model_save (ph : Bool) : zOk y_Model_save (.code y_Model_save prog_34_method_171_code 7 (some .int)) 1 25 ph (X_Model_save ph) := zMd_ok (plainFor_of_name (by decide)) rfl (fun h => by cases h) v_Model_save (k_Model_save ph) (a_Model_save ph)
def y_Model_snapshotOf : MethodName := ⟨"PackingHouseModel", "snapshotOf", "(I)I"⟩
theorem v_Model_snapshotOf : zTv prog_34_method_172_code 3 42 false t_Model_snapshotOf = true := by decide +kernel
theorem k_Model_snapshotOf (ph : Bool) : zcKey (c_Model_snapshotOf ph) t_Model_snapshotOf = true := by cases ph <;> decide +kernel
theorem f_Model_snapshotOf : zfV y_Model_snapshotOf prog_34_method_172_code 3 (some .int) 31 1 := ⟨zq2 (q := (15, 11)) rfl, zq2 (q := (15, 10)) rfl, zq2 (q := (1, 33)) rfl, zq2 (q := (113, 7)) rfl, ⟨by decide, by decide⟩, by decide +kernel⟩
theorem a_Model_snapshotOf (ph : Bool) : zcAll 42 0 0 ph (c_Model_snapshotOf ph) := trivial
theorem ok_Model_snapshotOf (ph : Bool) : zOk y_Model_snapshotOf (.code y_Model_snapshotOf prog_34_method_172_code 3 (some .int)) 0 0 ph (X_Model_snapshotOf ph) := zMd_ok (plainFor_of_name (by decide)) rfl (fun h => by cases h) v_Model_snapshotOf (k_Model_snapshotOf ph) (a_Model_snapshotOf ph)
def y_Model_restore : MethodName := ⟨"PackingHouseModel", "restore", "(I)I"⟩
theorem v_Model_restore : zTv prog_34_method_173_code 6 42 false t_Model_restore = true := by decide +kernel
theorem k_Model_restore (ph : Bool) : zcKey (c_Model_restore ph) t_Model_restore = true := by cases ph <;> decide +kernel
theorem f_Model_restore : zfV y_Model_restore prog_34_method_173_code 6 (some .int) 31 1 := ⟨zq2 (q := (15, 7)) rfl, zq2 (q := (15, 5)) rfl, zq2 (q := (1, 33)) rfl, zq2 (q := (15, 6)) rfl, ⟨by decide, by decide⟩, by decide +kernel⟩
theorem a_Model_restore (ph : Bool) : zcAll 42 2 46 ph (c_Model_restore ph) := ⟨zkV (o := 42) (i := 335) f_Model_freeStream (by decide) (ok_Model_freeStream ph) (zq2 (q := (12, 99)) rfl), zvt_m (ok_Model_freeStream ph).1, zkV (o := 42) (i := 695) f_Model_newStream (by decide) (ok_Model_newStream ph) (zq2 (q := (13, 73)) rfl), zvt_m (ok_Model_newStream ph).1, zkV (o := 42) (i := 942) f_Model_snapshotOf (by decide) (ok_Model_snapshotOf ph) (zq2 (q := (15, 8)) rfl), zvt_m (ok_Model_snapshotOf ph).1, trivial⟩
theorem ok_Model_restore (ph : Bool) : zOk y_Model_restore (.code y_Model_restore prog_34_method_173_code 6 (some .int)) 2 46 ph (X_Model_restore ph) := zMd_ok (plainFor_of_name (by decide)) rfl (fun h => by cases h) v_Model_restore (k_Model_restore ph) (a_Model_restore ph)
def y_Model_forget : MethodName := ⟨"PackingHouseModel", "forget", "(I)I"⟩
theorem v_Model_forget : zTv prog_34_method_174_code 6 42 false t_Model_forget = true := by decide +kernel
theorem k_Model_forget (ph : Bool) : zcKey (c_Model_forget ph) t_Model_forget = true := by cases ph <;> decide +kernel
theorem f_Model_forget : zfV y_Model_forget prog_34_method_174_code 6 (some .int) 31 1 := ⟨zq2 (q := (15, 15)) rfl, zq2 (q := (15, 13)) rfl, zq2 (q := (1, 33)) rfl, zq2 (q := (15, 14)) rfl, ⟨by decide, by decide⟩, by decide +kernel⟩
theorem a_Model_forget (ph : Bool) : zcAll 42 1 23 ph (c_Model_forget ph) := ⟨zkV (o := 42) (i := 936) f_Model_dropBlock (by decide) (ok_Model_dropBlock ph) (zq2 (q := (15, 0)) rfl), zvt_m (ok_Model_dropBlock ph).1, zkV (o := 42) (i := 942) f_Model_snapshotOf (by decide) (ok_Model_snapshotOf ph) (zq2 (q := (15, 8)) rfl), zvt_m (ok_Model_snapshotOf ph).1, trivial⟩
theorem ok_Model_forget (ph : Bool) : zOk y_Model_forget (.code y_Model_forget prog_34_method_174_code 6 (some .int)) 1 23 ph (X_Model_forget ph) := zMd_ok (plainFor_of_name (by decide)) rfl (fun h => by cases h) v_Model_forget (k_Model_forget ph) (a_Model_forget ph)
def y_Model_shared : MethodName := ⟨"PackingHouseModel", "shared", "(II)I"⟩
theorem v_Model_shared : zTv prog_34_method_175_code 10 42 false t_Model_shared = true := by decide +kernel
theorem k_Model_shared (ph : Bool) : zcKey (c_Model_shared ph) t_Model_shared = true := by cases ph <;> decide +kernel
theorem f_Model_shared : zfV y_Model_shared prog_34_method_175_code 10 (some .int) 31 2 := ⟨zq2 (q := (15, 19)) rfl, zq2 (q := (15, 17)) rfl, zq2 (q := (1, 33)) rfl, zq2 (q := (15, 18)) rfl, ⟨by decide, by decide⟩, by decide +kernel⟩
theorem a_Model_shared (ph : Bool) : zcAll 42 1 22 ph (c_Model_shared ph) := ⟨zkV (o := 42) (i := 942) f_Model_snapshotOf (by decide) (ok_Model_snapshotOf ph) (zq2 (q := (15, 8)) rfl), zvt_m (ok_Model_snapshotOf ph).1, trivial⟩
theorem ok_Model_shared (ph : Bool) : zOk y_Model_shared (.code y_Model_shared prog_34_method_175_code 10 (some .int)) 1 22 ph (X_Model_shared ph) := zMd_ok (plainFor_of_name (by decide)) rfl (fun h => by cases h) v_Model_shared (k_Model_shared ph) (a_Model_shared ph)
def y_Model_store : MethodName := ⟨"PackingHouseModel", "store", "(I)I"⟩
theorem v_Model_store : zTv prog_34_method_176_code 2 42 false t_Model_store = true := by decide +kernel
theorem k_Model_store (ph : Bool) : zcKey (c_Model_store ph) t_Model_store = true := by cases ph <;> decide +kernel
theorem f_Model_store : zfV y_Model_store prog_34_method_176_code 2 (some .int) 31 1 := ⟨zq2 (q := (15, 23)) rfl, zq2 (q := (15, 21)) rfl, zq2 (q := (1, 33)) rfl, zq2 (q := (15, 22)) rfl, ⟨by decide, by decide⟩, by decide +kernel⟩
theorem a_Model_store (ph : Bool) : zcAll 42 0 0 ph (c_Model_store ph) := trivial
theorem ok_Model_store (ph : Bool) : zOk y_Model_store (.code y_Model_store prog_34_method_176_code 2 (some .int)) 0 0 ph (X_Model_store ph) := zMd_ok (plainFor_of_name (by decide)) rfl (fun h => by cases h) v_Model_store (k_Model_store ph) (a_Model_store ph)

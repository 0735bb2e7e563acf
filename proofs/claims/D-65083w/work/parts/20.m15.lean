/-! printed by gen_all.py -/
def y_Model_packOdds : MethodName := ⟨"PackingHouseModel", "packOdds", "()V"⟩
theorem v_Model_packOdds : zTv prog_34_method_96_code 11 42 false t_Model_packOdds = true := by decide +kernel
theorem k_Model_packOdds (ph : Bool) : zcKey (c_Model_packOdds ph) t_Model_packOdds = true := by cases ph <;> decide +kernel
theorem f_Model_packOdds : zfV y_Model_packOdds prog_34_method_96_code 11 none 31 0 := ⟨zq2 (q := (13, 66)) rfl, zq2 (q := (13, 65)) rfl, zq2 (q := (1, 33)) rfl, zq2 (q := (108, 11)) rfl, ⟨by decide, by decide⟩, by decide +kernel⟩
theorem a_Model_packOdds (ph : Bool) : zcAll 42 2 45 ph (c_Model_packOdds ph) := ⟨zkV (o := 42) (i := 557) f_Model_highFirst (by decide) (ok_Model_highFirst ph) (zq2 (q := (12, 229)) rfl), zvt_m (ok_Model_highFirst ph).1, zkV (o := 42) (i := 629) f_Model_shift (by decide) (ok_Model_shift ph) (zq2 (q := (13, 68)) rfl), zvt_m (ok_Model_shift ph).1, trivial⟩
theorem ok_Model_packOdds (ph : Bool) : zOk y_Model_packOdds (.code y_Model_packOdds prog_34_method_96_code 11 none) 2 45 ph (X_Model_packOdds ph) := zMd_ok (plainFor_of_name (by decide)) rfl (fun h => by cases h) v_Model_packOdds (k_Model_packOdds ph) (a_Model_packOdds ph)
def y_Model_packAs : MethodName := ⟨"PackingHouseModel", "packAs", "(II)V"⟩
theorem v_Model_packAs : zTv prog_34_method_112_code 3 42 false t_Model_packAs = true := by decide +kernel
theorem k_Model_packAs (ph : Bool) : zcKey (c_Model_packAs ph) t_Model_packAs = true := by cases ph <;> decide +kernel
theorem f_Model_packAs : zfV y_Model_packAs prog_34_method_112_code 3 none 31 2 := ⟨zq2 (q := (12, 110)) rfl, zq2 (q := (12, 109)) rfl, zq2 (q := (1, 33)) rfl, zq2 (q := (105, 15)) rfl, ⟨by decide, by decide⟩, by decide +kernel⟩
theorem a_Model_packAs (ph : Bool) : zcAll 42 7 169 ph (c_Model_packAs ph) := ⟨zkV (o := 42) (i := 554) f_Model_packBlocks (by decide) (ok_Model_packBlocks ph) (zq2 (q := (12, 147)) rfl), zvt_m (ok_Model_packBlocks ph).1, zkV (o := 42) (i := 589) f_Model_packFast (by decide) (ok_Model_packFast ph) (zq2 (q := (12, 237)) rfl), zvt_m (ok_Model_packFast ph).1, zkV (o := 42) (i := 698) f_Model_packRuns (by decide) (ok_Model_packRuns ph) (zq2 (q := (12, 111)) rfl), zvt_m (ok_Model_packRuns ph).1, zkV (o := 42) (i := 701) f_Model_packWords (by decide) (ok_Model_packWords ph) (zq2 (q := (12, 122)) rfl), zvt_m (ok_Model_packWords ph).1, zkV (o := 42) (i := 704) f_Model_packRim (by decide) (ok_Model_packRim ph) (zq2 (q := (12, 225)) rfl), zvt_m (ok_Model_packRim ph).1, zkV (o := 42) (i := 707) f_Model_packMember (by decide) (ok_Model_packMember ph) (zq2 (q := (12, 233)) rfl), zvt_m (ok_Model_packMember ph).1, zkV (o := 42) (i := 710) f_Model_packFrame (by decide) (ok_Model_packFrame ph) (zq2 (q := (13, 10)) rfl), zvt_m (ok_Model_packFrame ph).1, zkV (o := 42) (i := 713) f_Model_packCopies (by decide) (ok_Model_packCopies ph) (zq2 (q := (13, 15)) rfl), zvt_m (ok_Model_packCopies ph).1, zkV (o := 42) (i := 716) f_Model_packSorted (by decide) (ok_Model_packSorted ph) (zq2 (q := (13, 28)) rfl), zvt_m (ok_Model_packSorted ph).1, zkV (o := 42) (i := 719) f_Model_packOdds (by decide) (ok_Model_packOdds ph) (zq2 (q := (13, 63)) rfl), zvt_m (ok_Model_packOdds ph).1, trivial⟩
theorem ok_Model_packAs (ph : Bool) : zOk y_Model_packAs (.code y_Model_packAs prog_34_method_112_code 3 none) 7 169 ph (X_Model_packAs ph) := zMd_ok (plainFor_of_name (by decide)) rfl (fun h => by cases h) v_Model_packAs (k_Model_packAs ph) (a_Model_packAs ph)
def y_Model_newStream : MethodName := ⟨"PackingHouseModel", "newStream", "([BII)I"⟩
theorem v_Model_newStream : zTv prog_34_method_24_code 6 42 false t_Model_newStream = true := by decide +kernel
theorem k_Model_newStream (ph : Bool) : zcKey (c_Model_newStream ph) t_Model_newStream = true := by cases ph <;> decide +kernel
theorem f_Model_newStream : zfV y_Model_newStream prog_34_method_24_code 6 (some .int) 31 3 := ⟨zq2 (q := (13, 76)) rfl, zq2 (q := (13, 75)) rfl, zq2 (q := (1, 33)) rfl, zq2 (q := (108, 13)) rfl, ⟨by decide, by decide⟩, by decide +kernel⟩
theorem a_Model_newStream (ph : Bool) : zcAll 42 1 21 ph (c_Model_newStream ph) := ⟨zkV (o := 42) (i := 335) f_Model_freeStream (by decide) (ok_Model_freeStream ph) (zq2 (q := (12, 99)) rfl), zvt_m (ok_Model_freeStream ph).1, trivial⟩
theorem ok_Model_newStream (ph : Bool) : zOk y_Model_newStream (.code y_Model_newStream prog_34_method_24_code 6 (some .int)) 1 21 ph (X_Model_newStream ph) := zMd_ok (plainFor_of_name (by decide)) rfl (fun h => by cases h) v_Model_newStream (k_Model_newStream ph) (a_Model_newStream ph)
def y_Model_pack : MethodName := ⟨"PackingHouseModel", "pack", "(II)I"⟩
theorem v_Model_pack : zTv prog_34_method_111_code 5 42 false t_Model_pack = true := by decide +kernel
theorem k_Model_pack (ph : Bool) : zcKey (c_Model_pack ph) t_Model_pack = true := by cases ph <;> decide +kernel
theorem f_Model_pack : zfV y_Model_pack prog_34_method_111_code 5 (some .int) 31 2 := ⟨zq2 (q := (12, 98)) rfl, zq2 (q := (12, 96)) rfl, zq2 (q := (1, 33)) rfl, zq2 (q := (12, 97)) rfl, ⟨by decide, by decide⟩, by decide +kernel⟩
theorem a_Model_pack (ph : Bool) : zcAll 42 8 191 ph (c_Model_pack ph) := ⟨zkS (o := 42) (i := 304) f_Model_in (by decide) (ok_Model_in ph) (zq2 (q := (12, 12)) rfl), (ok_Model_in ph).1, zkV (o := 42) (i := 335) f_Model_freeStream (by decide) (ok_Model_freeStream ph) (zq2 (q := (12, 99)) rfl), zvt_m (ok_Model_freeStream ph).1, zkV (o := 42) (i := 679) f_Model_begin (by decide) (ok_Model_begin ph) (zq2 (q := (12, 103)) rfl), zvt_m (ok_Model_begin ph).1, zkV (o := 42) (i := 683) f_Model_packAs (by decide) (ok_Model_packAs ph) (zq2 (q := (12, 107)) rfl), zvt_m (ok_Model_packAs ph).1, zkV (o := 42) (i := 695) f_Model_newStream (by decide) (ok_Model_newStream ph) (zq2 (q := (13, 73)) rfl), zvt_m (ok_Model_newStream ph).1, trivial⟩
theorem ok_Model_pack (ph : Bool) : zOk y_Model_pack (.code y_Model_pack prog_34_method_111_code 5 (some .int)) 8 191 ph (X_Model_pack ph) := zMd_ok (plainFor_of_name (by decide)) rfl (fun h => by cases h) v_Model_pack (k_Model_pack ph) (a_Model_pack ph)
def y_Model_readFrom : MethodName := ⟨"PackingHouseModel", "readFrom", "([BII)V"⟩
theorem v_Model_readFrom : zTv prog_34_method_33_code 4 42 false t_Model_readFrom = true := by decide +kernel
theorem k_Model_readFrom (ph : Bool) : zcKey (c_Model_readFrom ph) t_Model_readFrom = true := by cases ph <;> decide +kernel
theorem f_Model_readFrom : zfV y_Model_readFrom prog_34_method_33_code 4 none 31 3 := ⟨zq2 (q := (13, 88)) rfl, zq2 (q := (13, 87)) rfl, zq2 (q := (1, 33)) rfl, zq2 (q := (108, 15)) rfl, ⟨by decide, by decide⟩, by decide +kernel⟩
theorem a_Model_readFrom (ph : Bool) : zcAll 42 0 0 ph (c_Model_readFrom ph) := trivial
theorem ok_Model_readFrom (ph : Bool) : zOk y_Model_readFrom (.code y_Model_readFrom prog_34_method_33_code 4 none) 0 0 ph (X_Model_readFrom ph) := zMd_ok (plainFor_of_name (by decide)) rfl (fun h => by cases h) v_Model_readFrom (k_Model_readFrom ph) (a_Model_readFrom ph)
def y_Model_start : MethodName := ⟨"PackingHouseModel", "start", "()V"⟩
theorem v_Model_start : zTv prog_34_method_113_code 1 42 false t_Model_start = true := by decide +kernel
theorem k_Model_start (ph : Bool) : zcKey (c_Model_start ph) t_Model_start = true := by cases ph <;> decide +kernel
theorem f_Model_start : zfV y_Model_start prog_34_method_113_code 1 none 31 0 := ⟨zq2 (q := (13, 84)) rfl, zq2 (q := (13, 83)) rfl, zq2 (q := (1, 33)) rfl, zq2 (q := (108, 14)) rfl, ⟨by decide, by decide⟩, by decide +kernel⟩
theorem a_Model_start (ph : Bool) : zcAll 42 1 23 ph (c_Model_start ph) := ⟨zkV (o := 42) (i := 722) f_Model_readFrom (by decide) (ok_Model_readFrom ph) (zq2 (q := (13, 85)) rfl), zvt_m (ok_Model_readFrom ph).1, trivial⟩
theorem ok_Model_start (ph : Bool) : zOk y_Model_start (.code y_Model_start prog_34_method_113_code 1 none) 1 23 ph (X_Model_start ph) := zMd_ok (plainFor_of_name (by decide)) rfl (fun h => by cases h) v_Model_start (k_Model_start ph) (a_Model_start ph)
def y_Model_fine : MethodName := ⟨"PackingHouseModel", "fine", "()Z"⟩
theorem v_Model_fine : zTv prog_34_method_36_code 1 42 false t_Model_fine = true := by decide +kernel
theorem k_Model_fine (ph : Bool) : zcKey (c_Model_fine ph) t_Model_fine = true := by cases ph <;> decide +kernel
theorem f_Model_fine : zfV y_Model_fine prog_34_method_36_code 1 (some .boolean) 31 0 := ⟨zq2 (q := (13, 96)) rfl, zq2 (q := (13, 95)) rfl, zq2 (q := (1, 33)) rfl, zq2 (q := (109, 1)) rfl, ⟨by decide, by decide⟩, by decide +kernel⟩
theorem a_Model_fine (ph : Bool) : zcAll 42 0 0 ph (c_Model_fine ph) := trivial
theorem ok_Model_fine (ph : Bool) : zOk y_Model_fine (.code y_Model_fine prog_34_method_36_code 1 (some .boolean)) 0 0 ph (X_Model_fine ph) := zMd_ok (plainFor_of_name (by decide)) rfl (fun h => by cases h) v_Model_fine (k_Model_fine ph) (a_Model_fine ph)
def y_Model_wrongAt : MethodName := ⟨"PackingHouseModel", "wrongAt", "(II)V"⟩
theorem v_Model_wrongAt : zTv prog_34_method_35_code 3 42 false t_Model_wrongAt = true := by decide +kernel
theorem k_Model_wrongAt (ph : Bool) : zcKey (c_Model_wrongAt ph) t_Model_wrongAt = true := by cases ph <;> decide +kernel
theorem f_Model_wrongAt : zfV y_Model_wrongAt prog_34_method_35_code 3 none 31 2 := ⟨zq2 (q := (13, 104)) rfl, zq2 (q := (13, 103)) rfl, zq2 (q := (1, 33)) rfl, zq2 (q := (109, 3)) rfl, ⟨by decide, by decide⟩, by decide +kernel⟩
theorem a_Model_wrongAt (ph : Bool) : zcAll 42 0 0 ph (c_Model_wrongAt ph) := trivial
theorem ok_Model_wrongAt (ph : Bool) : zOk y_Model_wrongAt (.code y_Model_wrongAt prog_34_method_35_code 3 none) 0 0 ph (X_Model_wrongAt ph) := zMd_ok (plainFor_of_name (by decide)) rfl (fun h => by cases h) v_Model_wrongAt (k_Model_wrongAt ph) (a_Model_wrongAt ph)
def y_Model_next : MethodName := ⟨"PackingHouseModel", "next", "()I"⟩
theorem v_Model_next : zTv prog_34_method_37_code 1 42 false t_Model_next = true := by decide +kernel
theorem k_Model_next (ph : Bool) : zcKey (c_Model_next ph) t_Model_next = true := by cases ph <;> decide +kernel
theorem f_Model_next : zfV y_Model_next prog_34_method_37_code 1 (some .int) 31 0 := ⟨zq2 (q := (13, 100)) rfl, zq2 (q := (13, 99)) rfl, zq2 (q := (1, 33)) rfl, zq2 (q := (109, 2)) rfl, ⟨by decide, by decide⟩, by decide +kernel⟩
theorem a_Model_next (ph : Bool) : zcAll 42 1 22 ph (c_Model_next ph) := ⟨zkV (o := 42) (i := 377) f_Model_wrongAt (by decide) (ok_Model_wrongAt ph) (zq2 (q := (13, 101)) rfl), zvt_m (ok_Model_wrongAt ph).1, trivial⟩
theorem ok_Model_next (ph : Bool) : zOk y_Model_next (.code y_Model_next prog_34_method_37_code 1 (some .int)) 1 22 ph (X_Model_next ph) := zMd_ok (plainFor_of_name (by decide)) rfl (fun h => by cases h) v_Model_next (k_Model_next ph) (a_Model_next ph)
def y_Model_wrong : MethodName := ⟨"PackingHouseModel", "wrong", "(I)V"⟩
theorem v_Model_wrong : zTv prog_34_method_34_code 2 42 false t_Model_wrong = true := by decide +kernel
theorem k_Model_wrong (ph : Bool) : zcKey (c_Model_wrong ph) t_Model_wrong = true := by cases ph <;> decide +kernel
theorem f_Model_wrong : zfV y_Model_wrong prog_34_method_34_code 2 none 31 1 := ⟨zq2 (q := (13, 112)) rfl, zq2 (q := (13, 111)) rfl, zq2 (q := (1, 33)) rfl, zq2 (q := (109, 5)) rfl, ⟨by decide, by decide⟩, by decide +kernel⟩
theorem a_Model_wrong (ph : Bool) : zcAll 42 0 0 ph (c_Model_wrong ph) := trivial
theorem ok_Model_wrong (ph : Bool) : zOk y_Model_wrong (.code y_Model_wrong prog_34_method_34_code 2 none) 0 0 ph (X_Model_wrong ph) := zMd_ok (plainFor_of_name (by decide)) rfl (fun h => by cases h) v_Model_wrong (k_Model_wrong ph) (a_Model_wrong ph)
def y_Model_come : MethodName := ⟨"PackingHouseModel", "come", "(I)V"⟩
theorem v_Model_come : zTv prog_34_method_43_code 2 42 false t_Model_come = true := by decide +kernel
theorem k_Model_come (ph : Bool) : zcKey (c_Model_come ph) t_Model_come = true := by cases ph <;> decide +kernel
theorem f_Model_come : zfV y_Model_come prog_34_method_43_code 2 none 31 1 := ⟨zq2 (q := (13, 108)) rfl, zq2 (q := (13, 107)) rfl, zq2 (q := (1, 33)) rfl, zq2 (q := (109, 4)) rfl, ⟨by decide, by decide⟩, by decide +kernel⟩
theorem a_Model_come (ph : Bool) : zcAll 42 1 21 ph (c_Model_come ph) := ⟨zkV (o := 42) (i := 393) f_Model_wrong (by decide) (ok_Model_wrong ph) (zq2 (q := (13, 109)) rfl), zvt_m (ok_Model_wrong ph).1, trivial⟩
theorem ok_Model_come (ph : Bool) : zOk y_Model_come (.code y_Model_come prog_34_method_43_code 2 none) 1 21 ph (X_Model_come ph) := zMd_ok (plainFor_of_name (by decide)) rfl (fun h => by cases h) v_Model_come (k_Model_come ph) (a_Model_come ph)
def y_Model_openRuns : MethodName := ⟨"PackingHouseModel", "openRuns", "()V"⟩
theorem v_Model_openRuns : zTv prog_34_method_53_code 4 42 false t_Model_openRuns = true := by decide +kernel
theorem k_Model_openRuns (ph : Bool) : zcKey (c_Model_openRuns ph) t_Model_openRuns = true := by cases ph <;> decide +kernel
theorem f_Model_openRuns : zfV y_Model_openRuns prog_34_method_53_code 4 none 31 0 := ⟨zq2 (q := (13, 92)) rfl, zq2 (q := (13, 91)) rfl, zq2 (q := (1, 33)) rfl, zq2 (q := (109, 0)) rfl, ⟨by decide, by decide⟩, by decide +kernel⟩
theorem a_Model_openRuns (ph : Bool) : zcAll 42 2 42 ph (c_Model_openRuns ph) := ⟨zkV (o := 42) (i := 381) f_Model_next (by decide) (ok_Model_next ph) (zq2 (q := (13, 97)) rfl), zvt_m (ok_Model_next ph).1, zkV (o := 42) (i := 396) f_Model_come (by decide) (ok_Model_come ph) (zq2 (q := (13, 105)) rfl), zvt_m (ok_Model_come ph).1, zkV (o := 42) (i := 420) f_Model_fine (by decide) (ok_Model_fine ph) (zq2 (q := (13, 93)) rfl), zvt_m (ok_Model_fine ph).1, trivial⟩
theorem ok_Model_openRuns (ph : Bool) : zOk y_Model_openRuns (.code y_Model_openRuns prog_34_method_53_code 4 none) 2 42 ph (X_Model_openRuns ph) := zMd_ok (plainFor_of_name (by decide)) rfl (fun h => by cases h) v_Model_openRuns (k_Model_openRuns ph) (a_Model_openRuns ph)
def y_Model_nextBit : MethodName := ⟨"PackingHouseModel", "nextBit", "()I"⟩
theorem v_Model_nextBit : zTv prog_34_method_40_code 2 42 false t_Model_nextBit = true := by decide +kernel
theorem k_Model_nextBit (ph : Bool) : zcKey (c_Model_nextBit ph) t_Model_nextBit = true := by cases ph <;> decide +kernel
theorem f_Model_nextBit : zfV y_Model_nextBit prog_34_method_40_code 2 (some .int) 31 0 := ⟨zq2 (q := (13, 124)) rfl, zq2 (q := (13, 123)) rfl, zq2 (q := (1, 33)) rfl, zq2 (q := (109, 8)) rfl, ⟨by decide, by decide⟩, by decide +kernel⟩
theorem a_Model_nextBit (ph : Bool) : zcAll 42 1 22 ph (c_Model_nextBit ph) := ⟨zkV (o := 42) (i := 377) f_Model_wrongAt (by decide) (ok_Model_wrongAt ph) (zq2 (q := (13, 101)) rfl), zvt_m (ok_Model_wrongAt ph).1, trivial⟩
theorem ok_Model_nextBit (ph : Bool) : zOk y_Model_nextBit (.code y_Model_nextBit prog_34_method_40_code 2 (some .int)) 1 22 ph (X_Model_nextBit ph) := zMd_ok (plainFor_of_name (by decide)) rfl (fun h => by cases h) v_Model_nextBit (k_Model_nextBit ph) (a_Model_nextBit ph)
def y_Model_nextBits : MethodName := ⟨"PackingHouseModel", "nextBits", "(I)J"⟩
theorem v_Model_nextBits : zTv prog_34_method_41_code 7 42 false t_Model_nextBits = true := by decide +kernel
theorem k_Model_nextBits (ph : Bool) : zcKey (c_Model_nextBits ph) t_Model_nextBits = true := by cases ph <;> decide +kernel
theorem f_Model_nextBits : zfV y_Model_nextBits prog_34_method_41_code 7 (some .long) 31 1 := ⟨zq2 (q := (13, 120)) rfl, zq2 (q := (13, 119)) rfl, zq2 (q := (1, 33)) rfl, zq2 (q := (109, 7)) rfl, ⟨by decide, by decide⟩, by decide +kernel⟩
theorem a_Model_nextBits (ph : Bool) : zcAll 42 2 43 ph (c_Model_nextBits ph) := ⟨zkV (o := 42) (i := 387) f_Model_nextBit (by decide) (ok_Model_nextBit ph) (zq2 (q := (13, 121)) rfl), zvt_m (ok_Model_nextBit ph).1, trivial⟩
theorem ok_Model_nextBits (ph : Bool) : zOk y_Model_nextBits (.code y_Model_nextBits prog_34_method_41_code 7 (some .long)) 2 43 ph (X_Model_nextBits ph) := zMd_ok (plainFor_of_name (by decide)) rfl (fun h => by cases h) v_Model_nextBits (k_Model_nextBits ph) (a_Model_nextBits ph)
def y_Model_nextWhole : MethodName := ⟨"PackingHouseModel", "nextWhole", "()V"⟩
theorem v_Model_nextWhole : zTv prog_34_method_42_code 1 42 false t_Model_nextWhole = true := by decide +kernel
theorem k_Model_nextWhole (ph : Bool) : zcKey (c_Model_nextWhole ph) t_Model_nextWhole = true := by cases ph <;> decide +kernel
theorem f_Model_nextWhole : zfV y_Model_nextWhole prog_34_method_42_code 1 none 31 0 := ⟨zq2 (q := (13, 132)) rfl, zq2 (q := (13, 131)) rfl, zq2 (q := (1, 33)) rfl, zq2 (q := (109, 10)) rfl, ⟨by decide, by decide⟩, by decide +kernel⟩
theorem a_Model_nextWhole (ph : Bool) : zcAll 42 0 0 ph (c_Model_nextWhole ph) := trivial
theorem ok_Model_nextWhole (ph : Bool) : zOk y_Model_nextWhole (.code y_Model_nextWhole prog_34_method_42_code 1 none) 0 0 ph (X_Model_nextWhole ph) := zMd_ok (plainFor_of_name (by decide)) rfl (fun h => by cases h) v_Model_nextWhole (k_Model_nextWhole ph) (a_Model_nextWhole ph)
def y_Model_end : MethodName := ⟨"PackingHouseModel", "end", "()V"⟩
theorem v_Model_end : zTv prog_34_method_45_code 1 42 false t_Model_end = true := by decide +kernel
theorem k_Model_end (ph : Bool) : zcKey (c_Model_end ph) t_Model_end = true := by cases ph <;> decide +kernel
theorem f_Model_end : zfV y_Model_end prog_34_method_45_code 1 none 31 0 := ⟨zq2 (q := (13, 128)) rfl, zq2 (q := (13, 127)) rfl, zq2 (q := (1, 33)) rfl, zq2 (q := (109, 9)) rfl, ⟨by decide, by decide⟩, by decide +kernel⟩
theorem a_Model_end (ph : Bool) : zcAll 42 1 22 ph (c_Model_end ph) := ⟨zkV (o := 42) (i := 377) f_Model_wrongAt (by decide) (ok_Model_wrongAt ph) (zq2 (q := (13, 101)) rfl), zvt_m (ok_Model_wrongAt ph).1, zkV (o := 42) (i := 399) f_Model_nextWhole (by decide) (ok_Model_nextWhole ph) (zq2 (q := (13, 129)) rfl), zvt_m (ok_Model_nextWhole ph).1, trivial⟩
theorem ok_Model_end (ph : Bool) : zOk y_Model_end (.code y_Model_end prog_34_method_45_code 1 none) 1 22 ph (X_Model_end ph) := zMd_ok (plainFor_of_name (by decide)) rfl (fun h => by cases h) v_Model_end (k_Model_end ph) (a_Model_end ph)
def y_Model_openWords : MethodName := ⟨"PackingHouseModel", "openWords", "()V"⟩
theorem v_Model_openWords : zTv prog_34_method_57_code 11 42 false t_Model_openWords = true := by decide +kernel
theorem k_Model_openWords (ph : Bool) : zcKey (c_Model_openWords ph) t_Model_openWords = true := by cases ph <;> decide +kernel
theorem f_Model_openWords : zfV y_Model_openWords prog_34_method_57_code 11 none 31 0 := ⟨zq2 (q := (13, 116)) rfl, zq2 (q := (13, 115)) rfl, zq2 (q := (1, 33)) rfl, zq2 (q := (109, 6)) rfl, ⟨by decide, by decide⟩, by decide +kernel⟩
theorem a_Model_openWords (ph : Bool) : zcAll 42 3 69 ph (c_Model_openWords ph) := ⟨zkV (o := 42) (i := 393) f_Model_wrong (by decide) (ok_Model_wrong ph) (zq2 (q := (13, 109)) rfl), zvt_m (ok_Model_wrong ph).1, zkV (o := 42) (i := 396) f_Model_come (by decide) (ok_Model_come ph) (zq2 (q := (13, 105)) rfl), zvt_m (ok_Model_come ph).1, zkV (o := 42) (i := 420) f_Model_fine (by decide) (ok_Model_fine ph) (zq2 (q := (13, 93)) rfl), zvt_m (ok_Model_fine ph).1, zkS (o := 42) (i := 430) f_Model_widthOf (by decide) (ok_Model_widthOf ph) (zq2 (q := (12, 135)) rfl), (ok_Model_widthOf ph).1, zkV (o := 42) (i := 443) f_Model_nextBits (by decide) (ok_Model_nextBits ph) (zq2 (q := (13, 117)) rfl), zvt_m (ok_Model_nextBits ph).1, zkV (o := 42) (i := 447) f_Model_end (by decide) (ok_Model_end ph) (zq2 (q := (13, 125)) rfl), zvt_m (ok_Model_end ph).1, trivial⟩
theorem ok_Model_openWords (ph : Bool) : zOk y_Model_openWords (.code y_Model_openWords prog_34_method_57_code 11 none) 3 69 ph (X_Model_openWords ph) := zMd_ok (plainFor_of_name (by decide)) rfl (fun h => by cases h) v_Model_openWords (k_Model_openWords ph) (a_Model_openWords ph)
def y_Model_lowNumber : MethodName := ⟨"PackingHouseModel", "lowNumbe\x72", "(I)J"⟩
theorem v_Model_lowNumber : zTv prog_34_method_38_code 5 42 false t_Model_lowNumber = true := by decide +kernel
theorem k_Model_lowNumber (ph : Bool) : zcKey (c_Model_lowNumber ph) t_Model_lowNumber = true := by cases ph <;> decide +kernel
theorem f_Model_lowNumber : zfV y_Model_lowNumber prog_34_method_38_code 5 (some .long) 31 1 := ⟨zq2 (q := (13, 145)) rfl, zq2 (q := (13, 144)) rfl, zq2 (q := (1, 33)) rfl, zq2 (q := (109, 13)) rfl, ⟨by decide, by decide⟩, by decide +kernel⟩
theorem a_Model_lowNumber (ph : Bool) : zcAll 42 2 42 ph (c_Model_lowNumber ph) := ⟨zkV (o := 42) (i := 381) f_Model_next (by decide) (ok_Model_next ph) (zq2 (q := (13, 97)) rfl), zvt_m (ok_Model_next ph).1, trivial⟩
theorem ok_Model_lowNumber (ph : Bool) : zOk y_Model_lowNumber (.code y_Model_lowNumber prog_34_method_38_code 5 (some .long)) 2 42 ph (X_Model_lowNumber ph) := zMd_ok (plainFor_of_name (by decide)) rfl (fun h => by cases h) v_Model_lowNumber (k_Model_lowNumber ph) (a_Model_lowNumber ph)
def y_Model_openStored : MethodName := ⟨"PackingHouseModel", "openStored", "()V"⟩
theorem v_Model_openStored : zTv prog_34_method_72_code 8 42 false t_Model_openStored = true := by decide +kernel
theorem k_Model_openStored (ph : Bool) : zcKey (c_Model_openStored ph) t_Model_openStored = true := by cases ph <;> decide +kernel
theorem f_Model_openStored : zfV y_Model_openStored prog_34_method_72_code 8 none 31 0 := ⟨zq2 (q := (13, 141)) rfl, zq2 (q := (13, 140)) rfl, zq2 (q := (1, 33)) rfl, zq2 (q := (109, 12)) rfl, ⟨by decide, by decide⟩, by decide +kernel⟩
theorem a_Model_openStored (ph : Bool) : zcAll 42 3 66 ph (c_Model_openStored ph) := ⟨zkV (o := 42) (i := 381) f_Model_next (by decide) (ok_Model_next ph) (zq2 (q := (13, 97)) rfl), zvt_m (ok_Model_next ph).1, zkV (o := 42) (i := 393) f_Model_wrong (by decide) (ok_Model_wrong ph) (zq2 (q := (13, 109)) rfl), zvt_m (ok_Model_wrong ph).1, zkV (o := 42) (i := 396) f_Model_come (by decide) (ok_Model_come ph) (zq2 (q := (13, 105)) rfl), zvt_m (ok_Model_come ph).1, zkV (o := 42) (i := 399) f_Model_nextWhole (by decide) (ok_Model_nextWhole ph) (zq2 (q := (13, 129)) rfl), zvt_m (ok_Model_nextWhole ph).1, zkV (o := 42) (i := 420) f_Model_fine (by decide) (ok_Model_fine ph) (zq2 (q := (13, 93)) rfl), zvt_m (ok_Model_fine ph).1, zkV (o := 42) (i := 536) f_Model_lowNumber (by decide) (ok_Model_lowNumber ph) (zq2 (q := (13, 142)) rfl), zvt_m (ok_Model_lowNumber ph).1, trivial⟩
theorem ok_Model_openStored (ph : Bool) : zOk y_Model_openStored (.code y_Model_openStored prog_34_method_72_code 8 none) 3 66 ph (X_Model_openStored ph) := zMd_ok (plainFor_of_name (by decide)) rfl (fun h => by cases h) v_Model_openStored (k_Model_openStored ph) (a_Model_openStored ph)
def y_Model_symbol : MethodName := ⟨"PackingHouseModel", "symbol", "([I[II)I"⟩
theorem v_Model_symbol : zTv prog_34_method_70_code 8 42 false t_Model_symbol = true := by decide +kernel
theorem k_Model_symbol (ph : Bool) : zcKey (c_Model_symbol ph) t_Model_symbol = true := by cases ph <;> decide +kernel
theorem f_Model_symbol : zfV y_Model_symbol prog_34_method_70_code 8 (some .int) 31 3 := ⟨zq2 (q := (13, 155)) rfl, zq2 (q := (13, 154)) rfl, zq2 (q := (1, 33)) rfl, zq2 (q := (109, 15)) rfl, ⟨by decide, by decide⟩, by decide +kernel⟩
theorem a_Model_symbol (ph : Bool) : zcAll 42 2 43 ph (c_Model_symbol ph) := ⟨zkV (o := 42) (i := 387) f_Model_nextBit (by decide) (ok_Model_nextBit ph) (zq2 (q := (13, 121)) rfl), zvt_m (ok_Model_nextBit ph).1, zkV (o := 42) (i := 393) f_Model_wrong (by decide) (ok_Model_wrong ph) (zq2 (q := (13, 109)) rfl), zvt_m (ok_Model_wrong ph).1, zkV (o := 42) (i := 420) f_Model_fine (by decide) (ok_Model_fine ph) (zq2 (q := (13, 93)) rfl), zvt_m (ok_Model_fine ph).1, trivial⟩
theorem ok_Model_symbol (ph : Bool) : zOk y_Model_symbol (.code y_Model_symbol prog_34_method_70_code 8 (some .int)) 2 43 ph (X_Model_symbol ph) := zMd_ok (plainFor_of_name (by decide)) rfl (fun h => by cases h) v_Model_symbol (k_Model_symbol ph) (a_Model_symbol ph)
def y_Model_isSingle : MethodName := ⟨"PackingHouseModel", "isSingle", "([II)Z"⟩
theorem v_Model_isSingle : zTv prog_34_method_74_code 5 42 false t_Model_isSingle = true := by decide +kernel
theorem k_Model_isSingle (ph : Bool) : zcKey (c_Model_isSingle ph) t_Model_isSingle = true := by cases ph <;> decide +kernel
theorem f_Model_isSingle : zfS y_Model_isSingle prog_34_method_74_code 5 (some .boolean) 2 := ⟨zq2 (q := (13, 158)) rfl, zq2 (q := (13, 157)) rfl, zq2 (q := (1, 33)) rfl, ⟨by decide, by decide⟩, by decide +kernel⟩
theorem a_Model_isSingle (ph : Bool) : zcAll 42 0 0 ph (c_Model_isSingle ph) := trivial
theorem ok_Model_isSingle (ph : Bool) : zOk y_Model_isSingle (.code y_Model_isSingle prog_34_method_74_code 5 (some .boolean)) 0 0 ph (X_Model_isSingle ph) := zMd_ok (plainFor_of_name (by decide)) rfl (fun h => by cases h) v_Model_isSingle (k_Model_isSingle ph) (a_Model_isSingle ph)
def y_Model_readOwn : MethodName := ⟨"PackingHouseModel", "readOwn", "()V"⟩
theorem v_Model_readOwn_0 : zTv prog_34_method_73_code 9 42 false ((t_Model_readOwn.drop 0).take 16) = true := by decide +kernel
theorem v_Model_readOwn_1 : zTv prog_34_method_73_code 9 42 false ((t_Model_readOwn.drop 16).take 16) = true := by decide +kernel
theorem v_Model_readOwn_2 : zTv prog_34_method_73_code 9 42 false ((t_Model_readOwn.drop 32).take 16) = true := by decide +kernel
theorem v_Model_readOwn_3 : zTv prog_34_method_73_code 9 42 false ((t_Model_readOwn.drop 48).take 16) = true := by decide +kernel
theorem v_Model_readOwn_4 : zTv prog_34_method_73_code 9 42 false (t_Model_readOwn.drop 64) = true := by decide +kernel
theorem v_Model_readOwn : zTv prog_34_method_73_code 9 42 false t_Model_readOwn = true := zTv_0 (t := t_Model_readOwn) (zTv_cut (t := t_Model_readOwn) (k := 0) (C := 16) v_Model_readOwn_0 (zTv_cut (t := t_Model_readOwn) (k := 16) (C := 16) v_Model_readOwn_1 (zTv_cut (t := t_Model_readOwn) (k := 32) (C := 16) v_Model_readOwn_2 (zTv_cut (t := t_Model_readOwn) (k := 48) (C := 16) v_Model_readOwn_3 (v_Model_readOwn_4)))))
theorem k_Model_readOwn (ph : Bool) : zcKey (c_Model_readOwn ph) t_Model_readOwn = true := by cases ph <;> decide +kernel
theorem f_Model_readOwn : zfV y_Model_readOwn prog_34_method_73_code 9 none 31 0 := ⟨zq2 (q := (13, 150)) rfl, zq2 (q := (13, 149)) rfl, zq2 (q := (1, 33)) rfl, zq2 (q := (109, 14)) rfl, ⟨by decide, by decide⟩, by decide +kernel⟩
theorem a_Model_readOwn (ph : Bool) : zcAll 42 3 70 ph (c_Model_readOwn ph) := ⟨zkV (o := 42) (i := 393) f_Model_wrong (by decide) (ok_Model_wrong ph) (zq2 (q := (13, 109)) rfl), zvt_m (ok_Model_wrong ph).1, zkV (o := 42) (i := 420) f_Model_fine (by decide) (ok_Model_fine ph) (zq2 (q := (13, 93)) rfl), zvt_m (ok_Model_fine ph).1, zkV (o := 42) (i := 443) f_Model_nextBits (by decide) (ok_Model_nextBits ph) (zq2 (q := (13, 117)) rfl), zvt_m (ok_Model_nextBits ph).1, zkS (o := 42) (i := 453) f_Model_codes (by decide) (ok_Model_codes ph) (zq2 (q := (12, 196)) rfl), (ok_Model_codes ph).1, zkV (o := 42) (i := 542) f_Model_symbol (by decide) (ok_Model_symbol ph) (zq2 (q := (13, 152)) rfl), zvt_m (ok_Model_symbol ph).1, zkS (o := 42) (i := 546) f_Model_isSingle (by decide) (ok_Model_isSingle ph) (zq2 (q := (13, 156)) rfl), (ok_Model_isSingle ph).1, trivial⟩
theorem ok_Model_readOwn (ph : Bool) : zOk y_Model_readOwn (.code y_Model_readOwn prog_34_method_73_code 9 none) 3 70 ph (X_Model_readOwn ph) := zMd_ok (plainFor_of_name (by decide)) rfl (fun h => by cases h) v_Model_readOwn (k_Model_readOwn ph) (a_Model_readOwn ph)
def y_Model_copy : MethodName := ⟨"PackingHouseModel", "copy", "(JJ)V"⟩
theorem v_Model_copy : zTv prog_34_method_44_code 7 42 false t_Model_copy = true := by decide +kernel
theorem k_Model_copy (ph : Bool) : zcKey (c_Model_copy ph) t_Model_copy = true := by cases ph <;> decide +kernel
theorem f_Model_copy : zfV y_Model_copy prog_34_method_44_code 7 none 31 2 := ⟨zq2 (q := (13, 166)) rfl, zq2 (q := (13, 165)) rfl, zq2 (q := (1, 33)) rfl, zq2 (q := (110, 1)) rfl, ⟨by decide, by decide⟩, by decide +kernel⟩
theorem a_Model_copy (ph : Bool) : zcAll 42 2 42 ph (c_Model_copy ph) := ⟨zkV (o := 42) (i := 396) f_Model_come (by decide) (ok_Model_come ph) (zq2 (q := (13, 105)) rfl), zvt_m (ok_Model_come ph).1, trivial⟩
theorem ok_Model_copy (ph : Bool) : zOk y_Model_copy (.code y_Model_copy prog_34_method_44_code 7 none) 2 42 ph (X_Model_copy ph) := zMd_ok (plainFor_of_name (by decide)) rfl (fun h => by cases h) v_Model_copy (k_Model_copy ph) (a_Model_copy ph)
def y_Model_openSymbols : MethodName := ⟨"PackingHouseModel", "openSymbols", "()V"⟩
theorem v_Model_openSymbols : zTv prog_34_method_75_code 8 42 false t_Model_openSymbols = true := by decide +kernel
theorem k_Model_openSymbols (ph : Bool) : zcKey (c_Model_openSymbols ph) t_Model_openSymbols = true := by cases ph <;> decide +kernel
theorem f_Model_openSymbols : zfV y_Model_openSymbols prog_34_method_75_code 8 none 31 0 := ⟨zq2 (q := (13, 162)) rfl, zq2 (q := (13, 161)) rfl, zq2 (q := (1, 33)) rfl, zq2 (q := (110, 0)) rfl, ⟨by decide, by decide⟩, by decide +kernel⟩
theorem a_Model_openSymbols (ph : Bool) : zcAll 42 3 70 ph (c_Model_openSymbols ph) := ⟨zkV (o := 42) (i := 393) f_Model_wrong (by decide) (ok_Model_wrong ph) (zq2 (q := (13, 109)) rfl), zvt_m (ok_Model_wrong ph).1, zkV (o := 42) (i := 396) f_Model_come (by decide) (ok_Model_come ph) (zq2 (q := (13, 105)) rfl), zvt_m (ok_Model_come ph).1, zkV (o := 42) (i := 420) f_Model_fine (by decide) (ok_Model_fine ph) (zq2 (q := (13, 93)) rfl), zvt_m (ok_Model_fine ph).1, zkV (o := 42) (i := 443) f_Model_nextBits (by decide) (ok_Model_nextBits ph) (zq2 (q := (13, 117)) rfl), zvt_m (ok_Model_nextBits ph).1, zkV (o := 42) (i := 542) f_Model_symbol (by decide) (ok_Model_symbol ph) (zq2 (q := (13, 152)) rfl), zvt_m (ok_Model_symbol ph).1, zkV (o := 42) (i := 550) f_Model_copy (by decide) (ok_Model_copy ph) (zq2 (q := (13, 163)) rfl), zvt_m (ok_Model_copy ph).1, trivial⟩
theorem ok_Model_openSymbols (ph : Bool) : zOk y_Model_openSymbols (.code y_Model_openSymbols prog_34_method_75_code 8 none) 3 70 ph (X_Model_openSymbols ph) := zMd_ok (plainFor_of_name (by decide)) rfl (fun h => by cases h) v_Model_openSymbols (k_Model_openSymbols ph) (a_Model_openSymbols ph)

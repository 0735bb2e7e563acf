/-! PART 05 (printed by gen_tabs.py): what the tables say, by program -/
def zch (n : Nat) : List Cond := match n with
  | 1 => tables_1_1
  | 2 => tables_1_2
  | 3 => tables_1_3
  | 4 => tables_1_4
  | 5 => tables_1_5
  | 6 => tables_1_6
  | 7 => tables_1_7
  | 8 => tables_1_8
  | 9 => tables_1_9
  | 10 => tables_1_10
  | 11 => tables_1_11
  | 12 => tables_1_12
  | 13 => tables_1_13
  | 14 => tables_1_14
  | 15 => tables_1_15
  | _ => []
theorem zch_in {n : Nat} {w : Cond} (h : w ∈ zch n) : w ∈ lw_tbl := by
  refine List.mem_append_right _ ?_
  unfold tables_1
  unfold zch at h
  split at h
  all_goals first
    | exact absurd h List.not_mem_nil
    | (simp only [List.mem_append]; simp only [h, true_or, or_true])
def zckL : List Cond → List (Nat × Nat) → Bool
  | [], _ => true
  | w :: t, q :: ps => decide ((zch q.1)[q.2]? = some w) && zckL t ps
  | _ :: _, [] => false
theorem zckL_in : ∀ {ws : List Cond} {ps : List (Nat × Nat)}, zckL ws ps = true → ∀ w ∈ ws, w ∈ lw_tbl
  | [], _, _, w, hw => absurd hw List.not_mem_nil
  | v :: t, [], h, _, _ => by simp [zckL] at h
  | v :: t, q :: ps, h, w, hw => by
    simp only [zckL, Bool.and_eq_true, decide_eq_true_eq] at h
    rcases List.mem_cons.mp hw with rfl | hw
    · exact zch_in (List.mem_of_getElem? h.1)
    · exact zckL_in h.2 w hw
def zLP : List (List (Nat × Nat)) := [[(4, 124), (4, 126), (4, 128), (4, 130), (4, 132), (4, 134), (4, 136), (4, 138), (4, 140), (4, 142), (4, 144), (4, 146), (4, 148), (4, 150), (4, 152), (4, 154), (4, 156), (4, 158), (4, 160), (4, 162), (4, 164), (4, 166), (4, 168), (4, 170), (4, 172), (4, 174), (4, 176)], [(1, 89), (1, 91)], [(1, 119), (1, 121), (1, 123), (1, 125), (1, 127), (1, 129), (1, 131)], [(1, 151), (1, 153)], [(1, 167), (1, 169), (1, 171), (1, 173)], [(1, 186), (1, 188)], [(2, 10), (2, 12), (2, 14), (2, 16), (2, 18), (2, 20), (2, 22), (2, 24), (2, 26)], [(1, 212), (1, 214), (1, 216), (1, 218), (1, 220), (1, 222)], [(2, 112), (2, 114), (2, 116), (2, 118), (2, 120), (2, 122), (2, 124), (2, 126), (2, 128), (2, 130), (2, 132), (2, 134), (2, 136)], [(2, 63), (2, 65), (2, 67), (2, 69), (2, 71), (2, 73), (2, 75), (2, 77), (2, 79), (2, 81), (2, 83), (2, 85)], [], [], [(2, 167), (2, 169), (2, 171), (2, 173), (2, 175), (2, 177)], [], [], [(2, 206), (2, 208)], [], [(3, 6), (3, 8), (3, 10), (3, 12), (3, 14), (3, 16), (3, 18), (3, 20), (3, 22), (3, 24), (3, 26), (3, 28), (3, 30), (3, 32), (3, 34), (3, 36)], [(3, 51), (3, 53), (3, 55), (3, 57), (3, 59)], [], [], [(3, 100), (3, 102), (3, 104), (3, 106), (3, 108), (3, 110), (3, 112)], [(3, 171), (3, 173)], [(3, 152), (3, 154), (3, 156), (3, 158)], [(3, 186), (3, 188), (3, 190), (3, 192)], [(3, 220), (3, 222), (3, 224), (3, 226), (3, 228), (3, 230), (3, 232), (3, 234), (3, 236), (3, 238), (4, 0), (4, 2)], [(4, 66), (4, 68), (4, 70), (4, 72), (4, 74), (4, 76), (4, 78)], [(4, 28), (4, 30), (4, 32), (4, 34)], [(4, 49), (4, 51), (4, 53)], [(7, 81), (7, 83), (7, 43)], [(10, 219), (10, 221), (10, 223), (10, 225), (10, 227), (10, 229), (10, 231), (10, 233), (10, 235), (10, 237), (10, 239), (11, 1), (11, 3), (11, 5), (11, 7), (11, 9), (11, 11), (11, 13), (11, 15), (11, 17), (11, 19), (11, 21), (11, 23), (11, 25), (11, 27), (11, 29), (11, 31), (11, 33), (11, 35), (11, 37), (11, 39), (11, 41), (11, 43), (11, 45), (11, 47), (11, 49), (11, 51), (11, 53), (11, 55), (11, 57), (11, 59), (11, 61), (11, 63), (11, 65), (11, 67), (11, 69), (11, 71), (11, 73), (11, 75), (11, 77), (11, 79), (11, 81), (11, 83), (11, 85), (11, 87), (11, 89), (11, 91), (11, 93), (11, 95), (11, 97), (11, 99), (11, 101), (11, 103), (11, 105), (11, 107), (11, 109), (11, 111), (11, 113), (11, 115), (11, 117), (11, 119), (11, 121), (11, 123), (11, 125), (11, 127), (11, 129), (11, 131), (11, 133), (11, 135), (11, 137), (11, 139), (11, 141), (11, 143), (11, 145), (11, 147), (11, 149), (11, 151), (11, 153), (11, 155), (11, 157), (11, 159), (11, 161), (11, 163), (11, 165), (11, 167), (11, 169), (11, 171), (11, 173), (11, 175), (11, 177), (11, 179), (11, 181), (11, 183), (11, 185), (11, 187), (11, 189), (11, 191), (11, 193), (11, 195), (11, 197), (11, 199), (11, 201), (11, 203), (11, 205), (11, 207), (11, 209), (11, 211), (11, 213), (11, 215), (11, 217), (11, 219), (11, 221), (11, 223), (11, 225), (11, 227), (11, 229), (11, 231), (11, 233), (11, 235), (11, 237), (11, 239), (12, 1), (12, 3), (12, 5)]]
theorem zlay1 : zckL (u_ws (zcn 1) (zT 1) (znf 1)) (zLP.getD 0 []) = true := by decide +kernel
theorem zlay2 : zckL (u_ws (zcn 2) (zT 2) (znf 2)) (zLP.getD 1 []) = true := by decide +kernel
theorem zlay3 : zckL (u_ws (zcn 3) (zT 3) (znf 3)) (zLP.getD 2 []) = true := by decide +kernel
theorem zlay4 : zckL (u_ws (zcn 4) (zT 4) (znf 4)) (zLP.getD 3 []) = true := by decide +kernel
theorem zlay5 : zckL (u_ws (zcn 5) (zT 5) (znf 5)) (zLP.getD 4 []) = true := by decide +kernel
theorem zlay6 : zckL (u_ws (zcn 6) (zT 6) (znf 6)) (zLP.getD 5 []) = true := by decide +kernel
theorem zlay7 : zckL (u_ws (zcn 7) (zT 7) (znf 7)) (zLP.getD 6 []) = true := by decide +kernel
theorem zlay8 : zckL (u_ws (zcn 8) (zT 8) (znf 8)) (zLP.getD 7 []) = true := by decide +kernel
theorem zlay9 : zckL (u_ws (zcn 9) (zT 9) (znf 9)) (zLP.getD 8 []) = true := by decide +kernel
theorem zlay10 : zckL (u_ws (zcn 10) (zT 10) (znf 10)) (zLP.getD 9 []) = true := by decide +kernel
theorem zlay11 : zckL (u_ws (zcn 11) (zT 11) (znf 11)) (zLP.getD 10 []) = true := by decide +kernel
theorem zlay12 : zckL (u_ws (zcn 12) (zT 12) (znf 12)) (zLP.getD 11 []) = true := by decide +kernel
theorem zlay13 : zckL (u_ws (zcn 13) (zT 13) (znf 13)) (zLP.getD 12 []) = true := by decide +kernel
theorem zlay14 : zckL (u_ws (zcn 14) (zT 14) (znf 14)) (zLP.getD 13 []) = true := by decide +kernel
theorem zlay15 : zckL (u_ws (zcn 15) (zT 15) (znf 15)) (zLP.getD 14 []) = true := by decide +kernel
theorem zlay16 : zckL (u_ws (zcn 16) (zT 16) (znf 16)) (zLP.getD 15 []) = true := by decide +kernel
theorem zlay17 : zckL (u_ws (zcn 17) (zT 17) (znf 17)) (zLP.getD 16 []) = true := by decide +kernel
theorem zlay18 : zckL (u_ws (zcn 18) (zT 18) (znf 18)) (zLP.getD 17 []) = true := by decide +kernel
theorem zlay19 : zckL (u_ws (zcn 19) (zT 19) (znf 19)) (zLP.getD 18 []) = true := by decide +kernel
theorem zlay20 : zckL (u_ws (zcn 20) (zT 20) (znf 20)) (zLP.getD 19 []) = true := by decide +kernel
theorem zlay21 : zckL (u_ws (zcn 21) (zT 21) (znf 21)) (zLP.getD 20 []) = true := by decide +kernel
theorem zlay22 : zckL (u_ws (zcn 22) (zT 22) (znf 22)) (zLP.getD 21 []) = true := by decide +kernel
theorem zlay23 : zckL (u_ws (zcn 23) (zT 23) (znf 23)) (zLP.getD 22 []) = true := by decide +kernel
theorem zlay24 : zckL (u_ws (zcn 24) (zT 24) (znf 24)) (zLP.getD 23 []) = true := by decide +kernel
theorem zlay25 : zckL (u_ws (zcn 25) (zT 25) (znf 25)) (zLP.getD 24 []) = true := by decide +kernel
theorem zlay26 : zckL (u_ws (zcn 26) (zT 26) (znf 26)) (zLP.getD 25 []) = true := by decide +kernel
theorem zlay27 : zckL (u_ws (zcn 27) (zT 27) (znf 27)) (zLP.getD 26 []) = true := by decide +kernel
theorem zlay28 : zckL (u_ws (zcn 28) (zT 28) (znf 28)) (zLP.getD 27 []) = true := by decide +kernel
theorem zlay29 : zckL (u_ws (zcn 29) (zT 29) (znf 29)) (zLP.getD 28 []) = true := by decide +kernel
theorem zlay30 : zckL (u_ws (zcn 30) (zT 30) (znf 30)) (zLP.getD 29 []) = true := by decide +kernel
theorem zlay31 : zckL (u_ws (zcn 31) (zT 31) (znf 31)) (zLP.getD 30 []) = true := by decide +kernel
theorem zlay {k : Nat} (h1 : 1 ≤ k) (h2 : k ≤ 31) : ∀ w ∈ u_ws (zcn k) (zT k) (znf k), w ∈ lw_tbl := by
  have h : zckL (u_ws (zcn k) (zT k) (znf k)) (zLP.getD (k - 1) []) = true := by
    match k, h1, h2 with
    | 1, _, _ => exact zlay1
    | 2, _, _ => exact zlay2
    | 3, _, _ => exact zlay3
    | 4, _, _ => exact zlay4
    | 5, _, _ => exact zlay5
    | 6, _, _ => exact zlay6
    | 7, _, _ => exact zlay7
    | 8, _, _ => exact zlay8
    | 9, _, _ => exact zlay9
    | 10, _, _ => exact zlay10
    | 11, _, _ => exact zlay11
    | 12, _, _ => exact zlay12
    | 13, _, _ => exact zlay13
    | 14, _, _ => exact zlay14
    | 15, _, _ => exact zlay15
    | 16, _, _ => exact zlay16
    | 17, _, _ => exact zlay17
    | 18, _, _ => exact zlay18
    | 19, _, _ => exact zlay19
    | 20, _, _ => exact zlay20
    | 21, _, _ => exact zlay21
    | 22, _, _ => exact zlay22
    | 23, _, _ => exact zlay23
    | 24, _, _ => exact zlay24
    | 25, _, _ => exact zlay25
    | 26, _, _ => exact zlay26
    | 27, _, _ => exact zlay27
    | 28, _, _ => exact zlay28
    | 29, _, _ => exact zlay29
    | 30, _, _ => exact zlay30
    | 31, _, _ => exact zlay31
    | n + 32, _, h => exact absurd h (by omega)
  exact zckL_in h
theorem zins_ok : zckL ((List.range 31).map (fun i => Cond.instantiable (zcn (i + 1)) (zns (i + 1)))) [(1, 45), (1, 53), (1, 97), (1, 136), (1, 157), (1, 177), (1, 193), (1, 199), (2, 30), (2, 39), (2, 140), (2, 149), (2, 156), (2, 181), (2, 188), (2, 195), (2, 212), (2, 219), (3, 40), (3, 65), (3, 75), (3, 82), (3, 116), (3, 123), (3, 177), (3, 196), (4, 7), (4, 16), (4, 37), (7, 25), (10, 76)] = true := by decide +kernel
theorem zini_ok : zckL ((zOW.filter (fun c => decide (c ≠ "java/lang/Object"))).map Cond.initialized) [(1, 1), (1, 2), (1, 3), (1, 4), (1, 5), (1, 6), (1, 7), (1, 8), (1, 10), (1, 9), (1, 11), (1, 12), (1, 13), (1, 14), (1, 15), (1, 16), (1, 17), (1, 18), (1, 19), (1, 20), (1, 21), (1, 23), (1, 22), (1, 24), (1, 25), (1, 26), (1, 27), (1, 28), (1, 29), (1, 30), (1, 31), (1, 32), (1, 34), (1, 36), (1, 39), (1, 38), (1, 37), (1, 40), (1, 41), (1, 42), (1, 43), (1, 33), (1, 0)] = true := by decide +kernel
def zFw (o : Nat) (e : Nat × Nat × Nat × Nat) : Cond := match e.2.2.2 with
  | 0 => .fieldLink (zow o) e.1 (zT e.2.1 e.2.2.1).1 (zT e.2.1 e.2.2.1).2.1 (zT e.2.1 e.2.2.1).2.2.1
  | _ => .fieldLinkNest (zow o) e.1 (zT e.2.1 e.2.2.1).1 (zT e.2.1 e.2.2.1).2.1 (zT e.2.1 e.2.2.1).2.2.1 "PackingHouse"
theorem zfl0 : zckL ((zFL.getD 0 []).map (zFw 0)) [(4, 81), (4, 82), (4, 83), (4, 84), (4, 85), (4, 86), (4, 87), (4, 88), (4, 94), (4, 98), (4, 102), (4, 109), (4, 111), (4, 113), (4, 114), (4, 115), (4, 116), (4, 117), (4, 118), (4, 119), (4, 120), (1, 77), (1, 62), (4, 106), (4, 103), (7, 74), (4, 121), (7, 76), (4, 122), (4, 123), (2, 4), (1, 229), (1, 234), (1, 239), (4, 105), (3, 170), (3, 165), (3, 135), (3, 141), (3, 146), (3, 151), (3, 214), (3, 209), (3, 206), (3, 211), (3, 216), (4, 48), (4, 46), (4, 25), (4, 23), (4, 58), (4, 60), (4, 63)] = true := by decide +kernel
theorem zfr0 : (zFL.getD 0 []).all (fun e => decide (1 ≤ e.2.1 ∧ e.2.1 ≤ 31 ∧ e.2.2.1 < znf e.2.1)) = true := by decide +kernel
theorem zfl2 : zckL ((zFL.getD 2 []).map (zFw 2)) [(1, 58), (1, 74)] = true := by decide +kernel
theorem zfr2 : (zFL.getD 2 []).all (fun e => decide (1 ≤ e.2.1 ∧ e.2.1 ≤ 31 ∧ e.2.2.1 < znf e.2.1)) = true := by decide +kernel
theorem zfl3 : zckL ((zFL.getD 3 []).map (zFw 3)) [(1, 102), (1, 105), (1, 110), (1, 107), (1, 117), (1, 114), (1, 116)] = true := by decide +kernel
theorem zfr3 : (zFL.getD 3 []).all (fun e => decide (1 ≤ e.2.1 ∧ e.2.1 ≤ 31 ∧ e.2.2.1 < znf e.2.1)) = true := by decide +kernel
theorem zfl4 : zckL ((zFL.getD 4 []).map (zFw 4)) [(1, 141), (1, 149), (1, 68)] = true := by decide +kernel
theorem zfr4 : (zFL.getD 4 []).all (fun e => decide (1 ≤ e.2.1 ∧ e.2.1 ≤ 31 ∧ e.2.2.1 < znf e.2.1)) = true := by decide +kernel
theorem zfl5 : zckL ((zFL.getD 5 []).map (zFw 5)) [(1, 162), (1, 163), (1, 164), (1, 165)] = true := by decide +kernel
theorem zfr5 : (zFL.getD 5 []).all (fun e => decide (1 ≤ e.2.1 ∧ e.2.1 ≤ 31 ∧ e.2.2.1 < znf e.2.1)) = true := by decide +kernel
theorem zfl6 : zckL ((zFL.getD 6 []).map (zFw 6)) [(1, 184), (1, 185)] = true := by decide +kernel
theorem zfr6 : (zFL.getD 6 []).all (fun e => decide (1 ≤ e.2.1 ∧ e.2.1 ≤ 31 ∧ e.2.2.1 < znf e.2.1)) = true := by decide +kernel
theorem zfl7 : zckL ((zFL.getD 7 []).map (zFw 7)) [(1, 225), (1, 230), (1, 235), (2, 6), (2, 7), (2, 8), (2, 9), (2, 0), (2, 5), (1, 210), (1, 85), (1, 206)] = true := by decide +kernel
theorem zfr7 : (zFL.getD 7 []).all (fun e => decide (1 ≤ e.2.1 ∧ e.2.1 ≤ 31 ∧ e.2.2.1 < znf e.2.1)) = true := by decide +kernel
theorem zfl8 : zckL ((zFL.getD 8 []).map (zFw 8)) [(1, 204), (1, 205), (1, 207), (1, 76), (1, 208), (1, 209), (1, 211)] = true := by decide +kernel
theorem zfr8 : (zFL.getD 8 []).all (fun e => decide (1 ≤ e.2.1 ∧ e.2.1 ≤ 31 ∧ e.2.2.1 < znf e.2.1)) = true := by decide +kernel
theorem zfl9 : zckL ((zFL.getD 9 []).map (zFw 9)) [(2, 99), (2, 100), (2, 101), (2, 102), (2, 103), (2, 104), (2, 105), (2, 106), (2, 107), (2, 108), (2, 109), (2, 45), (1, 233), (1, 238), (2, 48), (1, 228), (2, 51), (2, 110), (2, 3), (1, 88), (4, 91), (4, 101), (1, 166), (4, 104), (1, 118), (1, 148), (2, 111), (2, 57)] = true := by decide +kernel
theorem zfr9 : (zFL.getD 9 []).all (fun e => decide (1 ≤ e.2.1 ∧ e.2.1 ≤ 31 ∧ e.2.2.1 < znf e.2.1)) = true := by decide +kernel
theorem zfl11 : zckL ((zFL.getD 11 []).map (zFw 11)) [(2, 44), (2, 47), (2, 54), (2, 55), (2, 59), (2, 60), (2, 61), (2, 62), (2, 50), (2, 53), (2, 56), (2, 58)] = true := by decide +kernel
theorem zfr11 : (zFL.getD 11 []).all (fun e => decide (1 ≤ e.2.1 ∧ e.2.1 ≤ 31 ∧ e.2.2.1 < znf e.2.1)) = true := by decide +kernel
theorem zfl13 : zckL ((zFL.getD 13 []).map (zFw 13)) [(4, 100), (2, 2), (1, 232), (1, 237), (1, 227), (1, 82), (1, 146)] = true := by decide +kernel
theorem zfr13 : (zFL.getD 13 []).all (fun e => decide (1 ≤ e.2.1 ∧ e.2.1 ≤ 31 ∧ e.2.2.1 < znf e.2.1)) = true := by decide +kernel
theorem zfl14 : zckL ((zFL.getD 14 []).map (zFw 14)) [(1, 67)] = true := by decide +kernel
theorem zfr14 : (zFL.getD 14 []).all (fun e => decide (1 ≤ e.2.1 ∧ e.2.1 ≤ 31 ∧ e.2.2.1 < znf e.2.1)) = true := by decide +kernel
theorem zfl15 : zckL ((zFL.getD 15 []).map (zFw 15)) [(2, 161), (2, 162), (2, 163), (2, 164), (2, 165), (2, 166), (4, 89), (1, 86)] = true := by decide +kernel
theorem zfr15 : (zFL.getD 15 []).all (fun e => decide (1 ≤ e.2.1 ∧ e.2.1 ≤ 31 ∧ e.2.2.1 < znf e.2.1)) = true := by decide +kernel
theorem zfl16 : zckL ((zFL.getD 16 []).map (zFw 16)) [(4, 108), (1, 72), (1, 142)] = true := by decide +kernel
theorem zfr16 : (zFL.getD 16 []).all (fun e => decide (1 ≤ e.2.1 ∧ e.2.1 ≤ 31 ∧ e.2.2.1 < znf e.2.1)) = true := by decide +kernel
theorem zfl17 : zckL ((zFL.getD 17 []).map (zFw 17)) [(4, 107), (1, 71), (4, 93), (1, 104), (1, 106), (1, 109), (1, 144)] = true := by decide +kernel
theorem zfr17 : (zFL.getD 17 []).all (fun e => decide (1 ≤ e.2.1 ∧ e.2.1 ≤ 31 ∧ e.2.2.1 < znf e.2.1)) = true := by decide +kernel
theorem zfl18 : zckL ((zFL.getD 18 []).map (zFw 18)) [(2, 204), (2, 205), (1, 81), (4, 112), (1, 108), (1, 111), (1, 115), (1, 103), (1, 150), (1, 145)] = true := by decide +kernel
theorem zfr18 : (zFL.getD 18 []).all (fun e => decide (1 ≤ e.2.1 ∧ e.2.1 ≤ 31 ∧ e.2.2.1 < znf e.2.1)) = true := by decide +kernel
theorem zfl19 : zckL ((zFL.getD 19 []).map (zFw 19)) [(4, 99), (1, 78), (2, 1), (1, 226), (1, 231), (1, 236), (1, 143), (1, 113)] = true := by decide +kernel
theorem zfr19 : (zFL.getD 19 []).all (fun e => decide (1 ≤ e.2.1 ∧ e.2.1 ≤ 31 ∧ e.2.2.1 < znf e.2.1)) = true := by decide +kernel
theorem zfl20 : zckL ((zFL.getD 20 []).map (zFw 20)) [(2, 230), (2, 231), (2, 232), (2, 233), (2, 234), (2, 235), (2, 236), (2, 237), (2, 239), (3, 1), (3, 2), (3, 3), (3, 4), (3, 5), (1, 66), (2, 238), (3, 0), (2, 46), (2, 52), (2, 49), (4, 90), (4, 97), (1, 64)] = true := by decide +kernel
theorem zfr20 : (zFL.getD 20 []).all (fun e => decide (1 ≤ e.2.1 ∧ e.2.1 ≤ 31 ∧ e.2.2.1 < znf e.2.1)) = true := by decide +kernel
theorem zfl21 : zckL ((zFL.getD 21 []).map (zFw 21)) [(3, 46), (3, 48), (3, 49), (3, 47), (1, 73), (1, 59), (3, 50)] = true := by decide +kernel
theorem zfr21 : (zFL.getD 21 []).all (fun e => decide (1 ≤ e.2.1 ∧ e.2.1 ≤ 31 ∧ e.2.2.1 < znf e.2.1)) = true := by decide +kernel
theorem zfl22 : zckL ((zFL.getD 22 []).map (zFw 22)) [(1, 84), (3, 134), (3, 145), (3, 140), (3, 150), (3, 169), (3, 164)] = true := by decide +kernel
theorem zfr22 : (zFL.getD 22 []).all (fun e => decide (1 ≤ e.2.1 ∧ e.2.1 ≤ 31 ∧ e.2.2.1 < znf e.2.1)) = true := by decide +kernel
theorem zfl23 : zckL ((zFL.getD 23 []).map (zFw 23)) [(1, 83)] = true := by decide +kernel
theorem zfr23 : (zFL.getD 23 []).all (fun e => decide (1 ≤ e.2.1 ∧ e.2.1 ≤ 31 ∧ e.2.2.1 < znf e.2.1)) = true := by decide +kernel
theorem zfl24 : zckL ((zFL.getD 24 []).map (zFw 24)) [(3, 131), (1, 65), (3, 167), (3, 162), (3, 139), (3, 149), (3, 143)] = true := by decide +kernel
theorem zfr24 : (zFL.getD 24 []).all (fun e => decide (1 ≤ e.2.1 ∧ e.2.1 ≤ 31 ∧ e.2.2.1 < znf e.2.1)) = true := by decide +kernel
theorem zfl25 : zckL ((zFL.getD 25 []).map (zFw 25)) [(3, 93), (3, 94), (3, 95), (3, 96), (3, 97), (3, 98), (3, 99), (3, 147), (4, 92), (3, 137), (1, 69), (3, 133), (4, 110), (3, 144), (3, 168), (3, 163)] = true := by decide +kernel
theorem zfr25 : (zFL.getD 25 []).all (fun e => decide (1 ≤ e.2.1 ∧ e.2.1 ≤ 31 ∧ e.2.2.1 < znf e.2.1)) = true := by decide +kernel
theorem zfl26 : zckL ((zFL.getD 26 []).map (zFw 26)) [(3, 161), (3, 166), (3, 132), (1, 70), (3, 138)] = true := by decide +kernel
theorem zfr26 : (zFL.getD 26 []).all (fun e => decide (1 ≤ e.2.1 ∧ e.2.1 ≤ 31 ∧ e.2.2.1 < znf e.2.1)) = true := by decide +kernel
theorem zfl27 : zckL ((zFL.getD 27 []).map (zFw 27)) [(3, 130), (3, 136), (3, 142), (3, 148), (1, 80)] = true := by decide +kernel
theorem zfr27 : (zFL.getD 27 []).all (fun e => decide (1 ≤ e.2.1 ∧ e.2.1 ≤ 31 ∧ e.2.2.1 < znf e.2.1)) = true := by decide +kernel
theorem zfl28 : zckL ((zFL.getD 28 []).map (zFw 28)) [(3, 182), (3, 183), (1, 79), (3, 184), (3, 185), (4, 95), (1, 61), (1, 147), (1, 112)] = true := by decide +kernel
theorem zfr28 : (zFL.getD 28 []).all (fun e => decide (1 ≤ e.2.1 ∧ e.2.1 ≤ 31 ∧ e.2.2.1 < znf e.2.1)) = true := by decide +kernel
theorem zfl29 : zckL ((zFL.getD 29 []).map (zFw 29)) [(3, 203), (3, 204), (3, 205), (3, 207), (3, 208), (3, 215), (3, 217), (3, 218), (3, 219), (3, 210), (3, 212), (1, 87), (3, 213), (4, 96), (1, 63)] = true := by decide +kernel
theorem zfr29 : (zFL.getD 29 []).all (fun e => decide (1 ≤ e.2.1 ∧ e.2.1 ≤ 31 ∧ e.2.2.1 < znf e.2.1)) = true := by decide +kernel
theorem zfl30 : zckL ((zFL.getD 30 []).map (zFw 30)) [(4, 56), (4, 61), (4, 62), (4, 43), (1, 75), (4, 24), (4, 22), (1, 60), (4, 57), (4, 59), (4, 26), (4, 47), (4, 45), (4, 64), (4, 65), (4, 27)] = true := by decide +kernel
theorem zfr30 : (zFL.getD 30 []).all (fun e => decide (1 ≤ e.2.1 ∧ e.2.1 ≤ 31 ∧ e.2.2.1 < znf e.2.1)) = true := by decide +kernel
theorem zfl31 : zckL ((zFL.getD 31 []).map (zFw 31)) [(4, 21)] = true := by decide +kernel
theorem zfr31 : (zFL.getD 31 []).all (fun e => decide (1 ≤ e.2.1 ∧ e.2.1 ≤ 31 ∧ e.2.2.1 < znf e.2.1)) = true := by decide +kernel
theorem zfl32 : zckL ((zFL.getD 32 []).map (zFw 32)) [(4, 44)] = true := by decide +kernel
theorem zfr32 : (zFL.getD 32 []).all (fun e => decide (1 ≤ e.2.1 ∧ e.2.1 ≤ 31 ∧ e.2.2.1 < znf e.2.1)) = true := by decide +kernel
theorem zfl35 : zckL ((zFL.getD 35 []).map (zFw 35)) [(7, 73), (7, 75)] = true := by decide +kernel
theorem zfr35 : (zFL.getD 35 []).all (fun e => decide (1 ≤ e.2.1 ∧ e.2.1 ≤ 31 ∧ e.2.2.1 < znf e.2.1)) = true := by decide +kernel
theorem zfl42 : zckL ((zFL.getD 42 []).map (zFw 42)) [(10, 90), (10, 92), (10, 93), (10, 94), (10, 95), (10, 96), (10, 97), (10, 102), (10, 110), (10, 112), (10, 113), (10, 114), (10, 117), (10, 119), (10, 120), (10, 121), (10, 122), (10, 123), (10, 124), (10, 125), (10, 126), (10, 127), (10, 128), (10, 129), (10, 130), (10, 131), (10, 132), (10, 133), (10, 135), (10, 136), (10, 137), (10, 138), (10, 139), (10, 140), (10, 141), (10, 142), (10, 143), (10, 149), (10, 150), (10, 153), (10, 155), (10, 156), (10, 157), (10, 158), (10, 159), (10, 161), (10, 162), (10, 163), (10, 164), (10, 171), (10, 172), (10, 173), (10, 175), (10, 176), (10, 177), (10, 178), (10, 179), (10, 180), (10, 182), (10, 183), (10, 184), (10, 185), (10, 186), (10, 187), (10, 188), (10, 190), (10, 191), (10, 192), (10, 193), (10, 194), (10, 195), (10, 196), (10, 201), (10, 202), (10, 203), (10, 204), (10, 205), (10, 206), (10, 207), (10, 210), (10, 211), (10, 212), (10, 213), (10, 216), (10, 217), (10, 218), (10, 89), (10, 91), (10, 98), (10, 99), (10, 100), (10, 101), (10, 103), (10, 105), (10, 104), (10, 106), (10, 108), (10, 109), (10, 107), (10, 111), (10, 116), (10, 115), (10, 118), (10, 134), (10, 144), (10, 145), (10, 148), (10, 146), (10, 147), (10, 152), (10, 151), (10, 154), (10, 160), (10, 168), (10, 169), (10, 170), (10, 165), (10, 166), (10, 167), (10, 189), (10, 174), (10, 181), (10, 199), (10, 197), (10, 198), (10, 200), (10, 214), (10, 208), (10, 209), (10, 215)] = true := by decide +kernel
theorem zfr42 : (zFL.getD 42 []).all (fun e => decide (1 ≤ e.2.1 ∧ e.2.1 ≤ 31 ∧ e.2.2.1 < znf e.2.1)) = true := by decide +kernel
theorem zfl (o : Nat) : (∀ w ∈ (zFL.getD o []).map (zFw o), w ∈ lw_tbl) ∧ (zFL.getD o []).all (fun e => decide (1 ≤ e.2.1 ∧ e.2.1 ≤ 31 ∧ e.2.2.1 < znf e.2.1)) = true := by
  match o with
  | 0 => exact ⟨zckL_in zfl0, zfr0⟩
  | 1 => exact ⟨fun w h => absurd h List.not_mem_nil, rfl⟩
  | 2 => exact ⟨zckL_in zfl2, zfr2⟩
  | 3 => exact ⟨zckL_in zfl3, zfr3⟩
  | 4 => exact ⟨zckL_in zfl4, zfr4⟩
  | 5 => exact ⟨zckL_in zfl5, zfr5⟩
  | 6 => exact ⟨zckL_in zfl6, zfr6⟩
  | 7 => exact ⟨zckL_in zfl7, zfr7⟩
  | 8 => exact ⟨zckL_in zfl8, zfr8⟩
  | 9 => exact ⟨zckL_in zfl9, zfr9⟩
  | 10 => exact ⟨fun w h => absurd h List.not_mem_nil, rfl⟩
  | 11 => exact ⟨zckL_in zfl11, zfr11⟩
  | 12 => exact ⟨fun w h => absurd h List.not_mem_nil, rfl⟩
  | 13 => exact ⟨zckL_in zfl13, zfr13⟩
  | 14 => exact ⟨zckL_in zfl14, zfr14⟩
  | 15 => exact ⟨zckL_in zfl15, zfr15⟩
  | 16 => exact ⟨zckL_in zfl16, zfr16⟩
  | 17 => exact ⟨zckL_in zfl17, zfr17⟩
  | 18 => exact ⟨zckL_in zfl18, zfr18⟩
  | 19 => exact ⟨zckL_in zfl19, zfr19⟩
  | 20 => exact ⟨zckL_in zfl20, zfr20⟩
  | 21 => exact ⟨zckL_in zfl21, zfr21⟩
  | 22 => exact ⟨zckL_in zfl22, zfr22⟩
  | 23 => exact ⟨zckL_in zfl23, zfr23⟩
  | 24 => exact ⟨zckL_in zfl24, zfr24⟩
  | 25 => exact ⟨zckL_in zfl25, zfr25⟩
  | 26 => exact ⟨zckL_in zfl26, zfr26⟩
  | 27 => exact ⟨zckL_in zfl27, zfr27⟩
  | 28 => exact ⟨zckL_in zfl28, zfr28⟩
  | 29 => exact ⟨zckL_in zfl29, zfr29⟩
  | 30 => exact ⟨zckL_in zfl30, zfr30⟩
  | 31 => exact ⟨zckL_in zfl31, zfr31⟩
  | 32 => exact ⟨zckL_in zfl32, zfr32⟩
  | 33 => exact ⟨fun w h => absurd h List.not_mem_nil, rfl⟩
  | 34 => exact ⟨fun w h => absurd h List.not_mem_nil, rfl⟩
  | 35 => exact ⟨zckL_in zfl35, zfr35⟩
  | 36 => exact ⟨fun w h => absurd h List.not_mem_nil, rfl⟩
  | 37 => exact ⟨fun w h => absurd h List.not_mem_nil, rfl⟩
  | 38 => exact ⟨fun w h => absurd h List.not_mem_nil, rfl⟩
  | 39 => exact ⟨fun w h => absurd h List.not_mem_nil, rfl⟩
  | 40 => exact ⟨fun w h => absurd h List.not_mem_nil, rfl⟩
  | 41 => exact ⟨fun w h => absurd h List.not_mem_nil, rfl⟩
  | 42 => exact ⟨zckL_in zfl42, zfr42⟩
  | 43 => exact ⟨fun w h => absurd h List.not_mem_nil, rfl⟩
  | n + 44 => exact ⟨fun w h => absurd h (by simp [zFL]), by simp [zFL]⟩
theorem zfld_ok {o i k f n : Nat} (h : zfld o i = some (k, f, n)) : 1 ≤ k ∧ k ≤ 31 ∧ f < znf k ∧ zFw o (i, k, f, n) ∈ lw_tbl := by
  unfold zfld at h
  obtain ⟨e, he, h2⟩ := Option.map_eq_some_iff.mp h
  have hm := List.mem_of_find?_eq_some he
  have hi : e.1 = i := by have := List.find?_some he; simpa using this
  have h3 := List.all_eq_true.mp (zfl o).2 e hm
  have h4 := (zfl o).1 _ (List.mem_map.mpr ⟨e, hm, rfl⟩)
  obtain ⟨e1, e2, e3, e4⟩ := e
  simp only [Prod.mk.injEq] at h2
  obtain ⟨rfl, rfl, rfl⟩ := h2
  simp only at hi
  subst hi
  simp only [decide_eq_true_eq] at h3
  exact ⟨h3.1, h3.2.1, h3.2.2, h4⟩
theorem zic0 : zckL ((zIC.getD 0 []).map (fun e => Cond.constant (zow 0) e.1 e.2)) [(4, 204), (4, 205)] = true := by decide +kernel
theorem zic6 : zckL ((zIC.getD 6 []).map (fun e => Cond.constant (zow 6) e.1 e.2)) [(1, 182), (1, 183), (4, 236), (5, 16), (5, 27), (5, 14), (5, 15), (5, 17), (5, 28), (5, 29)] = true := by decide +kernel
theorem zic7 : zckL ((zIC.getD 7 []).map (fun e => Cond.constant (zow 7) e.1 e.2)) [(5, 184), (6, 51)] = true := by decide +kernel
theorem zic9 : zckL ((zIC.getD 9 []).map (fun e => Cond.constant (zow 9) e.1 e.2)) [(5, 122), (5, 124)] = true := by decide +kernel
theorem zic13 : zckL ((zIC.getD 13 []).map (fun e => Cond.constant (zow 13) e.1 e.2)) [(7, 199)] = true := by decide +kernel
theorem zic17 : zckL ((zIC.getD 17 []).map (fun e => Cond.constant (zow 17) e.1 e.2)) [(7, 235)] = true := by decide +kernel
theorem zic19 : zckL ((zIC.getD 19 []).map (fun e => Cond.constant (zow 19) e.1 e.2)) [(6, 25)] = true := by decide +kernel
theorem zic20 : zckL ((zIC.getD 20 []).map (fun e => Cond.constant (zow 20) e.1 e.2)) [(2, 228)] = true := by decide +kernel
theorem zic21 : zckL ((zIC.getD 21 []).map (fun e => Cond.constant (zow 21) e.1 e.2)) [(3, 45)] = true := by decide +kernel
theorem zic30 : zckL ((zIC.getD 30 []).map (fun e => Cond.constant (zow 30) e.1 e.2)) [(10, 41)] = true := by decide +kernel
theorem zic33 : zckL ((zIC.getD 33 []).map (fun e => Cond.constant (zow 33) e.1 e.2)) [(6, 218)] = true := by decide +kernel
theorem zic42 : zckL ((zIC.getD 42 []).map (fun e => Cond.constant (zow 42) e.1 e.2)) [(10, 81), (10, 82), (10, 83), (10, 84), (10, 85), (10, 86), (10, 87), (10, 88), (12, 40), (12, 56), (12, 67), (12, 54), (12, 55), (12, 57), (12, 68), (12, 69), (12, 19), (12, 20), (13, 151), (13, 1), (13, 14), (14, 155), (14, 239)] = true := by decide +kernel
theorem zic (o : Nat) : ∀ w ∈ (zIC.getD o []).map (fun e => Cond.constant (zow o) e.1 e.2), w ∈ lw_tbl := by
  match o with
  | 0 => exact zckL_in zic0
  | 1 => exact fun w h => absurd h List.not_mem_nil
  | 2 => exact fun w h => absurd h List.not_mem_nil
  | 3 => exact fun w h => absurd h List.not_mem_nil
  | 4 => exact fun w h => absurd h List.not_mem_nil
  | 5 => exact fun w h => absurd h List.not_mem_nil
  | 6 => exact zckL_in zic6
  | 7 => exact zckL_in zic7
  | 8 => exact fun w h => absurd h List.not_mem_nil
  | 9 => exact zckL_in zic9
  | 10 => exact fun w h => absurd h List.not_mem_nil
  | 11 => exact fun w h => absurd h List.not_mem_nil
  | 12 => exact fun w h => absurd h List.not_mem_nil
  | 13 => exact zckL_in zic13
  | 14 => exact fun w h => absurd h List.not_mem_nil
  | 15 => exact fun w h => absurd h List.not_mem_nil
  | 16 => exact fun w h => absurd h List.not_mem_nil
  | 17 => exact zckL_in zic17
  | 18 => exact fun w h => absurd h List.not_mem_nil
  | 19 => exact zckL_in zic19
  | 20 => exact zckL_in zic20
  | 21 => exact zckL_in zic21
  | 22 => exact fun w h => absurd h List.not_mem_nil
  | 23 => exact fun w h => absurd h List.not_mem_nil
  | 24 => exact fun w h => absurd h List.not_mem_nil
  | 25 => exact fun w h => absurd h List.not_mem_nil
  | 26 => exact fun w h => absurd h List.not_mem_nil
  | 27 => exact fun w h => absurd h List.not_mem_nil
  | 28 => exact fun w h => absurd h List.not_mem_nil
  | 29 => exact fun w h => absurd h List.not_mem_nil
  | 30 => exact zckL_in zic30
  | 31 => exact fun w h => absurd h List.not_mem_nil
  | 32 => exact fun w h => absurd h List.not_mem_nil
  | 33 => exact zckL_in zic33
  | 34 => exact fun w h => absurd h List.not_mem_nil
  | 35 => exact fun w h => absurd h List.not_mem_nil
  | 36 => exact fun w h => absurd h List.not_mem_nil
  | 37 => exact fun w h => absurd h List.not_mem_nil
  | 38 => exact fun w h => absurd h List.not_mem_nil
  | 39 => exact fun w h => absurd h List.not_mem_nil
  | 40 => exact fun w h => absurd h List.not_mem_nil
  | 41 => exact fun w h => absurd h List.not_mem_nil
  | 42 => exact zckL_in zic42
  | 43 => exact fun w h => absurd h List.not_mem_nil
  | n + 44 => exact fun w h => absurd h (by simp [zIC])
theorem zcst_ok {o i : Nat} {v} (h : zcst o i = some v) : Cond.constant (zow o) i v ∈ lw_tbl := by
  unfold zcst at h
  obtain ⟨e, he, h2⟩ := Option.map_eq_some_iff.mp h
  have hm := List.mem_of_find?_eq_some he
  have hi : e.1 = i := by have := List.find?_some he; simpa using this
  have h4 := zic o _ (List.mem_map.mpr ⟨e, hm, rfl⟩)
  rw [hi, h2] at h4
  exact h4
theorem zlc0 : zckL ((zLC.getD 0 []).map (fun e => Cond.constantLong (zow 0) e.1 e.2)) [(4, 186), (4, 202), (4, 203), (4, 223), (5, 30), (5, 39), (5, 70), (5, 74), (8, 125), (8, 130), (8, 131), (9, 185), (9, 186)] = true := by decide +kernel
theorem zlc2 : zckL ((zLC.getD 2 []).map (fun e => Cond.constantLong (zow 2) e.1 e.2)) [(6, 31)] = true := by decide +kernel
theorem zlc6 : zckL ((zLC.getD 6 []).map (fun e => Cond.constantLong (zow 6) e.1 e.2)) [(4, 237), (5, 2)] = true := by decide +kernel
theorem zlc11 : zckL ((zLC.getD 11 []).map (fun e => Cond.constantLong (zow 11) e.1 e.2)) [(7, 145)] = true := by decide +kernel
theorem zlc17 : zckL ((zLC.getD 17 []).map (fun e => Cond.constantLong (zow 17) e.1 e.2)) [(7, 234)] = true := by decide +kernel
theorem zlc18 : zckL ((zLC.getD 18 []).map (fun e => Cond.constantLong (zow 18) e.1 e.2)) [(6, 73), (7, 216), (7, 217), (7, 211)] = true := by decide +kernel
theorem zlc19 : zckL ((zLC.getD 19 []).map (fun e => Cond.constantLong (zow 19) e.1 e.2)) [(7, 176), (7, 185), (7, 166)] = true := by decide +kernel
theorem zlc20 : zckL ((zLC.getD 20 []).map (fun e => Cond.constantLong (zow 20) e.1 e.2)) [(6, 189), (6, 193), (6, 162), (6, 128), (6, 195), (6, 196)] = true := by decide +kernel
theorem zlc21 : zckL ((zLC.getD 21 []).map (fun e => Cond.constantLong (zow 21) e.1 e.2)) [(6, 90), (6, 105)] = true := by decide +kernel
theorem zlc22 : zckL ((zLC.getD 22 []).map (fun e => Cond.constantLong (zow 22) e.1 e.2)) [(9, 12), (9, 13), (9, 99), (9, 100)] = true := by decide +kernel
theorem zlc23 : zckL ((zLC.getD 23 []).map (fun e => Cond.constantLong (zow 23) e.1 e.2)) [(8, 204)] = true := by decide +kernel
theorem zlc24 : zckL ((zLC.getD 24 []).map (fun e => Cond.constantLong (zow 24) e.1 e.2)) [(9, 36), (9, 37), (9, 38), (9, 46)] = true := by decide +kernel
theorem zlc25 : zckL ((zLC.getD 25 []).map (fun e => Cond.constantLong (zow 25) e.1 e.2)) [(8, 216), (8, 218), (8, 230), (8, 231), (9, 68), (9, 69), (9, 70), (9, 71), (9, 72), (9, 76), (9, 60)] = true := by decide +kernel
theorem zlc26 : zckL ((zLC.getD 26 []).map (fun e => Cond.constantLong (zow 26) e.1 e.2)) [(9, 43)] = true := by decide +kernel
theorem zlc28 : zckL ((zLC.getD 28 []).map (fun e => Cond.constantLong (zow 28) e.1 e.2)) [(9, 173)] = true := by decide +kernel
theorem zlc42 : zckL ((zLC.getD 42 []).map (fun e => Cond.constantLong (zow 42) e.1 e.2)) [(12, 41), (12, 46), (12, 70), (12, 175), (12, 126), (12, 142), (13, 146), (13, 133), (13, 191), (13, 204), (13, 23), (13, 213), (13, 214), (13, 72), (13, 67), (13, 32), (13, 62), (13, 61), (13, 231), (14, 20), (14, 77), (14, 102), (14, 101), (14, 103), (14, 100), (14, 116), (14, 117), (14, 122), (14, 123), (14, 140), (14, 149), (14, 154)] = true := by decide +kernel
theorem zlc43 : zckL ((zLC.getD 43 []).map (fun e => Cond.constantLong (zow 43) e.1 e.2)) [(15, 24)] = true := by decide +kernel
theorem zlc (o : Nat) : ∀ w ∈ (zLC.getD o []).map (fun e => Cond.constantLong (zow o) e.1 e.2), w ∈ lw_tbl := by
  match o with
  | 0 => exact zckL_in zlc0
  | 1 => exact fun w h => absurd h List.not_mem_nil
  | 2 => exact zckL_in zlc2
  | 3 => exact fun w h => absurd h List.not_mem_nil
  | 4 => exact fun w h => absurd h List.not_mem_nil
  | 5 => exact fun w h => absurd h List.not_mem_nil
  | 6 => exact zckL_in zlc6
  | 7 => exact fun w h => absurd h List.not_mem_nil
  | 8 => exact fun w h => absurd h List.not_mem_nil
  | 9 => exact fun w h => absurd h List.not_mem_nil
  | 10 => exact fun w h => absurd h List.not_mem_nil
  | 11 => exact zckL_in zlc11
  | 12 => exact fun w h => absurd h List.not_mem_nil
  | 13 => exact fun w h => absurd h List.not_mem_nil
  | 14 => exact fun w h => absurd h List.not_mem_nil
  | 15 => exact fun w h => absurd h List.not_mem_nil
  | 16 => exact fun w h => absurd h List.not_mem_nil
  | 17 => exact zckL_in zlc17
  | 18 => exact zckL_in zlc18
  | 19 => exact zckL_in zlc19
  | 20 => exact zckL_in zlc20
  | 21 => exact zckL_in zlc21
  | 22 => exact zckL_in zlc22
  | 23 => exact zckL_in zlc23
  | 24 => exact zckL_in zlc24
  | 25 => exact zckL_in zlc25
  | 26 => exact zckL_in zlc26
  | 27 => exact fun w h => absurd h List.not_mem_nil
  | 28 => exact zckL_in zlc28
  | 29 => exact fun w h => absurd h List.not_mem_nil
  | 30 => exact fun w h => absurd h List.not_mem_nil
  | 31 => exact fun w h => absurd h List.not_mem_nil
  | 32 => exact fun w h => absurd h List.not_mem_nil
  | 33 => exact fun w h => absurd h List.not_mem_nil
  | 34 => exact fun w h => absurd h List.not_mem_nil
  | 35 => exact fun w h => absurd h List.not_mem_nil
  | 36 => exact fun w h => absurd h List.not_mem_nil
  | 37 => exact fun w h => absurd h List.not_mem_nil
  | 38 => exact fun w h => absurd h List.not_mem_nil
  | 39 => exact fun w h => absurd h List.not_mem_nil
  | 40 => exact fun w h => absurd h List.not_mem_nil
  | 41 => exact fun w h => absurd h List.not_mem_nil
  | 42 => exact zckL_in zlc42
  | 43 => exact zckL_in zlc43
  | n + 44 => exact fun w h => absurd h (by simp [zLC])
theorem zcsl_ok {o i : Nat} {v} (h : zcsl o i = some v) : Cond.constantLong (zow o) i v ∈ lw_tbl := by
  unfold zcsl at h
  obtain ⟨e, he, h2⟩ := Option.map_eq_some_iff.mp h
  have hm := List.mem_of_find?_eq_some he
  have hi : e.1 = i := by have := List.find?_some he; simpa using this
  have h4 := zlc o _ (List.mem_map.mpr ⟨e, hm, rfl⟩)
  rw [hi, h2] at h4
  exact h4
def zan (k : Nat) : String := (["PackingHouse$Row", "PackingHouse$Block", "PackingHouse$Snapshot", "PackingHouse$Code", "PackingHouse$Kind", "PackingHouse$Shelf", "PackingHouse$Entry"].getD (k - 110) "")
def zCw (o : Nat) (e : Nat × Nat × Nat) : Cond := .classLink (zow o) e.1 (if e.2.1 = 0 then zan e.2.2 else zcn e.2.1)
theorem zcc0 : zckL ((zCC.getD 0 []).map (zCw 0)) [(1, 52), (1, 96), (1, 135), (1, 156), (1, 176), (1, 192), (2, 29), (2, 139), (2, 146), (2, 148), (2, 155), (2, 180), (2, 187), (2, 194), (2, 211), (2, 218), (3, 39), (3, 62), (3, 64), (3, 74), (3, 81), (3, 115), (3, 176), (3, 195), (4, 6), (6, 233)] = true := by decide +kernel
theorem zcc3 : zckL ((zCC.getD 3 []).map (zCw 3)) [(7, 24)] = true := by decide +kernel
theorem zcc7 : zckL ((zCC.getD 7 []).map (zCw 7)) [(1, 198)] = true := by decide +kernel
theorem zcc9 : zckL ((zCC.getD 9 []).map (zCw 9)) [(2, 38)] = true := by decide +kernel
theorem zcc18 : zckL ((zCC.getD 18 []).map (zCw 18)) [(2, 200), (2, 202), (7, 218)] = true := by decide +kernel
theorem zcc19 : zckL ((zCC.getD 19 []).map (zCw 19)) [(7, 187)] = true := by decide +kernel
theorem zcc20 : zckL ((zCC.getD 20 []).map (zCw 20)) [(2, 224), (2, 226)] = true := by decide +kernel
theorem zcc22 : zckL ((zCC.getD 22 []).map (zCw 22)) [(9, 91)] = true := by decide +kernel
theorem zcc24 : zckL ((zCC.getD 24 []).map (zCw 24)) [(9, 31)] = true := by decide +kernel
theorem zcc25 : zckL ((zCC.getD 25 []).map (zCw 25)) [(3, 87), (3, 89), (3, 91), (9, 54)] = true := by decide +kernel
theorem zcc26 : zckL ((zCC.getD 26 []).map (zCw 26)) [(3, 121), (9, 44)] = true := by decide +kernel
theorem zcc27 : zckL ((zCC.getD 27 []).map (zCw 27)) [(3, 128)] = true := by decide +kernel
theorem zcc28 : zckL ((zCC.getD 28 []).map (zCw 28)) [(9, 179)] = true := by decide +kernel
theorem zcc29 : zckL ((zCC.getD 29 []).map (zCw 29)) [(3, 201)] = true := by decide +kernel
theorem zcc30 : zckL ((zCC.getD 30 []).map (zCw 30)) [(4, 12), (4, 14)] = true := by decide +kernel
theorem zcc32 : zckL ((zCC.getD 32 []).map (zCw 32)) [(4, 42)] = true := by decide +kernel
theorem zcc43 : zckL ((zCC.getD 43 []).map (zCw 43)) [(1, 44), (10, 75)] = true := by decide +kernel
theorem zcc (o : Nat) : ∀ w ∈ (zCC.getD o []).map (zCw o), w ∈ lw_tbl := by
  match o with
  | 0 => exact zckL_in zcc0
  | 1 => exact fun w h => absurd h List.not_mem_nil
  | 2 => exact fun w h => absurd h List.not_mem_nil
  | 3 => exact zckL_in zcc3
  | 4 => exact fun w h => absurd h List.not_mem_nil
  | 5 => exact fun w h => absurd h List.not_mem_nil
  | 6 => exact fun w h => absurd h List.not_mem_nil
  | 7 => exact zckL_in zcc7
  | 8 => exact fun w h => absurd h List.not_mem_nil
  | 9 => exact zckL_in zcc9
  | 10 => exact fun w h => absurd h List.not_mem_nil
  | 11 => exact fun w h => absurd h List.not_mem_nil
  | 12 => exact fun w h => absurd h List.not_mem_nil
  | 13 => exact fun w h => absurd h List.not_mem_nil
  | 14 => exact fun w h => absurd h List.not_mem_nil
  | 15 => exact fun w h => absurd h List.not_mem_nil
  | 16 => exact fun w h => absurd h List.not_mem_nil
  | 17 => exact fun w h => absurd h List.not_mem_nil
  | 18 => exact zckL_in zcc18
  | 19 => exact zckL_in zcc19
  | 20 => exact zckL_in zcc20
  | 21 => exact fun w h => absurd h List.not_mem_nil
  | 22 => exact zckL_in zcc22
  | 23 => exact fun w h => absurd h List.not_mem_nil
  | 24 => exact zckL_in zcc24
  | 25 => exact zckL_in zcc25
  | 26 => exact zckL_in zcc26
  | 27 => exact zckL_in zcc27
  | 28 => exact zckL_in zcc28
  | 29 => exact zckL_in zcc29
  | 30 => exact zckL_in zcc30
  | 31 => exact fun w h => absurd h List.not_mem_nil
  | 32 => exact zckL_in zcc32
  | 33 => exact fun w h => absurd h List.not_mem_nil
  | 34 => exact fun w h => absurd h List.not_mem_nil
  | 35 => exact fun w h => absurd h List.not_mem_nil
  | 36 => exact fun w h => absurd h List.not_mem_nil
  | 37 => exact fun w h => absurd h List.not_mem_nil
  | 38 => exact fun w h => absurd h List.not_mem_nil
  | 39 => exact fun w h => absurd h List.not_mem_nil
  | 40 => exact fun w h => absurd h List.not_mem_nil
  | 41 => exact fun w h => absurd h List.not_mem_nil
  | 42 => exact fun w h => absurd h List.not_mem_nil
  | 43 => exact zckL_in zcc43
  | n + 44 => exact fun w h => absurd h (by simp [zCC])
theorem zccl_ok {o i k a : Nat} (h : zccl o i = some (k, a)) : zCw o (i, k, a) ∈ lw_tbl := by
  unfold zccl at h
  obtain ⟨e, he, h2⟩ := Option.map_eq_some_iff.mp h
  have hm := List.mem_of_find?_eq_some he
  have hi : e.1 = i := by have := List.find?_some he; simpa using this
  have h4 := zcc o _ (List.mem_map.mpr ⟨e, hm, rfl⟩)
  obtain ⟨e1, e2, e3⟩ := e
  simp only [Prod.mk.injEq] at h2
  obtain ⟨rfl, rfl⟩ := h2
  simp only at hi
  subst hi
  exact h4
theorem zK_big {r : Nat} (h : 1202 ≤ r) : zK r = 30 := by
  unfold zK
  rcases Nat.lt_or_ge r 1216 with h1 | h1
  · have h2 : (List.range 14).all (fun i => decide (((zKC.getD ((1202 + i) / 64) []).getD ((1202 + i) % 64) (30, 0)).1 = 30)) = true := by decide +kernel
    have h3 := List.all_eq_true.mp h2 (r - 1202) (List.mem_range.mpr (by omega))
    rw [show 1202 + (r - 1202) = r by omega] at h3
    simpa using h3
  · have h4 : zKC.length ≤ r / 64 := by
      have : zKC.length = 19 := rfl
      omega
    rw [List.getD_eq_getElem?_getD (l := zKC), List.getElem?_eq_none h4]
    rfl
/-- a word of kinds that holds of all refs -/
theorem zK_all (P : Nat → Nat → Bool) (h : (List.range 1202).all (fun r => P r (zK r)) = true) (r : Nat) : r < 1202 ∧ P r (zK r) = true ∨ 1202 ≤ r ∧ zK r = 30 := by
  rcases Nat.lt_or_ge r 1202 with h1 | h1
  · exact Or.inl ⟨h1, List.all_eq_true.mp h r (List.mem_range.mpr h1)⟩
  · exact Or.inr ⟨h1, zK_big h1⟩
def zkindP (r k : Nat) : Bool := (if r < 10 then (k == 0 || k == 105 || k == 106 || k == 107 || k == 40) else (1 ≤ k && k ≤ 31 && k != 30) || (101 ≤ k && k ≤ 104) || (110 ≤ k && k ≤ 116)) && (k != 105 || (2 ≤ r && r < 6)) && (k != 107 || r == 1)
theorem zkinds : (List.range 1202).all (fun r => zkindP r (zK r)) = true := by decide +kernel
theorem zK_cases (r : Nat) : (r < 10 ∧ (zK r = 0 ∨ zK r = 105 ∧ 2 ≤ r ∧ r < 6 ∨ zK r = 106 ∨ zK r = 107 ∧ r = 1 ∨ zK r = 40)) ∨ (10 ≤ r ∧ r < 1202 ∧ ((1 ≤ zK r ∧ zK r ≤ 31 ∧ zK r ≠ 30) ∨ (101 ≤ zK r ∧ zK r ≤ 104) ∨ (110 ≤ zK r ∧ zK r ≤ 116))) ∨ (1202 ≤ r ∧ zK r = 30) := by
  rcases zK_all zkindP zkinds r with ⟨h1, h2⟩ | h
  · rcases Nat.lt_or_ge r 10 with h3 | h3
    · refine Or.inl ⟨h3, ?_⟩
      simp [zkindP, h3] at h2
      omega
    · refine Or.inr (Or.inl ⟨h3, h1, ?_⟩)
      simp [zkindP, Nat.not_lt.mpr h3] at h2
      omega
  · exact Or.inr (Or.inr h)
/-- fields: types by tags, names apart -/
def zfty (k f : Nat) : FieldType := (parseFieldDescriptor (zT k f).2.2.1).getD .int
def ztyP (k f : Nat) : Bool := decide (parseFieldDescriptor (zT k f).2.2.1 = some (zfty k f)) && (match ztg k f with
  | 0 => decide (zfty k f = .int) && !(zT k f).2.2.2
  | 1 => decide (zfty k f = .long) && !(zT k f).2.2.2
  | 2 => fits (zfty k f) .null && !(zT k f).2.2.2
  | 3 => fits (zfty k f) .null && (zT k f).2.2.2
  | 4 => decide (zfty k f = .boolean) && !(zT k f).2.2.2
  | 5 => decide (zfty k f = .int) && (zT k f).2.2.2
  | _ => false)
theorem zty1 : (List.range (znf 1)).all (fun f => ztyP 1 f) = true := by decide +kernel
theorem znm1 : ((zcf 1).map (fun q => q.2.1)).Nodup := by decide +kernel
theorem zty2 : (List.range (znf 2)).all (fun f => ztyP 2 f) = true := by decide +kernel
theorem znm2 : ((zcf 2).map (fun q => q.2.1)).Nodup := by decide +kernel
theorem zty3 : (List.range (znf 3)).all (fun f => ztyP 3 f) = true := by decide +kernel
theorem znm3 : ((zcf 3).map (fun q => q.2.1)).Nodup := by decide +kernel
theorem zty4 : (List.range (znf 4)).all (fun f => ztyP 4 f) = true := by decide +kernel
theorem znm4 : ((zcf 4).map (fun q => q.2.1)).Nodup := by decide +kernel
theorem zty5 : (List.range (znf 5)).all (fun f => ztyP 5 f) = true := by decide +kernel
theorem znm5 : ((zcf 5).map (fun q => q.2.1)).Nodup := by decide +kernel
theorem zty6 : (List.range (znf 6)).all (fun f => ztyP 6 f) = true := by decide +kernel
theorem znm6 : ((zcf 6).map (fun q => q.2.1)).Nodup := by decide +kernel
theorem zty7 : (List.range (znf 7)).all (fun f => ztyP 7 f) = true := by decide +kernel
theorem znm7 : ((zcf 7).map (fun q => q.2.1)).Nodup := by decide +kernel
theorem zty8 : (List.range (znf 8)).all (fun f => ztyP 8 f) = true := by decide +kernel
theorem znm8 : ((zcf 8).map (fun q => q.2.1)).Nodup := by decide +kernel
theorem zty9 : (List.range (znf 9)).all (fun f => ztyP 9 f) = true := by decide +kernel
theorem znm9 : ((zcf 9).map (fun q => q.2.1)).Nodup := by decide +kernel
theorem zty10 : (List.range (znf 10)).all (fun f => ztyP 10 f) = true := by decide +kernel
theorem znm10 : ((zcf 10).map (fun q => q.2.1)).Nodup := by decide +kernel
theorem zty11 : (List.range (znf 11)).all (fun f => ztyP 11 f) = true := by decide +kernel
theorem znm11 : ((zcf 11).map (fun q => q.2.1)).Nodup := by decide +kernel
theorem zty12 : (List.range (znf 12)).all (fun f => ztyP 12 f) = true := by decide +kernel
theorem znm12 : ((zcf 12).map (fun q => q.2.1)).Nodup := by decide +kernel
theorem zty13 : (List.range (znf 13)).all (fun f => ztyP 13 f) = true := by decide +kernel
theorem znm13 : ((zcf 13).map (fun q => q.2.1)).Nodup := by decide +kernel
theorem zty14 : (List.range (znf 14)).all (fun f => ztyP 14 f) = true := by decide +kernel
theorem znm14 : ((zcf 14).map (fun q => q.2.1)).Nodup := by decide +kernel
theorem zty15 : (List.range (znf 15)).all (fun f => ztyP 15 f) = true := by decide +kernel
theorem znm15 : ((zcf 15).map (fun q => q.2.1)).Nodup := by decide +kernel
theorem zty16 : (List.range (znf 16)).all (fun f => ztyP 16 f) = true := by decide +kernel
theorem znm16 : ((zcf 16).map (fun q => q.2.1)).Nodup := by decide +kernel
theorem zty17 : (List.range (znf 17)).all (fun f => ztyP 17 f) = true := by decide +kernel
theorem znm17 : ((zcf 17).map (fun q => q.2.1)).Nodup := by decide +kernel
theorem zty18 : (List.range (znf 18)).all (fun f => ztyP 18 f) = true := by decide +kernel
theorem znm18 : ((zcf 18).map (fun q => q.2.1)).Nodup := by decide +kernel
theorem zty19 : (List.range (znf 19)).all (fun f => ztyP 19 f) = true := by decide +kernel
theorem znm19 : ((zcf 19).map (fun q => q.2.1)).Nodup := by decide +kernel
theorem zty20 : (List.range (znf 20)).all (fun f => ztyP 20 f) = true := by decide +kernel
theorem znm20 : ((zcf 20).map (fun q => q.2.1)).Nodup := by decide +kernel
theorem zty21 : (List.range (znf 21)).all (fun f => ztyP 21 f) = true := by decide +kernel
theorem znm21 : ((zcf 21).map (fun q => q.2.1)).Nodup := by decide +kernel
theorem zty22 : (List.range (znf 22)).all (fun f => ztyP 22 f) = true := by decide +kernel
theorem znm22 : ((zcf 22).map (fun q => q.2.1)).Nodup := by decide +kernel
theorem zty23 : (List.range (znf 23)).all (fun f => ztyP 23 f) = true := by decide +kernel
theorem znm23 : ((zcf 23).map (fun q => q.2.1)).Nodup := by decide +kernel
theorem zty24 : (List.range (znf 24)).all (fun f => ztyP 24 f) = true := by decide +kernel
theorem znm24 : ((zcf 24).map (fun q => q.2.1)).Nodup := by decide +kernel
theorem zty25 : (List.range (znf 25)).all (fun f => ztyP 25 f) = true := by decide +kernel
theorem znm25 : ((zcf 25).map (fun q => q.2.1)).Nodup := by decide +kernel
theorem zty26 : (List.range (znf 26)).all (fun f => ztyP 26 f) = true := by decide +kernel
theorem znm26 : ((zcf 26).map (fun q => q.2.1)).Nodup := by decide +kernel
theorem zty27 : (List.range (znf 27)).all (fun f => ztyP 27 f) = true := by decide +kernel
theorem znm27 : ((zcf 27).map (fun q => q.2.1)).Nodup := by decide +kernel
theorem zty28 : (List.range (znf 28)).all (fun f => ztyP 28 f) = true := by decide +kernel
theorem znm28 : ((zcf 28).map (fun q => q.2.1)).Nodup := by decide +kernel
theorem zty29 : (List.range (znf 29)).all (fun f => ztyP 29 f) = true := by decide +kernel
theorem znm29 : ((zcf 29).map (fun q => q.2.1)).Nodup := by decide +kernel
theorem zty30 : (List.range (znf 30)).all (fun f => ztyP 30 f) = true := by decide +kernel
theorem znm30 : ((zcf 30).map (fun q => q.2.1)).Nodup := by decide +kernel
theorem zty31 : (List.range (znf 31)).all (fun f => ztyP 31 f) = true := by decide +kernel
theorem znm31 : ((zcf 31).map (fun q => q.2.1)).Nodup := by decide +kernel
theorem zty {k f : Nat} (h1 : 1 ≤ k) (h2 : k ≤ 31) (hf : f < znf k) : ztyP k f = true := by
  have h : (List.range (znf k)).all (fun f => ztyP k f) = true := by
    match k, h1, h2 with
    | 1, _, _ => exact zty1
    | 2, _, _ => exact zty2
    | 3, _, _ => exact zty3
    | 4, _, _ => exact zty4
    | 5, _, _ => exact zty5
    | 6, _, _ => exact zty6
    | 7, _, _ => exact zty7
    | 8, _, _ => exact zty8
    | 9, _, _ => exact zty9
    | 10, _, _ => exact zty10
    | 11, _, _ => exact zty11
    | 12, _, _ => exact zty12
    | 13, _, _ => exact zty13
    | 14, _, _ => exact zty14
    | 15, _, _ => exact zty15
    | 16, _, _ => exact zty16
    | 17, _, _ => exact zty17
    | 18, _, _ => exact zty18
    | 19, _, _ => exact zty19
    | 20, _, _ => exact zty20
    | 21, _, _ => exact zty21
    | 22, _, _ => exact zty22
    | 23, _, _ => exact zty23
    | 24, _, _ => exact zty24
    | 25, _, _ => exact zty25
    | 26, _, _ => exact zty26
    | 27, _, _ => exact zty27
    | 28, _, _ => exact zty28
    | 29, _, _ => exact zty29
    | 30, _, _ => exact zty30
    | 31, _, _ => exact zty31
    | n + 32, _, h => exact absurd h (by omega)
  exact List.all_eq_true.mp h f (List.mem_range.mpr hf)
theorem znm {k : Nat} (h1 : 1 ≤ k) (h2 : k ≤ 31) : ((zcf k).map (fun q => q.2.1)).Nodup := by
  match k, h1, h2 with
  | 1, _, _ => exact znm1
  | 2, _, _ => exact znm2
  | 3, _, _ => exact znm3
  | 4, _, _ => exact znm4
  | 5, _, _ => exact znm5
  | 6, _, _ => exact znm6
  | 7, _, _ => exact znm7
  | 8, _, _ => exact znm8
  | 9, _, _ => exact znm9
  | 10, _, _ => exact znm10
  | 11, _, _ => exact znm11
  | 12, _, _ => exact znm12
  | 13, _, _ => exact znm13
  | 14, _, _ => exact znm14
  | 15, _, _ => exact znm15
  | 16, _, _ => exact znm16
  | 17, _, _ => exact znm17
  | 18, _, _ => exact znm18
  | 19, _, _ => exact znm19
  | 20, _, _ => exact znm20
  | 21, _, _ => exact znm21
  | 22, _, _ => exact znm22
  | 23, _, _ => exact znm23
  | 24, _, _ => exact znm24
  | 25, _, _ => exact znm25
  | 26, _, _ => exact znm26
  | 27, _, _ => exact znm27
  | 28, _, _ => exact znm28
  | 29, _, _ => exact znm29
  | 30, _, _ => exact znm30
  | 31, _, _ => exact znm31
  | n + 32, _, h => exact absurd h (by omega)

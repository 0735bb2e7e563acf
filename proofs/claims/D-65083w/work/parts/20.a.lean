/-! a long method's table is checked piece by piece -/
theorem zTv_cut {cc : ByteArray} {nL o : Nat} {ini : Bool} {t : zTb} {k C : Nat} (h1 : zTv cc nL o ini ((t.drop k).take C) = true) (h2 : zTv cc nL o ini (t.drop (k + C)) = true) : zTv cc nL o ini (t.drop k) = true := by
  have e : t.drop k = (t.drop k).take C ++ t.drop (k + C) := by
    rw [← List.drop_drop, List.take_append_drop]
  rw [e]
  unfold zTv at h1 h2 ⊢
  rw [List.all_append, h1, h2]
  rfl
theorem zTv_0 {cc : ByteArray} {nL o : Nat} {ini : Bool} {t : zTb} (h : zTv cc nL o ini (t.drop 0) = true) : zTv cc nL o ini t = true := by
  rw [List.drop_zero] at h
  exact h
theorem zq2 {w : Cond} {q : Nat × Nat} (h : (zcq q.1)[q.2]? = some w) : w ∈ lw_tbl := zcq_in (List.mem_of_getElem? h)

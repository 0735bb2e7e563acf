/-! PART 18: System.arraycopy -/
theorem zsI_o {σ : zS} {r : Nat} {f : Nat → Int32} (q : Nat) (h : q ≠ r) : zI σ q = zI (zsI σ r f) q ∧ zL σ q = zL (zsI σ r f) q ∧ zR σ q = zR (zsI σ r f) q :=
  ⟨by show σ.2.1 q = va_up σ.2.1 r _ q; unfold va_up; rw [if_neg h], rfl, rfl⟩
theorem zI_sI (σ : zS) (r : Nat) (f : Nat → Int32) : zI (zsI σ r f) r = f := by
  show va_up σ.2.1 r _ r = _
  unfold va_up; rw [if_pos rfl]
theorem zcp_nn (z : Int32) (hz : ¬ z < 0) : z.toInt = (z.toNatClampNeg : Int) := by
  have hz0 : (0 : Int) ≤ z.toInt := by
    have := Int32.not_lt.mp hz
    simpa using Int32.le_iff_toInt_le.mp this
  show z.toInt = ((z.toInt.toNat : Nat) : Int)
  omega
theorem zck_acopy {o fr lo : Nat} {ph : Bool} {i : Nat} (hfr : 1 ≤ fr) (hlo : 26 ≤ lo) (hl : Cond.methodLink (zow o) i arraycopyName ∈ lw_tbl) (hnat : Cond.native arraycopyName ∈ lw_tbl) (hstat : Cond.static arraycopyName ∈ lw_tbl) (hini : Cond.initialized "java/lang/System" ∈ lw_tbl) : zCk o fr lo ph (.invokestatic i) 5 (X_acopy ph) := by
  intro p l e s m args below meth c G n0 T locs σ as K E g rest hfl hx hW hKn hZz hown hX hR hP h1 h2 hXX hn hg hsize hmr hst hrest hdg
  obtain ⟨a, sp, b, dp, n, rfl⟩ := X_acopy_i hXX
  have hXX : X_acopy0 ph _ σ K E := hXX _ id
  unfold X_acopy0 at hXX
  obtain ⟨hXX, hal⟩ := zalo_i (ph := ph) (σ := σ) (a := a) hXX hP
  obtain ⟨⟨q1, q2, q3, q4, q5, q6, q7, hK⟩, hbl⟩ := zalo_i (ph := ph) (σ := σ) (a := b) hXX hP
  obtain ⟨a1, a2, a3⟩ := zK_arr (a := a) (by omega)
  obtain ⟨b1, b2, b3⟩ := zK_arr (a := b) (by omega)
  have hna := hal a3 a2
  have hnb := hbl b3 b2
  have hst' : g.stack = .int n :: .int dp :: .ref (zad G b) :: .int sp :: .ref (zad G a) :: rest := by
    rw [hst, List.map_cons, List.map_cons, List.map_cons, List.map_cons, List.map_cons, zva_ref G (by omega), zva_ref G (by omega)]; rfl
  have ca := zarr_c hR a1 hna (by omega)
  have cb := zarr_c hR b1 hnb (by omega)
  have hKa := hKn.2.1 (zK a) (by rcases q1 with h | h <;> (rw [show zK a = _ from (by first | exact h | exact h.1)]; rfl)) (by omega)
  obtain ⟨-, k0, hk0, cm0, hkk0⟩ := hKa.1 (zN a) (zav G σ a)
  obtain ⟨-, k1, hk1, cm1, hkk1⟩ := hKa.1 (zN b) (zav G σ b)
  rw [← q2] at hk1 hkk1
  have ea : zav G σ a = fun j => .int (zI σ a j) := by funext j; exact zav_i (by omega)
  have eb : zav G σ b = fun j => .int (zI σ b j) := by funext j; exact zav_i (by omega)
  obtain ⟨vm', X', step⟩ := hX.arraycopy hx hown (hW _ hl rfl args) (hW _ hnat rfl args) (hW _ hstat rfl args) (hW _ hini rfl args) (src := zad G a) (dst := zad G b) (srcPos := sp) (destPos := dp) (n := n) ca cb
    (fun _ h => by cases h) (fun _ h => by cases h) (fun h => by cases h) (fun h => by cases h) hk0 hk1 hkk0 hkk1 (by rw [q2]; rcases q1 with h | h <;> (rw [show zK a = _ from (by first | exact h | exact h.1)]; rfl)) q3 q4 q5
    (by rw [zcp_nn sp q3, zcp_nn n q5, arrV_size]; omega)
    (by rw [zcp_nn dp q4, zcp_nn n q5, arrV_size]; omega)
    (fun vm₁ _ i hi => by
      have e : (arrV (gA G (zK a)) (zN a) (zav G σ a)).slots.getD (sp.toNatClampNeg + i) .null = .int (zI σ a (sp.toNatClampNeg + i)) := by
        rw [Array.getD_eq_getD_getElem?, arrV_read _ _ (by omega), ea]
        rfl
      rw [e]
      refine ⟨?_, trivial⟩
      rw [q2]
      rcases q1 with h | h
      · rw [h]; rfl
      · rw [h.1]
        obtain ⟨w1, w2⟩ := h.2 i hi
        show (decide (-128 ≤ _) && decide (_ ≤ 127)) = true
        rw [decide_eq_true w1, decide_eq_true w2]; rfl)
    hg hsize hst' hdg hfr (by rw [hmr]; show 2 * 0 + _ + (7 + 11) ≤ lo; omega)
  have e1 : copied (arrV (gA G (zK a)) (zN a) (zav G σ a)) (arrV (gA G (zK b)) (zN b) (zav G σ b)) sp dp n = arrV (gA G (zK b)) (zN b) (fun j => .int (va_cpy (zI σ a) (zI σ b) sp.toNatClampNeg dp.toNatClampNeg n.toNatClampNeg j)) := by
    rw [ea, eb]
    exact va_copied (fun z => .int z) _ _ _ _ q6
  rw [e1] at X' step
  have hl : zad G b < T.heap.size := (Array.getElem?_eq_some_iff.mp cb).1
  refine ⟨.returned none, zsI σ b (va_cpy (zI σ a) (zI σ b) sp.toNatClampNeg dp.toNatClampNeg n.toNatClampNeg), _, _, ⟨none, rfl, hK⟩, ?_, hP, ?_, h1, h2, X', step _ (Steps.refl _)⟩
  · refine zRel_w hR b1 rfl ?_ (fun q hq => ?_) (fun q hq => zsI_o q hq) ⟨fun _ => ?_, fun h => absurd (by omega) h⟩
    · show (T.heap.setIfInBounds _ _).size = _; simp
    · show (T.heap.setIfInBounds _ _)[q]? = _; simp [Array.getElem?_setIfInBounds, Ne.symm hq]
    · show (T.heap.setIfInBounds _ _)[zad G b]? = _
      rw [show (zav G (zsI σ b (va_cpy (zI σ a) (zI σ b) sp.toNatClampNeg dp.toNatClampNeg n.toNatClampNeg)) b) = fun j => .int (va_cpy (zI σ a) (zI σ b) sp.toNatClampNeg dp.toNatClampNeg n.toNatClampNeg j) from funext fun j => by rw [zav_i (by omega), zI_sI]]
      simp [Array.getElem?_setIfInBounds, hl]
  · intro q hq
    obtain ⟨z, -, hz⟩ := List.mem_map.mp hq
    rw [← hz]
    exact zad_ge b1

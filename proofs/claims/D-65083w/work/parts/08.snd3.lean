/-! PART 08: soundness of the instructions that read and write cells -/
theorem zalk_i {ph : Bool} {σ : zS} {a k : Nat} {P : Prop} (h : zalk ph σ a k P) (hP : zPh ph σ) (h1 : 1 ≤ k) (h2 : k ≤ 31) : zK a = k ∧ 10 ≤ a ∧ a < zn σ ∧ P := by
  have key : zK a = k → 10 ≤ a ∧ (k ≠ 30 → a < 1202) := by
    intro e
    rcases zK_cases a with ⟨_, c⟩ | ⟨c1, c2, _⟩ | ⟨c1, c2⟩
    · omega
    · exact ⟨c1, fun _ => c2⟩
    · exact ⟨by omega, fun c3 => absurd (e.symm.trans c2) c3⟩
  unfold zalk at h
  cases hb : ph && !(k == 30) with
  | false =>
    rw [hb] at h
    exact ⟨h.1, (key h.1).1, h.2.1, h.2.2⟩
  | true =>
    rw [hb] at h
    simp only [Bool.and_eq_true, Bool.not_eq_true', beq_eq_false_iff_ne, ne_eq] at hb
    have := (hP hb.1).1
    have h3 := (key h.1).2 hb.2
    exact ⟨h.1, (key h.1).1, by unfold zEnd at this; omega, h.2⟩
theorem zalo_i {ph : Bool} {σ : zS} {a : Nat} {P : Prop} (h : zalo ph σ a P) (hP : zPh ph σ) : P ∧ (zK a ≠ 30 → a < 1202 → a < zn σ) := by
  cases ph with
  | false => exact ⟨h.2, fun _ _ => h.1⟩
  | true =>
    refine ⟨h, fun _ h2 => ?_⟩
    have := (hP rfl).1
    unfold zEnd at this; omega
/-- arrays that the law's run has made -/
theorem zK_arr {a : Nat} (h : (101 ≤ zK a ∧ zK a ≤ 104) ∨ zK a / 10 = 11) : 10 ≤ a ∧ a < 1202 ∧ zK a ≠ 30 := by
  rcases zK_cases a with ⟨_, c⟩ | ⟨c1, c2, c3⟩ | ⟨c1, c2⟩ <;> omega
theorem zfv_e {ph : Bool} {σ : zS} {k f a : Nat} (hP : zPh ph σ) (ha : 10 ≤ a) (hk : zK a = k) : zfv ph σ k f a = zfv false σ k f a := by
  unfold zfv
  by_cases h3 : ztg k f = 3
  · rw [h3]
    cases ph with
    | false => rfl
    | true =>
      have h30 : k ≠ 30 := by
        intro e; subst e
        have : ∀ f, ztg 30 f ≠ 3 := by
          intro f
          match f with
          | 0 => decide
          | 1 => decide
          | 2 => decide
          | n + 3 => simp [ztg, zCT]
        exact this f h3
      have hlt : a < zEnd := by
        rcases zK_cases a with ⟨_, c⟩ | ⟨c1, c2, _⟩ | ⟨c1, c2⟩
        · omega
        · exact c2
        · exact absurd (hk.symm.trans c2) h30
      have := (hP rfl).2 a f ha hlt (by rw [hk]; exact h3)
      rw [hk] at this
      simp only [this]
  · split <;> first | rfl | (rename_i h; exact absurd h h3)
section ZT
variable {p : Program} {l : Launch} {e : Env} {R : Room} {s : State} {m : MethodId} {args : Array Value} {below : List Frame} {meth : Method} {c : Code} {nL : Nat} {G : zG} {ph : Bool} {n0 : Nat} {Q : State → Prop} {cc : ByteArray}
theorem zwI_o {σ : zS} {r i : Nat} {v : Int32} (q : Nat) (h : q ≠ r) : zI σ q = zI (zwI σ r i v) q ∧ zL σ q = zL (zwI σ r i v) q ∧ zR σ q = zR (zwI σ r i v) q :=
  ⟨by show σ.2.1 q = va_up σ.2.1 r _ q; unfold va_up; rw [if_neg h], rfl, rfl⟩
theorem zwL_o {σ : zS} {r i : Nat} {v : Int64} (q : Nat) (h : q ≠ r) : zI σ q = zI (zwL σ r i v) q ∧ zL σ q = zL (zwL σ r i v) q ∧ zR σ q = zR (zwL σ r i v) q :=
  ⟨rfl, by show σ.2.2.1 q = va_up σ.2.2.1 r _ q; unfold va_up; rw [if_neg h], rfl⟩
theorem zwR_o {σ : zS} {r i : Nat} {v : Nat} (q : Nat) (h : q ≠ r) : zI σ q = zI (zwR σ r i v) q ∧ zL σ q = zL (zwR σ r i v) q ∧ zR σ q = zR (zwR σ r i v) q :=
  ⟨rfl, rfl, by show σ.2.2.2 q = va_up σ.2.2.2 r _ q; unfold va_up; rw [if_neg h]⟩
theorem zI_wI (σ : zS) (r i : Nat) (v : Int32) : zI (zwI σ r i v) r = va_up (zI σ r) i v := by
  show va_up σ.2.1 r _ r = _
  unfold va_up; rw [if_pos rfl]
theorem zL_wL (σ : zS) (r i : Nat) (v : Int64) : zL (zwL σ r i v) r = va_up (zL σ r) i v := by
  show va_up σ.2.2.1 r _ r = _
  unfold va_up; rw [if_pos rfl]
theorem zR_wR (σ : zS) (r i : Nat) (v : Nat) : zR (zwR σ r i v) r = va_up (zR σ r) i v := by
  show va_up σ.2.2.2 r _ r = _
  unfold va_up; rw [if_pos rfl]
theorem zPh_wI {σ : zS} {r i : Nat} {v : Int32} (h : zPh ph σ) : zPh ph (zwI σ r i v) := h
theorem zPh_wL {σ : zS} {r i : Nat} {v : Int64} (h : zPh ph σ) : zPh ph (zwL σ r i v) := h
/-- the cell of an array -/
theorem zarr_c {σ : zS} {H : Heap} {a : Nat} (hR : zRel G s σ H) (h10 : 10 ≤ a) (hn : a < zn σ) (hk : 101 ≤ zK a) : H[zad G a]? = some (arrV (gA G (zK a)) (zN a) (zav G σ a)) := (hR.2.2.1 a h10 hn).1 hk
theorem zin_c {cA : ClassId} {j : Int32} {n : Nat} {f : Nat → Value} (h : vp_in j n) : ¬ (j < 0 ∨ (arrV cA n f).slots.size ≤ j.toNatClampNeg) := by rw [arrV_size]; exact h
theorem zin_lt {j : Int32} {n : Nat} (h : vp_in j n) : j.toNatClampNeg < n := Nat.lt_of_not_le fun h2 => h (Or.inr h2)
theorem zvm_c {cA : ClassId} {n : Nat} {f : Nat → Value} : (arrV cA n f).vm ≠ .unknown := fun h => by cases h
theorem zav_i {σ : zS} {a j : Nat} (h : zK a = 101 ∨ zK a = 102 ∨ zK a = 103) : zav G σ a j = .int (zI σ a j) := by
  unfold zav; rw [if_neg (by omega), if_neg (by omega)]
theorem zav_l {σ : zS} {a j : Nat} (h : zK a = 104) : zav G σ a j = .long (zL σ a j) := by
  unfold zav; rw [if_pos h]
theorem zav_r {σ : zS} {a j : Nat} (h : zK a / 10 = 11) : zav G σ a j = zva G (.ref (zR σ a j)) := by
  unfold zav; rw [if_neg (by omega), if_pos h]
theorem zs_iald (hx : p.tables.exec = Jvm.exec) (hb : c.code = cc) (hKn : zKn G s) {pc : Nat} {ls : zLs} {r : List Value} {σ : zS} {a : Nat} {j : Int32} (hd : decode cc pc = .ok (.iaload, 1))
    (h : zalo ph σ a ((zK a = 102 ∨ zK a = 105) ∧ vp_in j (zN a) ∧ zJ p l e R s m args below meth c nL G ph n0 Q (pc + 1) ls (.int (zI σ a j.toNatClampNeg) :: r) σ)) : zJ p l e R s m args below meth c nL G ph n0 Q pc ls (.int j :: .ref a :: r) σ := by
  intro lsc H locs a1 a2 a3 a4 a5 a6
  obtain ⟨⟨hk, hin, h⟩, hal⟩ := zalo_i h a3
  rcases hk with hk | hk
  · obtain ⟨b1, b2, b3⟩ := zK_arr (a := a) (by omega)
    have hn := hal b3 b2
    show W p l e R s m args below meth c H locs _ _ Q (F0 m pc lsc (.int j :: zva G (.ref a) :: r.map (zva G)))
    rw [zva_ref G (by omega)]
    refine W.iald hx hb (zarr_c a2 b1 hn (by omega)) (by rw [hk]; exact (hKn.2.1 102 rfl (by decide)).1 _ _) zvm_c (zin_c hin) (v := .int (zI σ a j.toNatClampNeg)) ?_ rfl rfl hd (h lsc H locs a1 a2 a3 a4 a5 a6)
    rw [arrV_read _ _ (zin_lt hin), zav_i (by omega)]
  · have hc : 2 ≤ a ∧ a < 6 := by rcases zK_cases a with ⟨_, c⟩ | ⟨c1, c2, c3⟩ | ⟨c1, c2⟩ <;> omega
    obtain ⟨x1, cell, x2, x3, x4, x5, x6⟩ := a2.2.2.2.1 a (by omega) hc.2
    rw [if_neg (by omega)] at x5 x6
    show W p l e R s m args below meth c H locs _ _ Q (F0 m pc lsc (.int j :: zva G (.ref a) :: r.map (zva G)))
    rw [zva_ref G (by omega)]
    have hza : zad G a = gX G a := by unfold zad; rw [if_pos (by omega)]
    rw [hza]
    exact W.iald hx hb x2 x3 x4 (fun q => q.elim (fun q => hin (Or.inl q)) (fun q => hin (Or.inr (Nat.le_trans x5.1 q)))) (x6 _ (zin_lt hin)) rfl rfl hd (h lsc H locs a1 a2 a3 a4 a5 a6)
theorem zs_sald (hx : p.tables.exec = Jvm.exec) (hb : c.code = cc) {pc : Nat} {ls : zLs} {r : List Value} {σ : zS} {a : Nat} {j : Int32} (hd : decode cc pc = .ok (.iaload, 1))
    (h : zK a = 107 ∧ vp_in j (zI σ 0 0).toNatClampNeg ∧ zJ p l e R s m args below meth c nL G ph n0 Q (pc + 1) ls (.int (zI σ 1 j.toNatClampNeg) :: r) σ) : zJ p l e R s m args below meth c nL G ph n0 Q pc ls (.int j :: .ref a :: r) σ := by
  intro lsc H locs a1 a2 a3 a4 a5 a6
  obtain ⟨hk, hin, h⟩ := h
  have hc : a = 1 := by rcases zK_cases a with ⟨_, c⟩ | ⟨c1, c2, c3⟩ | ⟨c1, c2⟩ <;> omega
  subst hc
  obtain ⟨x1, cell, x2, x3, x4, x5, x6⟩ := a2.2.2.2.1 1 (by omega) (by omega)
  rw [if_pos rfl] at x5 x6
  show W p l e R s m args below meth c H locs _ _ Q (F0 m pc lsc (.int j :: .ref (gX G 1) :: r.map (zva G)))
  exact W.iald hx hb x2 x3 x4 (fun q => q.elim (fun q => hin (Or.inl q)) (fun q => hin (Or.inr (Nat.le_trans x5.1 q)))) (x6 _ (zin_lt hin)) rfl rfl hd (h lsc H locs a1 a2 a3 a4 a5 a6)
theorem zs_bald (hx : p.tables.exec = Jvm.exec) (hb : c.code = cc) (hKn : zKn G s) {pc : Nat} {ls : zLs} {r : List Value} {σ : zS} {a : Nat} {j : Int32} (hd : decode cc pc = .ok (.baload, 1))
    (h : zalo ph σ a ((zK a = 101 ∨ zK a = 103) ∧ vp_in j (zN a) ∧ zJ p l e R s m args below meth c nL G ph n0 Q (pc + 1) ls (.int (zI σ a j.toNatClampNeg) :: r) σ)) : zJ p l e R s m args below meth c nL G ph n0 Q pc ls (.int j :: .ref a :: r) σ := by
  intro lsc H locs a1 a2 a3 a4 a5 a6
  obtain ⟨⟨hk, hin, h⟩, hal⟩ := zalo_i h a3
  obtain ⟨b1, b2, b3⟩ := zK_arr (a := a) (by omega)
  have hn := hal b3 b2
  show W p l e R s m args below meth c H locs _ _ Q (F0 m pc lsc (.int j :: zva G (.ref a) :: r.map (zva G)))
  rw [zva_ref G (by omega)]
  have hv : (arrV (gA G (zK a)) (zN a) (zav G σ a)).slots[j.toNatClampNeg]? = some (.int (zI σ a j.toNatClampNeg)) := by rw [arrV_read _ _ (zin_lt hin), zav_i (by omega)]
  rcases hk with hk | hk
  · exact W.bald hx hb (zarr_c a2 b1 hn (by omega)) (by rw [hk]; exact (hKn.2.1 101 rfl (by decide)).1 _ _) zvm_c (zin_c hin) hv rfl rfl hd (h lsc H locs a1 a2 a3 a4 a5 a6)
  · exact W.zald hx hb (zarr_c a2 b1 hn (by omega)) (by rw [hk]; exact (hKn.2.1 103 rfl (by decide)).1 _ _) zvm_c (zin_c hin) hv rfl rfl hd (h lsc H locs a1 a2 a3 a4 a5 a6)
theorem zs_lald (hx : p.tables.exec = Jvm.exec) (hb : c.code = cc) (hKn : zKn G s) {pc : Nat} {ls : zLs} {r : List Value} {σ : zS} {a : Nat} {j : Int32} (hd : decode cc pc = .ok (.laload, 1))
    (h : zalo ph σ a (zK a = 104 ∧ vp_in j (zN a) ∧ zJ p l e R s m args below meth c nL G ph n0 Q (pc + 1) ls (.long (zL σ a j.toNatClampNeg) :: r) σ)) : zJ p l e R s m args below meth c nL G ph n0 Q pc ls (.int j :: .ref a :: r) σ := by
  intro lsc H locs a1 a2 a3 a4 a5 a6
  obtain ⟨⟨hk, hin, h⟩, hal⟩ := zalo_i h a3
  obtain ⟨b1, b2, b3⟩ := zK_arr (a := a) (by omega)
  have hn := hal b3 b2
  show W p l e R s m args below meth c H locs _ _ Q (F0 m pc lsc (.int j :: zva G (.ref a) :: r.map (zva G)))
  rw [zva_ref G (by omega)]
  refine W.lald hx hb (zarr_c a2 b1 hn (by omega)) (by rw [hk]; exact (hKn.2.1 104 rfl (by decide)).1 _ _) zvm_c (zin_c hin) (v := .long (zL σ a j.toNatClampNeg)) ?_ rfl rfl hd (h lsc H locs a1 a2 a3 a4 a5 a6)
  rw [arrV_read _ _ (zin_lt hin), zav_l hk]
theorem zaty_r {k : Nat} (h : k / 10 = 11) : zaty k = .object (zan k) := by
  unfold zaty
  split <;> first | omega | rfl
theorem zarr_r {a : Nat} (h : zK a / 10 = 11) : zarr (zK a) = true ∧ zK a ≠ 105 := by
  have : 110 ≤ zK a ∧ zK a ≤ 116 := by rcases zK_cases a with ⟨_, c⟩ | ⟨c1, c2, c3⟩ | ⟨c1, c2⟩ <;> omega
  refine ⟨?_, by omega⟩
  unfold zarr
  simp
  omega
theorem zs_aald (hx : p.tables.exec = Jvm.exec) (hb : c.code = cc) (hKn : zKn G s) {pc : Nat} {ls : zLs} {r : List Value} {σ : zS} {a : Nat} {j : Int32} (hd : decode cc pc = .ok (.aaload, 1))
    (h : zalo ph σ a (zK a / 10 = 11 ∧ vp_in j (zN a) ∧ zJ p l e R s m args below meth c nL G ph n0 Q (pc + 1) ls (.ref (zR σ a j.toNatClampNeg) :: r) σ)) : zJ p l e R s m args below meth c nL G ph n0 Q pc ls (.int j :: .ref a :: r) σ := by
  intro lsc H locs a1 a2 a3 a4 a5 a6
  obtain ⟨⟨hk, hin, h⟩, hal⟩ := zalo_i h a3
  obtain ⟨b1, b2, b3⟩ := zK_arr (a := a) (by omega)
  have hn := hal b3 b2
  show W p l e R s m args below meth c H locs _ _ Q (F0 m pc lsc (.int j :: zva G (.ref a) :: r.map (zva G)))
  rw [zva_ref G (by omega)]
  obtain ⟨c1, c2⟩ := zarr_r hk
  refine W.aald hx hb (zarr_c a2 b1 hn (by omega)) ((hKn.2.1 _ c1 c2).1 _ _) (by rw [zaty_r hk]; rfl) zvm_c (zin_c hin) (v := zva G (.ref (zR σ a j.toNatClampNeg))) ?_ rfl rfl hd (h lsc H locs a1 a2 a3 a4 a5 a6)
  rw [arrV_read _ _ (zin_lt hin), zav_r hk]
theorem zs_alen (hx : p.tables.exec = Jvm.exec) (hb : c.code = cc) (hKn : zKn G s) {pc : Nat} {ls : zLs} {r : List Value} {σ : zS} {a : Nat} (hd : decode cc pc = .ok (.arraylength, 1))
    (h : zalo ph σ a (zarr (zK a) = true ∧ zJ p l e R s m args below meth c nL G ph n0 Q (pc + 1) ls (.int (nI (zN a)) :: r) σ)) : zJ p l e R s m args below meth c nL G ph n0 Q pc ls (.ref a :: r) σ := by
  intro lsc H locs a1 a2 a3 a4 a5 a6
  obtain ⟨⟨hk, h⟩, hal⟩ := zalo_i h a3
  by_cases h5 : zK a = 105
  · have hc : 2 ≤ a ∧ a < 6 := by rcases zK_cases a with ⟨_, c⟩ | ⟨c1, c2, c3⟩ | ⟨c1, c2⟩ <;> omega
    obtain ⟨x1, cell, x2, x3, x4, x5, x6⟩ := a2.2.2.2.1 a (by omega) hc.2
    rw [if_neg (by omega)] at x5 x6
    show W p l e R s m args below meth c H locs _ _ Q (F0 m pc lsc (zva G (.ref a) :: r.map (zva G)))
    rw [zva_ref G (by omega)]
    have hza : zad G a = gX G a := by unfold zad; rw [if_pos (by omega)]
    rw [hza]
    exact W.alen hx hb x2 x3 (n := nI (zN a)) x5.2 rfl rfl hd (h lsc H locs a1 a2 a3 a4 a5 a6)
  · have hk2 : (101 ≤ zK a ∧ zK a ≤ 104) ∨ zK a / 10 = 11 := by
      unfold zarr at hk
      simp at hk
      omega
    obtain ⟨b1, b2, b3⟩ := zK_arr hk2
    have hn := hal b3 b2
    show W p l e R s m args below meth c H locs _ _ Q (F0 m pc lsc (zva G (.ref a) :: r.map (zva G)))
    rw [zva_ref G (by omega)]
    exact W.alen hx hb (zarr_c a2 b1 hn (by omega)) ((hKn.2.1 _ hk h5).1 _ _) (n := nI (zN a)) (by rw [arrV_size]; rfl) rfl rfl hd (h lsc H locs a1 a2 a3 a4 a5 a6)
theorem zs_slen (hx : p.tables.exec = Jvm.exec) (hb : c.code = cc) {pc : Nat} {ls : zLs} {r : List Value} {σ : zS} {a : Nat} (hd : decode cc pc = .ok (.arraylength, 1))
    (h : zK a = 107 ∧ ¬ zI σ 0 0 < 0 ∧ zJ p l e R s m args below meth c nL G ph n0 Q (pc + 1) ls (.int (zI σ 0 0) :: r) σ) : zJ p l e R s m args below meth c nL G ph n0 Q pc ls (.ref a :: r) σ := by
  intro lsc H locs a1 a2 a3 a4 a5 a6
  obtain ⟨hk, h0, h⟩ := h
  have hc : a = 1 := by rcases zK_cases a with ⟨_, c⟩ | ⟨c1, c2, c3⟩ | ⟨c1, c2⟩ <;> omega
  subst hc
  obtain ⟨x1, cell, x2, x3, x4, x5, x6⟩ := a2.2.2.2.1 1 (by omega) (by omega)
  rw [if_pos rfl] at x5 x6
  show W p l e R s m args below meth c H locs _ _ Q (F0 m pc lsc (.ref (gX G 1) :: r.map (zva G)))
  refine W.alen hx hb x2 x3 (n := zI σ 0 0) ?_ rfl rfl hd (h lsc H locs a1 a2 a3 a4 a5 a6)
  rw [x5.2]
  obtain ⟨j, j1, j2⟩ := nI_of (x := zI σ 0 0) h0
  rw [j2, nI_clamp j1]
  rfl
end ZT

/-! PART 09: soundness of writes and of what is made -/
section ZU
variable {p : Program} {l : Launch} {e : Env} {R : Room} {s : State} {m : MethodId} {args : Array Value} {below : List Frame} {meth : Method} {c : Code} {nL : Nat} {G : zG} {ph : Bool} {n0 : Nat} {Q : State → Prop} {cc : ByteArray}
theorem zlocs {locs : List Loc} {a i : Nat} (h : ∀ q ∈ locs, g0 G ≤ q.base) (ha : 10 ≤ a) : ∀ q ∈ locs ++ [(⟨zad G a, i⟩ : Loc)], g0 G ≤ q.base := by
  intro q hq
  rcases List.mem_append.mp hq with h1 | h1
  · exact h q h1
  · rw [List.mem_singleton] at h1
    subst h1
    exact zad_ge ha
/-- a place of an array is written -/
theorem zRel_a {σ τ : zS} {H H' : Heap} {a j : Nat} {v : Value} (hR : zRel G s σ H) (h10 : 10 ≤ a) (hn : a < zn σ) (hk : 101 ≤ zK a) (hnn : zn τ = zn σ) (he : ∀ q, q ≠ a → zI σ q = zI τ q ∧ zL σ q = zL τ q ∧ zR σ q = zR τ q)
    (hv : ∀ i, zav G τ a i = updV (zav G σ a) j v i) (e1 : H'[zad G a]? = some ((arrV (gA G (zK a)) (zN a) (zav G σ a)).setSlot j v)) (e2 : H'.size = H.size) (e3 : ∀ q, q ≠ zad G a → H'[q]? = H[q]?) : zRel G s τ H' := by
  refine zRel_w hR h10 hnn e2 e3 he ⟨fun _ => ?_, fun h => absurd hk h⟩
  rw [e1, arrV_store]
  congr 2
  funext i
  exact (hv i).symm
theorem zav_wI {σ : zS} {a j : Nat} {x : Int32} (h : zK a = 101 ∨ zK a = 102 ∨ zK a = 103) (i : Nat) : zav G (zwI σ a j x) a i = updV (zav G σ a) j (.int x) i := by
  rw [zav_i h, zI_wI]
  unfold va_up updV
  by_cases e : i = j
  · rw [if_pos e, if_pos e]
  · rw [if_neg e, if_neg e, zav_i h]
theorem zav_wL {σ : zS} {a j : Nat} {x : Int64} (h : zK a = 104) (i : Nat) : zav G (zwL σ a j x) a i = updV (zav G σ a) j (.long x) i := by
  rw [zav_l h, zL_wL]
  unfold va_up updV
  by_cases e : i = j
  · rw [if_pos e, if_pos e]
  · rw [if_neg e, if_neg e, zav_l h]
theorem zav_wR {σ : zS} {a j : Nat} {x : Nat} (h : zK a / 10 = 11) (i : Nat) : zav G (zwR σ a j x) a i = updV (zav G σ a) j (zva G (.ref x)) i := by
  rw [zav_r h, zR_wR]
  unfold va_up updV
  by_cases e : i = j
  · rw [if_pos e, if_pos e]
  · rw [if_neg e, if_neg e, zav_r h]
theorem zs_iast (hx : p.tables.exec = Jvm.exec) (hb : c.code = cc) (hKn : zKn G s) {pc : Nat} {ls : zLs} {r : List Value} {σ : zS} {a : Nat} {j x : Int32} (hd : decode cc pc = .ok (.iastore, 1))
    (h : zalo ph σ a (zK a = 102 ∧ vp_in j (zN a) ∧ zJ p l e R s m args below meth c nL G ph n0 Q (pc + 1) ls r (zwI σ a j.toNatClampNeg x))) : zJ p l e R s m args below meth c nL G ph n0 Q pc ls (.int x :: .int j :: .ref a :: r) σ := by
  intro lsc H locs a1 a2 a3 a4 a5 a6
  obtain ⟨⟨hk, hin, h⟩, hal⟩ := zalo_i h a3
  obtain ⟨b1, b2, b3⟩ := zK_arr (a := a) (by omega)
  have hn := hal b3 b2
  show W p l e R s m args below meth c H locs _ _ Q (F0 m pc lsc (.int x :: .int j :: zva G (.ref a) :: r.map (zva G)))
  rw [zva_ref G (by omega)]
  refine W.iast hx hb (zarr_c a2 b1 hn (by omega)) (by rw [hk]; exact (hKn.2.1 102 rfl (by decide)).1 _ _) zvm_c (zin_c hin) rfl rfl hd fun H' e1 e2 e3 => ?_
  exact h lsc H' _ a1 (zRel_a a2 b1 hn (by omega) rfl zwI_o (zav_wI (by omega)) e1 e2 e3) (zPh_wI a3) (zlocs a4 b1) a5 a6
theorem zs_bast (hx : p.tables.exec = Jvm.exec) (hb : c.code = cc) (hKn : zKn G s) {pc : Nat} {ls : zLs} {r : List Value} {σ : zS} {a : Nat} {j x : Int32} (hd : decode cc pc = .ok (.bastore, 1))
    (h : zalo ph σ a ((zK a = 101 ∨ zK a = 103) ∧ vp_in j (zN a) ∧ zJ p l e R s m args below meth c nL G ph n0 Q (pc + 1) ls r (zwI σ a j.toNatClampNeg (zbv a x)))) : zJ p l e R s m args below meth c nL G ph n0 Q pc ls (.int x :: .int j :: .ref a :: r) σ := by
  intro lsc H locs a1 a2 a3 a4 a5 a6
  obtain ⟨⟨hk, hin, h⟩, hal⟩ := zalo_i h a3
  obtain ⟨b1, b2, b3⟩ := zK_arr (a := a) (by omega)
  have hn := hal b3 b2
  show W p l e R s m args below meth c H locs _ _ Q (F0 m pc lsc (.int x :: .int j :: zva G (.ref a) :: r.map (zva G)))
  rw [zva_ref G (by omega)]
  rcases hk with hk | hk
  · refine W.bast hx hb (zarr_c a2 b1 hn (by omega)) (by rw [hk]; exact (hKn.2.1 101 rfl (by decide)).1 _ _) zvm_c (zin_c hin) rfl rfl hd fun H' e1 e2 e3 => ?_
    have hv : narrow .byte (.int x) = .int (zbv a x) := by unfold zbv; rw [if_neg (by omega)]; rfl
    rw [hv] at e1
    exact h lsc H' _ a1 (zRel_a a2 b1 hn (by omega) rfl zwI_o (zav_wI (by omega)) e1 e2 e3) (zPh_wI a3) (zlocs a4 b1) a5 a6
  · refine W.zast hx hb (zarr_c a2 b1 hn (by omega)) (by rw [hk]; exact (hKn.2.1 103 rfl (by decide)).1 _ _) zvm_c (zin_c hin) rfl rfl hd fun H' e1 e2 e3 => ?_
    have hv : narrow .boolean (.int x) = .int (zbv a x) := by unfold zbv; rw [if_pos hk]; rfl
    rw [hv] at e1
    exact h lsc H' _ a1 (zRel_a a2 b1 hn (by omega) rfl zwI_o (zav_wI (by omega)) e1 e2 e3) (zPh_wI a3) (zlocs a4 b1) a5 a6
theorem zs_last (hx : p.tables.exec = Jvm.exec) (hb : c.code = cc) (hKn : zKn G s) {pc : Nat} {ls : zLs} {r : List Value} {σ : zS} {a : Nat} {j : Int32} {x : Int64} (hd : decode cc pc = .ok (.lastore, 1))
    (h : zalo ph σ a (zK a = 104 ∧ vp_in j (zN a) ∧ zJ p l e R s m args below meth c nL G ph n0 Q (pc + 1) ls r (zwL σ a j.toNatClampNeg x))) : zJ p l e R s m args below meth c nL G ph n0 Q pc ls (.long x :: .int j :: .ref a :: r) σ := by
  intro lsc H locs a1 a2 a3 a4 a5 a6
  obtain ⟨⟨hk, hin, h⟩, hal⟩ := zalo_i h a3
  obtain ⟨b1, b2, b3⟩ := zK_arr (a := a) (by omega)
  have hn := hal b3 b2
  show W p l e R s m args below meth c H locs _ _ Q (F0 m pc lsc (.long x :: .int j :: zva G (.ref a) :: r.map (zva G)))
  rw [zva_ref G (by omega)]
  refine W.last hx hb (zarr_c a2 b1 hn (by omega)) (by rw [hk]; exact (hKn.2.1 104 rfl (by decide)).1 _ _) zvm_c (zin_c hin) rfl rfl hd fun H' e1 e2 e3 => ?_
  exact h lsc H' _ a1 (zRel_a a2 b1 hn (by omega) rfl zwL_o (zav_wL hk) e1 e2 e3) (zPh_wL a3) (zlocs a4 b1) a5 a6
/-- what may stand in an array of references -/
def zacP : Bool := (List.range 7).all (fun i => (List.range 32).all (fun b => !(zac (110 + i) b) || b == 0 || (decide (zcn b = zan (110 + i)) || decide (Cond.castable (zcn b) (zan (110 + i)) ∈ tables_1_15) || decide (Cond.castable (zcn b) (zan (110 + i)) ∈ tables_1_14))))
theorem zacOK : zacP = true := by decide +kernel
theorem zac_ok {a b : Nat} (ha : a / 10 = 11) (h : zac a b = true) (hb : b ≠ 0) : 1 ≤ b ∧ b ≤ 31 ∧ b ≠ 30 ∧ (zcn b = zan a ∨ Cond.castable (zcn b) (zan a) ∈ lw_tbl) := by
  have h1 : b ≤ 31 ∧ b ≠ 30 ∧ a ≤ 116 := by
    unfold zac at h
    simp at h
    omega
  have h2 := List.all_eq_true.mp (List.all_eq_true.mp zacOK (a - 110) (List.mem_range.mpr (by omega))) b (List.mem_range.mpr (by omega))
  rw [show 110 + (a - 110) = a by omega] at h2
  simp only [h, Bool.not_true, Bool.false_or, Bool.or_eq_true, beq_iff_eq, decide_eq_true_eq] at h2
  refine ⟨by omega, h1.1, h1.2.1, ?_⟩
  rcases h2 with h2 | (h2 | h2) | h2
  · exact absurd h2 hb
  · exact Or.inl h2
  · exact Or.inr (zch_in (n := 15) h2)
  · exact Or.inr (zch_in (n := 14) h2)
theorem zs_aast (hx : p.tables.exec = Jvm.exec) (hb : c.code = cc) (hKn : zKn G s) (hW : zWd s) {pc : Nat} {ls : zLs} {r : List Value} {σ : zS} {a x : Nat} {j : Int32} (hd : decode cc pc = .ok (.aastore, 1))
    (h : zalo ph σ a (zalo ph σ x (zK a / 10 = 11 ∧ zac (zK a) (zK x) = true ∧ vp_in j (zN a) ∧ zJ p l e R s m args below meth c nL G ph n0 Q (pc + 1) ls r (zwR σ a j.toNatClampNeg x)))) (hph : zPh ph σ → zPh ph (zwR σ a j.toNatClampNeg x)) : zJ p l e R s m args below meth c nL G ph n0 Q pc ls (.ref x :: .int j :: .ref a :: r) σ := by
  intro lsc H locs a1 a2 a3 a4 a5 a6
  obtain ⟨h, hal⟩ := zalo_i h a3
  obtain ⟨⟨hk, hac, hin, h⟩, halx⟩ := zalo_i h a3
  obtain ⟨b1, b2, b3⟩ := zK_arr (a := a) (by omega)
  have hn := hal b3 b2
  obtain ⟨c1, c2⟩ := zarr_r hk
  obtain ⟨hAO, hRA⟩ := hKn.2.1 _ c1 c2
  have hcell := zarr_c a2 b1 hn (by omega)
  show W p l e R s m args below meth c H locs _ _ Q (F0 m pc lsc (zva G (.ref x) :: .int j :: zva G (.ref a) :: r.map (zva G)))
  rw [zva_ref G (r := a) (by omega)]
  by_cases hx0 : x = 0
  · subst hx0
    refine va_WaastN hx hb hcell (C := zan (zK a)) (by rw [← zaty_r hk]; exact hAO _ _) zvm_c (zin_c hin) rfl rfl hd fun H' e1 e2 e3 => ?_
    exact h lsc H' _ a1 (zRel_a a2 b1 hn (by omega) rfl zwR_o (zav_wR hk) e1 e2 e3) (hph a3) (zlocs a4 b1) a5 a6
  · have hkx : zK x ≠ 0 := by
      intro e
      rw [e] at hac
      have : zK x = 0 := e
      rcases zK_cases x with ⟨d1, d2⟩ | ⟨d1, d2, d3⟩ | ⟨d1, d2⟩
      · rcases d2 with d2 | d2 | d2 | d2 | d2
        · have hall : (List.range 10).all (fun i => decide (zK i = 0 → i = 0)) = true := by decide +kernel
          have := List.all_eq_true.mp hall x (List.mem_range.mpr d1)
          simp only [decide_eq_true_eq] at this
          exact hx0 (this e)
        all_goals omega
      all_goals omega
    obtain ⟨k1, k2, k3, k4⟩ := zac_ok hk hac hkx
    have hx10 : 10 ≤ x ∧ x < 1202 := by rcases zK_cases x with ⟨_, c⟩ | ⟨c1, c2, c3⟩ | ⟨c1, c2⟩ <;> omega
    have hxn := halx k3 hx10.2
    obtain ⟨cv, v1, v2, v3, -⟩ := (a2.2.2.1 x hx10.1 hxn).2 (by omega)
    rw [zva_ref G hx0]
    rw [zaty_r hk] at hRA
    obtain ⟨kA, comp, r1, r2, r3, r4⟩ := hRA
    obtain ⟨-, hfc, kC, hkC, hkind⟩ := hKn.1 _ k1 k2
    obtain ⟨kc, hkc, -⟩ := Vm.findClass_spec r3
    have hasg : s.vm.assignable cv.cls comp = true := by
      rw [v2]
      rcases k4 with k4 | k4
      · rw [← k4, hfc] at r3
        cases r3
        exact va_assign (C := zcn (zK x)) ⟨hfc, kC, hkC, hkind⟩
      · obtain ⟨ca, cb, q1, q2, q3⟩ := Cond.castable_spec (hW _ k4 rfl #[])
        cases hfc.symm.trans q1
        cases r3.symm.trans q2
        exact q3
    refine W.aast hx hb hcell (fun q hq => by cases hq) zvm_c (k := kA) (comp := comp) (t := .object (zan (zK a))) r1 r2 rfl hkc ⟨fun hj => hin (Or.inl hj), by rw [arrV_size]; exact zin_lt hin⟩ v1 (fun q hq => by rw [v3] at hq; cases hq) (by rw [v2]; exact hkC) hasg rfl rfl hd fun H' e1 e2 e3 => ?_
    have e1' : H'[zad G a]? = some ((arrV (gA G (zK a)) (zN a) (zav G σ a)).setSlot j.toNatClampNeg (zva G (.ref x))) := by rw [zva_ref G hx0]; exact e1
    exact h lsc H' _ a1 (zRel_a a2 b1 hn (by omega) rfl zwR_o (zav_wR hk) e1' e2 e3) (hph a3) (zlocs a4 b1) a5 a6
end ZU

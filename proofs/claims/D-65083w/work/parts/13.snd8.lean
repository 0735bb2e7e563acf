/-! PART 13: soundness of new, newarray, anewarray, if_acmp -/
theorem zccl_all : zCC.all (fun l => l.all (fun q => decide (q.2.1 ≤ 31 ∧ (q.2.2 = 0 ∨ 110 ≤ q.2.2 ∧ q.2.2 ≤ 116) ∧ (q.2.1 = 0 ∨ q.2.2 = 0 ∨ zan q.2.2 = zcn q.2.1)))) = true := by decide +kernel
theorem zccl_r {o i k a : Nat} (h : zccl o i = some (k, a)) : k ≤ 31 ∧ (a = 0 ∨ 110 ≤ a ∧ a ≤ 116) ∧ (k = 0 ∨ a = 0 ∨ zan a = zcn k) := by
  unfold zccl at h
  obtain ⟨e, he, h2⟩ := Option.map_eq_some_iff.mp h
  have hm := List.mem_of_find?_eq_some he
  have ho : zCC.getD o [] ∈ zCC := by
    rw [List.getD_eq_getElem?_getD]
    cases hg : zCC[o]? with
    | none => rw [List.getD_eq_getElem?_getD, hg] at hm; exact absurd hm List.not_mem_nil
    | some l => exact List.mem_of_getElem? hg
  have := List.all_eq_true.mp (List.all_eq_true.mp zccl_all _ ho) e hm
  obtain ⟨e1, e2, e3⟩ := e
  simp only [Prod.mk.injEq] at h2
  obtain ⟨rfl, rfl⟩ := h2
  simpa using this
theorem zinst {k : Nat} (h1 : 1 ≤ k) (h2 : k ≤ 31) : Cond.instantiable (zcn k) (zns k) ∈ lw_tbl :=
  zckL_in zins_ok _ (List.mem_map.mpr ⟨k - 1, List.mem_range.mpr (by omega), by rw [show k - 1 + 1 = k by omega]⟩)
theorem zinitc : (List.range 31).all (fun i => (zOW.filter (fun c => decide (c ≠ "java/lang/Object"))).contains (zcn (i + 1))) = true := by decide +kernel
theorem zinit {k : Nat} (h1 : 1 ≤ k) (h2 : k ≤ 31) : Cond.initialized (zcn k) ∈ lw_tbl := by
  have h := List.all_eq_true.mp zinitc (k - 1) (List.mem_range.mpr (by omega))
  rw [show k - 1 + 1 = k by omega] at h
  exact zckL_in zini_ok _ (List.mem_map.mpr ⟨zcn k, by simpa using h, rfl⟩)
def zlenP : Bool := (List.range 1202).all (fun r => decide (zN r ≤ 200000))
theorem zlenOKs : zlenP = true := by decide +kernel
theorem zN_le {r : Nat} (h : r < 1202) : zN r ≤ 200000 := by
  have := List.all_eq_true.mp zlenOKs r (List.mem_range.mpr h)
  simpa using this
theorem zarrw : zckL [Cond.arrayClass .byte, Cond.arrayClass .int, Cond.arrayClass .boolean, Cond.arrayClass .long] [(1, 94), (1, 191), (1, 134), (4, 5)] = true := by decide +kernel
theorem zarro : zckL ((List.range 7).map (fun i => Cond.arrayOver (.object (zan (110 + i))))) [(1, 95), (4, 13), (4, 15), (2, 227), (2, 147), (3, 63), (3, 122)] = true := by decide +kernel
theorem zsl_s (n : Nat) : zsl (n + 1) = zsl n + zsz n := rfl
section ZA
variable {p : Program} {l : Launch} {e : Env} {R : Room} {s : State} {m : MethodId} {args : Array Value} {below : List Frame} {meth : Method} {c : Code} {nL : Nat} {G : zG} {ph : Bool} {n0 : Nat} {Q : State → Prop} {cc : ByteArray}
theorem zPh_n {σ : zS} (h : zPh ph σ) : zPh ph (znw σ) := by
  intro hp
  obtain ⟨h1, h2⟩ := h hp
  refine ⟨Nat.le_succ_of_le h1, fun r f hr hr2 h3 => ?_⟩
  rw [← h2 r f hr hr2 h3]
  show va_up σ.2.2.2 σ.1 (fun _ => 0) r f = σ.2.2.2 r f
  unfold va_up
  rw [if_neg (by have : zEnd ≤ σ.1 := h1; omega)]
theorem zn_new (σ : zS) : zI (znw σ) (zn σ) = (fun _ => 0) ∧ zL (znw σ) (zn σ) = (fun _ => 0) ∧ zR (znw σ) (zn σ) = (fun _ => 0) := by
  refine ⟨?_, ?_, ?_⟩
  · show va_up σ.2.1 σ.1 _ σ.1 = _; unfold va_up; rw [if_pos rfl]
  · show va_up σ.2.2.1 σ.1 _ σ.1 = _; unfold va_up; rw [if_pos rfl]
  · show va_up σ.2.2.2 σ.1 _ σ.1 = _; unfold va_up; rw [if_pos rfl]
theorem zroom {σ : zS} (hR1 : R.cells = zCap - n0) (hR2 : R.slots = zsl zCap - zsl n0) (h1 : n0 ≤ zn σ) (h2 : zn σ < zCap) : zn σ - n0 + 1 ≤ R.cells ∧ zsl (zn σ) - zsl n0 + zsz (zn σ) ≤ R.slots := by
  have := zsl_le (a := zn σ + 1) (b := zCap) h2
  rw [zsl_s] at this
  have h3 := zsl_le h1
  omega
theorem zs_new (hx : p.tables.exec = Jvm.exec) (hb : c.code = cc) (hKn : zKn G s) (hW : zWd s) {o : Nat} (hown : s.vm.findClass (zow o) = some m.cls) (hR1 : R.cells = zCap - n0) (hR2 : R.slots = zsl zCap - zsl n0) {pc i : Nat} {ls : zLs} {st : List Value} {σ : zS} {k a : Nat} (hd : decode cc pc = .ok (.new i, 3)) (hf : zccl o i = some (k, a)) (hk : zK (zn σ) = k) (hc : zn σ < zCap)
    (h : zJ p l e R s m args below meth c nL G ph n0 Q (pc + 3) ls (.ref (zn σ) :: st) (znw σ)) : zJ p l e R s m args below meth c nL G ph n0 Q pc ls st σ := by
  intro lsc H locs a1 a2 a3 a4 a5 a6
  have h10 : 10 ≤ zn σ := a2.2.1
  obtain ⟨k31, -, -⟩ := zccl_r hf
  have hk1 : 1 ≤ k := by rcases zK_cases (zn σ) with ⟨_, c⟩ | ⟨c1, c2, c3⟩ | ⟨c1, c2⟩ <;> omega
  have hcw := zccl_ok hf
  unfold zCw at hcw
  simp only [show ¬ k = 0 by omega, if_false] at hcw
  obtain ⟨r1, r2⟩ := zroom (σ := σ) hR1 hR2 a5 hc
  have hszz : zsz (zn σ) = zns k := by unfold zsz; rw [if_neg (by omega), hk]
  rw [hszz] at r2
  obtain ⟨hS, hfc, kC, hkC, hkind⟩ := hKn.1 k hk1 k31
  refine W.newcK hx hb hown (hW _ hcw rfl args) (hW _ (zinst hk1 k31) rfl args) (hW _ (zinit hk1 k31) rfl args) rfl hd r1 r2 hfc rfl fun H' kC' b1 b2 b3 b4 => ?_
  have hts : ∀ w ∈ u_ws (zcn k) (zT k) (znf k), w.before args s = true := by
    intro w hw
    refine hW w (zlay hk1 k31 w hw) ?_ args
    obtain ⟨j, -, rfl⟩ := List.mem_map.mp hw
    unfold u_lay
    split <;> rfl
  have hza : zad G (zn σ) = H.size := by unfold zad; rw [if_neg (by omega), a2.1]
  have hty : ∀ j, j < znf k → parseFieldDescriptor (zT k j).2.2.1 = some (zfty k j) := by
    intro j hj
    have := zty hk1 k31 hj
    unfold ztyP at this
    simp only [Bool.and_eq_true, decide_eq_true_eq] at this
    exact this.1
  obtain ⟨cell, q1, q2, q3, q4⟩ := u_born (fun j => zfty k j) hts (fun w h => h) ⟨hS, hfc, kC, hkC, hkind⟩ b1 b2 hty
  have hcell : cell = blank (gC G k) kC' := Option.some.inj (q1.symm.trans b2)
  have hsize : cell.slots.size = zns (zK (zn σ)) := by
    obtain ⟨ci, ki, i1, i2, -, -, -, i6⟩ := Cond.instantiable_spec (hW _ (zinst hk1 k31) rfl args)
    cases i1.symm.trans hfc
    cases i2.symm.trans b1
    rw [hcell, hk]
    show (kC'.instanceTypes.map defaultValue).size = _
    rw [Array.size_map]; exact i6
  have hrel : zRel G s (znw σ) H' := by
    refine zRel_n a2 b3 b4 ⟨fun h => absurd h (by omega), fun _ => ⟨cell, by rw [hza]; exact q1, by rw [hk]; exact q2, q3, by rw [hcell]; rfl, ⟨by rw [hcell]; rfl, hsize⟩, fun f hf => ?_⟩⟩
    rw [hk] at hf ⊢
    rw [q4 f hf]
    congr 1
    show defaultValue (zfty k f) = zfc G (znw σ) k f (zn σ)
    obtain ⟨z1, z2, z3⟩ := zn_new σ
    unfold zfc zfv
    rw [z1, z2, z3]
    have ht := zty hk1 k31 hf
    unfold ztyP at ht
    rw [Bool.and_eq_true] at ht
    have ht := ht.2
    match hg : ztg k f with
    | 0 => rw [hg] at ht; simp only [Bool.and_eq_true, decide_eq_true_eq] at ht; rw [ht.1]; rfl
    | 1 => rw [hg] at ht; simp only [Bool.and_eq_true, decide_eq_true_eq] at ht; rw [ht.1]; rfl
    | 2 => rw [hg] at ht; simp only [Bool.and_eq_true] at ht; revert ht; cases zfty k f <;> intro ht <;> first | rfl | (simp [fits] at ht)
    | 3 => rw [hg] at ht; simp only [Bool.and_eq_true] at ht; revert ht; cases zfty k f <;> intro ht <;> first | rfl | (simp [fits] at ht)
    | 4 => rw [hg] at ht; simp only [Bool.and_eq_true, decide_eq_true_eq] at ht; rw [ht.1]; rfl
    | 5 => rw [hg] at ht; simp only [Bool.and_eq_true, decide_eq_true_eq] at ht; rw [ht.1]; rfl
    | t + 6 => rw [hg] at ht; exact absurd ht (by simp)
  have h' := h lsc H' locs a1 hrel (zPh_n a3) a4 (Nat.le_succ_of_le a5) hc
  have e1 : zn (znw σ) - n0 = zn σ - n0 + 1 := by show zn σ + 1 - n0 = _; omega
  have e2 : zsl (zn (znw σ)) - zsl n0 = zsl (zn σ) - zsl n0 + zns k := by
    show zsl (zn σ + 1) - zsl n0 = _
    have := zsl_le a5
    rw [zsl_s, hszz]; omega
  rw [e1, e2] at h'
  have e3 : zva G (.ref (zn σ)) = .ref H.size := by rw [zva_ref G (by omega), hza]
  show W p l e R s m args below meth c H' locs _ _ Q (F0 m (pc + 3) lsc (.ref H.size :: st.map (zva G)))
  rw [← e3]
  exact h'
/-- an array is made -/
theorem zs_newA {pc' : Nat} {ls : zLs} {lsc : Array Slot} {r : List Value} {σ : zS} {H : Heap} {locs : List Loc} {k : Nat} {v0 : Value} (hk : zK (zn σ) = k) (hk1 : 101 ≤ k) (hv : ∀ i, zav G (znw σ) (zn σ) i = v0) (a1 : lv_has lsc nL (ls.map (zvl G))) (a2 : zRel G s σ H) (a3 : zPh ph σ) (a4 : ∀ q ∈ locs, g0 G ≤ q.base) (a5 : n0 ≤ zn σ) (hc : zn σ < zCap)
    (h : zJ p l e R s m args below meth c nL G ph n0 Q pc' ls (.ref (zn σ) :: r) (znw σ)) : W p l e R s m args below meth c (H.push { cls := gA G k, slots := Array.replicate (zN (zn σ)) v0, vm := .none }) locs (zn σ - n0 + 1) (zsl (zn σ) - zsl n0 + zN (zn σ)) Q (F0 m pc' lsc (.ref H.size :: r.map (zva G))) := by
  have h10 : 10 ≤ zn σ := a2.2.1
  have hza : zad G (zn σ) = H.size := by unfold zad; rw [if_neg (by omega), a2.1]
  have hrel : zRel G s (znw σ) (H.push { cls := gA G k, slots := Array.replicate (zN (zn σ)) v0, vm := .none }) := by
    refine zRel_n a2 (by simp) (fun q hq => by rw [Array.getElem?_push, if_neg (Nat.ne_of_lt hq)]) ⟨fun _ => ?_, fun h => absurd hk1 (by omega)⟩
    rw [hza, arrV_new, hk]
    simp only [Array.getElem?_push_size]
    congr 2
    funext i
    exact (hv i).symm
  have h' := h lsc _ locs a1 hrel (zPh_n a3) a4 (Nat.le_succ_of_le a5) hc
  have hszz : zsz (zn σ) = zN (zn σ) := by unfold zsz; rw [if_pos (by omega)]
  have e1 : zn (znw σ) - n0 = zn σ - n0 + 1 := by show zn σ + 1 - n0 = _; omega
  have e2 : zsl (zn (znw σ)) - zsl n0 = zsl (zn σ) - zsl n0 + zN (zn σ) := by
    show zsl (zn σ + 1) - zsl n0 = _
    have := zsl_le a5
    rw [zsl_s, hszz]; omega
  rw [e1, e2] at h'
  have e3 : zva G (.ref (zn σ)) = .ref H.size := by rw [zva_ref G (by omega), hza]
  rw [← e3]
  exact h'
theorem zs_newa (hx : p.tables.exec = Jvm.exec) (hb : c.code = cc) (hKn : zKn G s) (hW : zWd s) (hR1 : R.cells = zCap - n0) (hR2 : R.slots = zsl zCap - zsl n0) {pc : Nat} {t : ArrayType} {ls : zLs} {r : List Value} {σ : zS} {n : Int32} (hd : decode cc pc = .ok (.newarray t, 2)) (hn : ¬ n < 0) (hk : zK (zn σ) = zakd t) (hN : zN (zn σ) = n.toNatClampNeg) (hc : zn σ < zCap)
    (h : zJ p l e R s m args below meth c nL G ph n0 Q (pc + 2) ls (.ref (zn σ) :: r) (znw σ)) : zJ p l e R s m args below meth c nL G ph n0 Q pc ls (.int n :: r) σ := by
  intro lsc H locs a1 a2 a3 a4 a5 a6
  obtain ⟨r1, r2⟩ := zroom (σ := σ) hR1 hR2 a5 hc
  have hb4 : 1202 ≤ zn σ → zK (zn σ) = 30 := zK_big
  have hlim : zN (zn σ) ≤ 200000 := by
    rcases Nat.lt_or_ge (zn σ) 1202 with h1 | h1
    · exact zN_le h1
    · have h30 := hb4 h1
      rw [hk] at h30
      cases t <;> exact absurd h30 (by decide)
  obtain ⟨z1, z2, z3⟩ := zn_new σ
  have hsz : ∀ h2 : 101 ≤ zakd t, zsz (zn σ) = zN (zn σ) := fun h2 => by unfold zsz; rw [if_pos (by omega)]
  have key : ∀ (ty : FieldType) (k : Nat), newarray.typeOf t = ty → zakd t = k → 101 ≤ k → zarr k = true → k ≠ 105 → zaty k = ty → Cond.arrayClass ty ∈ lw_tbl → componentBytes ty ≤ 8 → (∀ i, zav G (znw σ) (zn σ) i = defaultValue ty) →
      va_RA s (gA G k) ty = (s.vm.findClass ("[" ++ ty.toString) = some (gA G k)) → W p l e R s m args below meth c H locs (zn σ - n0) (zsl (zn σ) - zsl n0) Q (F0 m pc lsc (.int n :: r.map (zva G))) := by
    intro ty k e1 e2 e3 e4 e5 e6 e7 e8 e9 e10
    have hRA := (hKn.2.1 k e4 e5).2
    rw [e6, e10] at hRA
    rw [hsz (by omega)] at r2
    refine W.newa hx hb (by rw [e1]; exact hW _ e7 rfl args) rfl hd rfl hn ?_ r1 (by rw [← hN]; exact r2) fun cA kA comp g1 g2 g3 => ?_
    · rw [← hN, e1]
      have : zN (zn σ) * componentBytes ty ≤ 200000 * 8 := Nat.mul_le_mul hlim e8
      omega
    · rw [e1] at g1
      cases hRA.symm.trans g1
      rw [← hN, e1]
      exact zs_newA (by rw [hk, e2]) e3 e9 a1 a2 a3 a4 a5 hc h
  have hin := zckL_in zarrw
  cases t
  case byte => exact key .byte 101 rfl rfl (by decide) rfl (by decide) rfl (hin _ (by simp)) (by decide) (fun i => by rw [zav_i (Or.inl hk), z1]; rfl) rfl
  case int => exact key .int 102 rfl rfl (by decide) rfl (by decide) rfl (hin _ (by simp)) (by decide) (fun i => by rw [zav_i (Or.inr (Or.inl hk)), z1]; rfl) rfl
  case boolean => exact key .boolean 103 rfl rfl (by decide) rfl (by decide) rfl (hin _ (by simp)) (by decide) (fun i => by rw [zav_i (Or.inr (Or.inr hk)), z1]; rfl) rfl
  case long => exact key .long 104 rfl rfl (by decide) rfl (by decide) rfl (hin _ (by simp)) (by decide) (fun i => by rw [zav_l hk, z2]; rfl) rfl
  all_goals
    have h0 : zK (zn σ) = 0 := hk
    have := a2.2.1
    rcases zK_cases (zn σ) with ⟨_, c⟩ | ⟨c1, c2, c3⟩ | ⟨c1, c2⟩ <;> omega
theorem zs_anew (hx : p.tables.exec = Jvm.exec) (hb : c.code = cc) (hKn : zKn G s) (hW : zWd s) {o : Nat} (hown : s.vm.findClass (zow o) = some m.cls) (hR1 : R.cells = zCap - n0) (hR2 : R.slots = zsl zCap - zsl n0) {pc i : Nat} {ls : zLs} {r : List Value} {σ : zS} {k a : Nat} {n : Int32} (hd : decode cc pc = .ok (.anewarray i, 3)) (hf : zccl o i = some (k, a)) (hn : ¬ n < 0) (hk : zK (zn σ) = a) (hN : zN (zn σ) = n.toNatClampNeg) (hc : zn σ < zCap)
    (h : zJ p l e R s m args below meth c nL G ph n0 Q (pc + 3) ls (.ref (zn σ) :: r) (znw σ)) : zJ p l e R s m args below meth c nL G ph n0 Q pc ls (.int n :: r) σ := by
  intro lsc H locs a1 a2 a3 a4 a5 a6
  obtain ⟨r1, r2⟩ := zroom (σ := σ) hR1 hR2 a5 hc
  have h10 := a2.2.1
  obtain ⟨-, ha, hka⟩ := zccl_r hf
  have ha2 : 110 ≤ a ∧ a ≤ 116 := by rcases zK_cases (zn σ) with ⟨_, c⟩ | ⟨c1, c2, c3⟩ | ⟨c1, c2⟩ <;> omega
  have h11 : zK (zn σ) / 10 = 11 := by omega
  have hlim : zN (zn σ) ≤ 200000 := by
    rcases Nat.lt_or_ge (zn σ) 1202 with h1 | h1
    · exact zN_le h1
    · have := zK_big h1; omega
  have hcw := zccl_ok hf
  have hnm : (if k = 0 then zan a else zcn k) = zan a := by
    split
    · rfl
    · rcases hka with e | e | e
      · contradiction
      · omega
      · exact e.symm
  unfold zCw at hcw
  simp only [hnm] at hcw
  obtain ⟨c1, c2⟩ := zarr_r h11
  obtain ⟨-, hRA⟩ := hKn.2.1 _ c1 c2
  rw [zaty_r h11, hk] at hRA
  obtain ⟨kA, comp, q1, q2, q3, q4⟩ := hRA
  have hov : Cond.arrayOver (.object (zan a)) ∈ lw_tbl := zckL_in zarro _ (List.mem_map.mpr ⟨a - 110, List.mem_range.mpr (by omega), by rw [show 110 + (a - 110) = a by omega]⟩)
  have hszz : zsz (zn σ) = zN (zn σ) := by unfold zsz; rw [if_pos (by omega)]
  rw [hszz] at r2
  refine W.anew hx hb hown (hW _ hcw rfl args) (hW _ hov rfl args) rfl hd rfl hn (by omega) r1 (by rw [← hN]; exact r2) fun cA kA' comp' g1 g2 g3 g4 => ?_
  cases q4.symm.trans g1
  rw [← hN]
  exact zs_newA hk (by omega) (fun i => by rw [zav_r h11, (zn_new σ).2.2]; rfl) a1 a2 a3 a4 a5 hc h
theorem zs_acmp (hx : p.tables.exec = Jvm.exec) (hb : c.code = cc) {pc : Nat} {off : Int} {cnd : ACond} {ls : zLs} {r : List Value} {σ : zS} {a b : Nat} (hd : decode cc pc = .ok (.if_acmp cnd off, 3)) (hof : 0 ≤ (pc : Int) + off) 
    (h0 : zK a ≤ 31 ∧ zK b ≤ 31) (h : zacm cnd a b (zJ p l e R s m args below meth c nL G ph n0 Q (ztgt pc off) ls r σ) (zJ p l e R s m args below meth c nL G ph n0 Q (pc + 3) ls r σ)) : zJ p l e R s m args below meth c nL G ph n0 Q pc ls (.ref b :: .ref a :: r) σ := by
  intro lsc H locs a1 a2 a3 a4 a5 a6
  have hz : (List.range 10).all (fun i => decide (zK i = 0 → i = 0)) = true := by decide +kernel
  have hal1 : ∀ q, zK q ≤ 31 → q = 0 ∨ 10 ≤ q := by
    intro q hq
    rcases Nat.lt_or_ge q 10 with h1 | h1
    · have h2 := List.all_eq_true.mp hz q (List.mem_range.mpr h1)
      simp only [decide_eq_true_eq] at h2
      rcases zK_cases q with ⟨_, c⟩ | ⟨c1, c2, c3⟩ | ⟨c1, c2⟩ <;> omega
    · exact Or.inr h1
  have hal : ∀ q, q = a ∨ q = b → q = 0 ∨ 10 ≤ q := by
    rintro q (rfl | rfl)
    · exact hal1 _ h0.1
    · exact hal1 _ h0.2
  have hv : ∀ x, zva G (.ref x) = va_rf (if x = 0 then none else some (zad G x)) := by
    intro x; cases x <;> rfl
  have hinj : (if a = 0 then none else some (zad G a)) = (if b = 0 then none else some (zad G b)) ↔ a = b := by
    refine ⟨fun h2 => ?_, fun h2 => by rw [h2]⟩
    by_cases e1 : a = 0
    · by_cases e2 : b = 0
      · omega
      · rw [if_pos e1, if_neg e2] at h2; cases h2
    · by_cases e2 : b = 0
      · rw [if_neg e1, if_pos e2] at h2; cases h2
      · rw [if_neg e1, if_neg e2] at h2
        have h3 := Option.some.inj h2
        rcases hal a (Or.inl rfl) with q1 | q1
        · omega
        · rcases hal b (Or.inr rfl) with q2 | q2
          · omega
          · exact Decidable.byContradiction fun q => zad_ne q1 q2 q h3
  show W p l e R s m args below meth c H locs _ _ Q (F0 m pc lsc (zva G (.ref b) :: zva G (.ref a) :: r.map (zva G)))
  rw [hv a, hv b]
  cases cnd
  case eq => exact lv_acmp_eq hx hb hd (ztgt_e hof) (fun z => h.1 (hinj.mp z) lsc H locs a1 a2 a3 a4 a5 a6) (fun z => h.2 (fun q => z (hinj.mpr q)) lsc H locs a1 a2 a3 a4 a5 a6)
  case ne => exact lv_acmp_ne hx hb hd (ztgt_e hof) (fun z => h.1 (fun q => z (hinj.mpr q)) lsc H locs a1 a2 a3 a4 a5 a6) (fun z => h.2 (hinj.mp z) lsc H locs a1 a2 a3 a4 a5 a6)
end ZA

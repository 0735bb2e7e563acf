/-! PART 19: the constructor of RuntimeException -/
theorem zthr_t : zckQ Bundle.throwableAtoms [(1, 36), (7, 46), (7, 55), (7, 57), (7, 60), (7, 62), (7, 47), (7, 48), (1, 50), (1, 51), (7, 49), (7, 54), (7, 58), (7, 78), (7, 36), (7, 79), (7, 38), (7, 80), (7, 40), (7, 50), (7, 51), (7, 52), (7, 53), (7, 42)] = true := by decide +kernel
theorem zthr_g : Bundle.throwableAtoms.all (fun w => zgood w || decide (w = .laysStatic Bundle.tN "UNASSIGNED_STACK" Bundle.steD) || decide (w = .laysStatic Bundle.tN "SUPPRESSED_SENTINEL" Bundle.listD)) = true := by decide +kernel
abbrev zchn : List Cond := Bundle.chain0Atoms "java/lang/RuntimeException" ["java/lang/Exception"]
theorem zchn_t : zckQ zchn [(7, 67), (7, 68), (7, 69), (7, 70), (7, 29), (7, 70), (7, 71), (7, 72), (7, 47), (7, 31)] = true := by decide +kernel
theorem zchn_g : zchn.all zgood = true := by decide +kernel
abbrev zthF : List Cond := [.selects "PackingHouse$Fault" Bundle.tFill0 Bundle.tFill0, .selects "PackingHouse$Fault" Bundle.tFill Bundle.tFill, .lays "PackingHouse$Fault" Bundle.tN "cause" "Ljava/lang/Throwable;", .lays "PackingHouse$Fault" Bundle.tN "stackTrace" Bundle.steD, .lays "PackingHouse$Fault" Bundle.tN "suppressedExceptions" Bundle.listD, .fieldLink Bundle.tN 198 Bundle.tN "backtrace" "Ljava/lang/Object;", .lays Bundle.tN Bundle.tN "backtrace" "Ljava/lang/Object;", .lays "PackingHouse$Fault" Bundle.tN "backtrace" "Ljava/lang/Object;"]
theorem zthF_t : zckQ zthF [(7, 33), (7, 34), (7, 35), (7, 37), (7, 39), (7, 45), (7, 44), (7, 43)] = true := by decide +kernel
theorem zthF_g : zthF.all zgood = true := by decide +kernel
theorem zck_rte {o fr lo : Nat} {ph : Bool} {i : Nat} (hfr : 5 ≤ fr) (hlo : 90 ≤ lo) (hl : Cond.methodLink (zow o) i (Bundle.init0 "java/lang/RuntimeException") ∈ lw_tbl) : zCk o fr lo ph (.invokespecial i) 1 X_rte := by
  intro p l e s m args below meth c G n0 T locs σ as K E g rest hfl hx hW hKn hZz hown hX hR hP h1 h2 hXX hn hg hsize hmr hst hrest hdg
  obtain ⟨a, rfl, hk, ha, hbt, hK⟩ := X_rte_i hXX
  have h10 : 10 ≤ a := by rcases zK_cases a with ⟨_, c⟩ | ⟨c1, c2, c3⟩ | ⟨c1, c2⟩ <;> omega
  obtain ⟨cell, c1, c2, c3, c4, c5, c6⟩ := (hR.2.2.1 a h10 ha).2 (by omega)
  rw [hk] at c2 c5 c6
  have howns : e.platform.frameOwnsMonitors = true := by rw [hX.admits.platform]
  have hfin : e.platform.finalization = false := by rw [hX.admits.platform]
  have hpl : e.platform.magicAccessors = ({} : Platform).magicAccessors := by rw [hX.admits.platform]
  have htr : e.platform.stackTraces = false := Launch.traces_off hfl hX.admits
  have wT : ∀ w ∈ Bundle.throwableAtoms, w.before args s = true := by
    intro w hw
    have hg := List.all_eq_true.mp zthr_g w hw
    simp only [Bool.or_eq_true, decide_eq_true_eq] at hg
    obtain ⟨-, -, -, -, -, ly1, ly2, -⟩ := hZz
    rcases hg with (hg | hg) | hg
    · exact hW w (zckQ_in zthr_t w hw) hg args
    · rw [hg]; exact zLy_w ly1
    · rw [hg]; exact zLy_w ly2
  have wC : ∀ w ∈ zchn, w.before args s = true := fun w hw => hW w (zckQ_in zchn_t w hw) (List.all_eq_true.mp zchn_g w hw) args
  have wF : ∀ w ∈ zthF, w.before args s = true := fun w hw => hW w (zckQ_in zthF_t w hw) (List.all_eq_true.mp zthF_g w hw) args
  obtain ⟨Tc, Z, L, LZ, Y⟩ := ThrowableC.of_atoms (args := args) howns hfin hpl wT
  obtain ⟨P1, Ps, hlen, L1, hL, hP1m, hlink1, hlink⟩ := Bundle.chain0 (args := args) hpl Y.init0 ["java/lang/Exception"] "java/lang/RuntimeException" (by decide +kernel) (fun n hn => by rw [List.mem_singleton] at hn; subst hn; decide +kernel) wC
  obtain ⟨hS, hfc, kC, hkC, hkind⟩ := hKn.1 30 (by omega) (by omega)
  have hfc' : s.vm.findClass "PackingHouse$Fault" = some (gC G 30) := hfc
  obtain ⟨ci, ki, i1, i2, hord, -, -, i6⟩ := Cond.instantiable_spec (hW _ (zinst (k := 30) (by omega) (by omega)) rfl args)
  cases i1.symm.trans hfc
  cases i2.symm.trans hkC
  have hsel0 : selectMethod e.platform s.vm cell.cls Tc.fill0 = .method Tc.fill0 := by
    obtain ⟨c2', r2, m2, q1, q2, q3, q4, -⟩ := Cond.selects_spec (wF (.selects "PackingHouse$Fault" Bundle.tFill0 Bundle.tFill0) (by simp [zthF]))
    cases Option.some.inj (q1.symm.trans hfc')
    cases Option.some.inj (q2.symm.trans (State.methodFound?_of_named Y.fill0 (by decide)))
    cases Option.some.inj (q3.symm.trans Y.fill0)
    rw [c2, Launch.admits_selectMethod hX.admits]; exact q4
  have hselF : selectMethod e.platform s.vm cell.cls Tc.fill = .method Tc.fill := by
    obtain ⟨c2', r2, m2, q1, q2, q3, q4, -⟩ := Cond.selects_spec (wF (.selects "PackingHouse$Fault" Bundle.tFill Bundle.tFill) (by simp [zthF]))
    cases Option.some.inj (q1.symm.trans hfc')
    cases Option.some.inj (q2.symm.trans (State.methodFound?_of_named Y.fill (by decide)))
    cases Option.some.inj (q3.symm.trans Y.fill)
    rw [c2, Launch.admits_selectMethod hX.admits]; exact q4
  obtain ⟨-, u0, sen, ⟨cf1, kf1, fi1, f1, a1, cS, z1, z2, z3, z4, z5, z6, z7, z8⟩, ⟨cf2, kf2, fi2, f2, a2, cS2, y1, y2, y3, y4, y5, y6, y7, y8⟩, -⟩ := hR.2.2.2.2
  cases Option.some.inj (z1.symm.trans Y.unassigned)
  cases Option.some.inj (y1.symm.trans Y.sentinel)
  cases Option.some.inj (z4.symm.trans L.statics)
  cases Option.some.inj (y4.symm.trans L.statics)
  cases Option.some.inj (y5.symm.trans z5)
  have hneS : Tc.aS ≠ zad G a := by
    exact Nat.ne_of_lt (Nat.lt_of_lt_of_le (Nat.lt_of_not_le z8) (zad_ge h10))
  have hknownS : cS.vm ≠ .unknown := fun h => by rw [h] at z6; cases z6
  obtain ⟨ci198, i198, fB, hk198, hg198, ha198, hsB, -, hnB, htB, hffB⟩ := Cond.ownField (t := .object "java/lang/Object") Y.found L.cls (by decide +kernel) (wF (.fieldLink Bundle.tN 198 Bundle.tN "backtrace" "Ljava/lang/Object;") (by simp [zthF])) (wF (.lays Bundle.tN Bundle.tN "backtrace" "Ljava/lang/Object;") (by simp [zthF])) e.platform hpl
  obtain ⟨tyC, -⟩ := Cond.laysAt hfc' hkC Y.cause (wF (.lays "PackingHouse$Fault" Bundle.tN "cause" "Ljava/lang/Throwable;") (by simp [zthF]))
  obtain ⟨tyS, -⟩ := Cond.laysAt hfc' hkC Y.stack (wF (.lays "PackingHouse$Fault" Bundle.tN "stackTrace" Bundle.steD) (by simp [zthF]))
  obtain ⟨tyP, -⟩ := Cond.laysAt hfc' hkC Y.supp (wF (.lays "PackingHouse$Fault" Bundle.tN "suppressedExceptions" Bundle.listD) (by simp [zthF]))
  have hts : ∀ w ∈ u_ws (zcn 30) (zT 30) (znf 30), w.before args s = true := by
    intro w hw
    refine hW w (zlay (k := 30) (by omega) (by omega) w hw) ?_ args
    obtain ⟨j, -, rfl⟩ := List.mem_map.mp hw
    unfold u_lay
    split <;> rfl
  have hty : ∀ j, j < znf 30 → parseFieldDescriptor (zT 30 j).2.2.1 = some (zfty 30 j) := by
    intro j hj
    have := zty (k := 30) (by omega) (by omega) hj
    unfold ztyP at this
    simp only [Bool.and_eq_true, decide_eq_true_eq] at this
    exact this.1
  have hnf : znf 30 = 3 := by decide
  have hnames : ∀ j, j < 3 → (zT 30 j).2.1 ≠ "cause" ∧ (zT 30 j).2.1 ≠ "stackTrace" ∧ (zT 30 j).2.1 ≠ "suppressedExceptions" := by
    intro j hj
    match j, hj with
    | 0, _ => decide
    | 1, _ => decide
    | 2, _ => decide
    | n + 3, h => omega
  have hap : ∀ j, j < 3 → gI G 30 j ≠ Tc.fCause.slot ∧ gI G 30 j ≠ Tc.fStack.slot ∧ gI G 30 j ≠ Tc.fSupp.slot := by
    intro j hj
    obtain ⟨n1, n2, n3⟩ := hnames j hj
    have hj' : j < znf 30 := by omega
    obtain ⟨_, _, _, fa, hia, ea⟩ := hS j hj'
    have nm := (State.fieldFound?_type hia (hty j hj')).1
    have lj := u_lays hts (fun w h => h) hj'
    rw [← ea]
    refine ⟨u_apart lj (Or.inl (wF (.lays "PackingHouse$Fault" Bundle.tN "cause" "Ljava/lang/Throwable;") (by simp [zthF]))) hia Y.cause (by rw [nm, Y.causeName]; exact n1),
      u_apart lj (Or.inl (wF (.lays "PackingHouse$Fault" Bundle.tN "stackTrace" Bundle.steD) (by simp [zthF]))) hia Y.stack (by rw [nm, Y.stackName]; exact n2),
      u_apart lj (Or.inl (wF (.lays "PackingHouse$Fault" Bundle.tN "suppressedExceptions" Bundle.listD) (by simp [zthF]))) hia Y.supp (by rw [nm, Y.suppName]; exact n3)⟩
  have hbs : gI G 30 2 = fB.slot := by
    obtain ⟨_, _, _, fa, hia, ea⟩ := hS 2 (by omega)
    have hia' : s.fieldFound? Bundle.tN "backtrace" "Ljava/lang/Object;" = some _ := hia
    cases Option.some.inj (hia'.symm.trans hffB)
    exact ea.symm
  have hb0 : cell.slots[fB.slot]? = some .null := by
    rw [← hbs, c6 2 (by omega)]
    congr 1
    show zva G (zfv false σ 30 2 a) = .null
    have : zfv false σ 30 2 a = .ref (zR σ a 2) := rfl
    rw [this, hbt]; rfl
  obtain ⟨p1, p2, p3⟩ := hap 2 (by omega)
  rw [hbs] at p1 p2 p3
  have hskip : SkipFacts Tc e.platform s (fun u => u) u0 ((preparedCellV Tc.toThrowableT cell (zad G a) u0 sen).withEntry T.cur) :=
    ⟨{ ci198 := ci198, i198 := i198, fBack := fB }, ⟨hk198, hg198, ha198, hsB⟩, by
      simpa [preparedCellV, Cell.setSlot, Cell.withEntry, Array.getElem?_setIfInBounds, p1, p2, p3, p1.symm, p2.symm, p3.symm] using hb0, fun _ _ => rfl⟩
  have tk : ∀ (f : Field) (v : Value), kC.instanceTypes[f.slot]? = some f.type → fits f.type v = true → Takes s cell f v := by
    intro f v ht hv
    obtain ⟨t1, t2⟩ := Takes.of_laid hkC hord ht hv
    refine ⟨?_, ?_⟩
    · rw [c5.2, ← i6]; simpa using t1
    · rw [c2, c3]; exact t2
  have hst' : g.stack = .ref (zad G a) :: rest := by rw [hst, List.map_cons, zva_ref G (show a ≠ 0 by omega)]; rfl
  obtain ⟨tm, methC, cdC, kC', vm₁, hnC, -, -, -, -, -, -, -, hW₁, st1⟩ := Steps.initCold (tb := p.tables) (e := e) (below := below) (s := s) (U := T) hX.here hx hX.warmed hpl hown (t := Bundle.init0 "java/lang/RuntimeException") rfl rfl (by decide)
    (hW _ hl rfl args) (wC (.instanceMethod (Bundle.init0 "java/lang/RuntimeException")) (by simp [zchn, Bundle.chain0Atoms, Bundle.passAtoms])) (bytes := Bundle.five) (maxL := 1) (wC (.code (Bundle.init0 "java/lang/RuntimeException") Bundle.five 1 none) (by simp [zchn, Bundle.chain0Atoms, Bundle.passAtoms]))
    (f := g) hg (a := zad G a) (rest := rest) hst' hdg
  cases Option.some.inj (hnC.symm.trans hP1m)
  have X₁ := hX.noted hW₁
  obtain ⟨vm₂, X₂, st2⟩ := X₁.ctorPlainOffV hx (g := { g with stack := rest }) hg hsize Tc L Z LZ (P1 :: Ps)
    (fun P hP => by rcases List.mem_cons.mp hP with rfl | hP; exact L1; exact hL P hP) ⟨hlink1, hlink⟩ (u0 := u0) (sen := sen) (self := zad G a) (cell := cell) (cellS := cS)
    c1 (fun _ h => by rw [c3] at h; cases h) (fun h => by rw [c3] at h; cases h) c4 c5.1 hsel0 hselF z5 hneS hknownS z7 y7
    (tk _ _ tyC (by rw [Y.causeType]; rfl)) (tk _ _ tyS (by rw [Y.stackType]; exact fits_refV_array _ u0)) (tk _ _ tyP (by rw [Y.suppType]; exact fits_refV_object _ sen)) Y.objLocals hskip htr [] hdg
    (by simp only [List.length_cons, hlen]; show _ < fr; simp; omega) (by simp only [List.length_cons, hlen]; show 2 * g.monitorRoom + (rest.map fun v => v.category).sum + _ ≤ lo; rw [hmr]; simp; omega)
  refine ⟨.returned none, σ, _, _, ⟨none, rfl, hK⟩, ?_, hP, ?_, h1, h2, X₂, st1 _ (fun acts => by rw [doInvoke_state]; exact st2 _ (Steps.refl _))⟩
  · have hlt : zad G a < T.heap.size := (Array.getElem?_eq_some_iff.mp c1).1
    refine zRel_w hR h10 rfl ?_ (fun q hq => ?_) (fun q hq => ⟨rfl, rfl, rfl⟩) ⟨fun h => absurd h (by omega), fun _ => ⟨(preparedCellV Tc.toThrowableT cell (zad G a) u0 sen).setSlot Tc.fStack.slot u0.v, ?_, ?_, ?_, ?_, ⟨?_, ?_⟩, fun f hf => ?_⟩⟩
    · show (T.heap.setIfInBounds _ _).size = _; simp
    · show (T.heap.setIfInBounds _ _)[q]? = _; simp [Array.getElem?_setIfInBounds, Ne.symm hq]
    · show (T.heap.setIfInBounds _ _)[zad G a]? = _
      rw [Array.getElem?_setIfInBounds, if_pos rfl, if_pos hlt]
    · rw [hk]; exact c2
    · exact c3
    · exact c4
    · exact c5.1
    · rw [hk, ← c5.2]; simp [preparedCellV, Cell.setSlot]
    · rw [hk] at hf ⊢
      rw [← c6 f hf]
      obtain ⟨p1, p2, p3⟩ := hap f (by omega)
      simp [preparedCellV, Cell.setSlot, Array.getElem?_setIfInBounds, p1, p2, p3, p1.symm, p2.symm, p3.symm]
  · intro q hq
    have hb : q.base = zad G a := by
      simp only [List.mem_cons, List.not_mem_nil, or_false] at hq
      rcases hq with rfl | rfl | rfl | rfl <;> rfl
    rw [hb]; exact zad_ge h10

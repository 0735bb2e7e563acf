/-! PART 19, third: a method with one handler -/
/-- the search in a table of one row, whose class may be open yet -/
theorem zfind {e : Env} {S : State} {f : JFrame} {a : Addr} {mt : Method} {code : Code} (hm : S.vm.method? f.method = some mt) (hc : mt.code = some code) {x : ExceptionTableEntry} (hL : code.exceptionTable.toList = [x]) (hx : covers x f.pc = true) (h0 : x.catchType ≠ 0)
    {c : ClassId} {cell : Cell} (hl : S.vm.ClassLinks e.platform f.method.cls x.catchType c) (hcell : S.heap[a]? = some cell) (hobj : ∀ k, cell.vm ≠ .statics k) (hk : ∃ k, S.vm.classes[cell.cls]? = some k) (hcl : ∃ k, S.vm.classes[c]? = some k) (hfit : S.vm.assignable cell.cls c = true)
    (Q : Handler → Pre) (E : CtlPost) (d : Bool) (acts : List Action) : wp (findHandler f a) Q E e d acts S ↔ Q (.found x.handlerPc) d acts (S.setVm (S.vm.noted f.method.cls x.catchType (.cls c))) := by
  rw [W.findHandler_eq hm hc, hL]
  simp only [covers] at hx
  obtain ⟨w1, w2⟩ := (resolveClass_links e.toSetting hl).op (op := VmOp.resolveClass f.method.cls x.catchType) rfl
  have hal : S.vm.Alike (S.vm.noted f.method.cls x.catchType (.cls c)) := (Vm.Alike.refl S.vm).noted _ _ _
  obtain ⟨k1, hk1⟩ := hk
  obtain ⟨k2, hk2⟩ := hcl
  obtain ⟨k3, hk3, -⟩ := hal.2.2 _ _ hk1
  obtain ⟨k4, hk4, -⟩ := hal.2.2 _ _ hk2
  have hf2 : (S.vm.noted f.method.cls x.catchType (.cls c)).assignable cell.cls c = true := by rw [hal.assignable]; exact hfit
  simp [findHandler.go, hx, h0, w1, w2, hcell, hobj, hk3, hk4, hf2, VmOp.dirties, VmOp.acts]
/-- an exception meets the one handler of its method -/
theorem zcatch {p : Program} {l : Launch} {e : Env} {R : Room} {s : State} {m : MethodId} {args : Array Value} {below : List Frame} {meth : Method} {c : Code} {T : State} {locs : List Loc} {cells slots : Nat} (X : Stand p l e R s m args below meth c T locs cells slots) (a : Addr) {g : JFrame} (hg : g.method = m) {own name : String} (hown : s.vm.findClass own = some m.cls)
    {x : ExceptionTableEntry} (hL : c.exceptionTable.toList = [x]) (hx : covers x g.pc = true) (h0 : x.catchType ≠ 0) (hlink : (Cond.classLink own x.catchType name).before args s = true) {cT : ClassId} {cell : Cell} (hcT : s.vm.findClass name = some cT) (hcell : T.heap[a]? = some cell) (hobj : ∀ k, cell.vm ≠ .statics k) (hkc : ∃ k, s.vm.classes[cell.cls]? = some k) (hfit : s.vm.assignable cell.cls cT = true) :
    ∃ vm', Stand p l e R s m args below meth c (T.setVm vm') locs cells slots ∧ ∀ target, Steps p.tables e below ((T.setVm vm').setTop { g with pc := x.handlerPc, stack := [.ref a] }) target → Steps p.tables e below ((T.setTop g).pushFrame (.throwing a)) target := by
  have hpl : e.platform.magicAccessors = ({} : Platform).magicAccessors := by rw [X.admits.platform]
  obtain ⟨c', hc', hcl⟩ := Cond.classLink_spec hown hlink e.platform hpl
  cases hcT.symm.trans hc'
  obtain ⟨dk, _, _, kt, hd, _, _, _, _, hkt, _, hopen⟩ := hcl.here
  have hcl₀ := X.warmed.classLinks hcl
  have hW' : s.WarmedH (T.vm.noted m.cls x.catchType (.cls cT)) := X.warmed.noted hd hopen (State.rightAt_cls hcl)
  have hal := X.warmed.alike
  obtain ⟨kt', hkt', -⟩ := hal.2.2 _ _ hkt
  obtain ⟨kc, hkc'⟩ := hkc
  obtain ⟨kc', hkc'', -⟩ := hal.2.2 _ _ hkc'
  have hfit' : T.vm.assignable cell.cls cT = true := by rw [hal.assignable]; exact hfit
  refine ⟨_, X.noted hW', fun target hrest => ?_⟩
  subst hg
  have hvm := Stand.throwing_vm T g a
  have hhp := Stand.throwing_heap T g a
  have hfind : ∀ (Q : Handler → Pre) (E : CtlPost) (d : Bool) (acts : List Action), wp (findHandler g a) Q E e d acts ((T.setTop g).pushFrame (.throwing a)) ↔ Q (.found x.handlerPc) d acts (((T.setTop g).pushFrame (.throwing a)).setVm (T.vm.noted g.method.cls x.catchType (.cls cT))) := by
    intro Q E d acts
    have hmT : T.vm.method? g.method = some meth := by rw [hal.method?]; exact X.method
    have := zfind (e := e) (S := (T.setTop g).pushFrame (.throwing a)) (f := g) (a := a) (mt := meth) (code := c) (by rw [hvm]; exact hmT) X.code hL hx h0 (by rw [hvm]; exact hcl₀) (by rw [hhp]; exact hcell) hobj ⟨kc', by rw [hvm]; exact hkc''⟩ ⟨kt', by rw [hvm]; exact hkt'⟩ (by rw [hvm]; exact hfit') Q E d acts
    rw [hvm] at this
    exact this
  obtain ⟨hgo, hw⟩ := X.here.throwing a
  refine Steps.head hgo hw ?_
  have hst : ∀ r, (stepThrowing e ((T.setTop g).pushFrame (.throwing a)) a (.java g :: r)).Is ((((T.setTop g).pushFrame (.throwing a)).setVm (T.vm.noted g.method.cls x.catchType (.cls cT))).setFrames (.java { g with pc := x.handlerPc, stack := [.ref a] } :: r)) [] := by
    intro r
    simp only [stepThrowing, searchFrame, vmDo]
    generalize hr : Sem.go _ e false [] _ = res
    obtain ⟨as, rfl, ha⟩ := Sem.eq_ok_of hr (a := Handler.found x.handlerPc) (s' := ((T.setTop g).pushFrame (.throwing a)).setVm (T.vm.noted g.method.cls x.catchType (.cls cT))) (acts' := []) (by simp [hfind _ _ _ _])
    exact ⟨rfl, ha⟩
  rw [stepThread_throwing (frames_entered X.here.top _), (hst _).1]
  obtain ⟨g₀, hg⟩ := Option.isSome_iff_exists.mp X.here.top
  obtain ⟨r, hr⟩ := State.topJava?_eq_some.mp hg
  have hr' : (T.setVm (T.vm.noted g.method.cls x.catchType (.cls cT))).frames = .java g₀ :: r := hr
  rw [State.setTop_of_frames _ hr'] at hrest
  have e1 : ∀ (u : State) (vm' : Vm) (F F' : List Frame), ((u.setFrames F).setVm vm').setFrames F' = (u.setVm vm').setFrames F' := by
    intro u vm' F F'
    have h1 : (u.setFrames F).setVm vm' = (u.setVm vm').setFrames F := rfl
    rw [h1, State.setFrames_setFrames]
  rw [hr, List.tail_cons, State.pushFrame, e1, State.setTop_of_frames _ hr, e1]
  exact hrest
def zNoT (tb : zTb) : Bool := tb.all (fun b => b.all (fun q => match q.2.1 with
  | .athrow => false
  | _ => true))
theorem zMw_ok {y : MethodName} {cc : ByteArray} {nL : Nat} {rt : Option FieldType} {o fr lo ct : Nat} {ph : Bool} {tb : zTb} {ar : Nat → Nat} {C : Nat → zX} {a b h : Nat} (hy : plainFor y = true) (ho : zow o = y.cls) (hcm : ∀ i, zMono (C i)) (htv : zTv cc nL o false tb = true) (hnt : zNoT tb = true) (htc : zTc o fr lo ph ar C tb) (hct0 : ct ≠ 0)
    (hcl : Cond.classLink (zow o) ct "PackingHouse$Fault" ∈ lw_tbl) (hca : Cond.castable "PackingHouse$Fault" "PackingHouse$Fault" ∈ lw_tbl) :
    zOk y (.codeWith y cc nL rt [(a, b, h, ct)]) fr lo ph (zMe (o, rt, ph, tb, ar, C, zhd a b h) nL) := by
  refine ⟨zMe_m (M := (o, rt, ph, tb, ar, C, zhd a b h)) hcm nL, fun l G as σ K E hfl hX hcap => ?_⟩
  obtain ⟨hfit, hEx⟩ := hX
  refine MetFree.of_bodySF (code := cc) (maxLocals := nL) (ret := rt) hy ?_ ?_
  · intro args s m hh hn
    obtain ⟨m', meth, c, h0, h1, h2, h3, h4, -, h5, h6, -⟩ := Cond.codeWith_spec (atoms_spec (ws := [.codeWith y cc nL rt [(a, b, h, ct)]]) hh _ List.mem_cons_self)
    cases hn.symm.trans h0
    exact ⟨meth, c, h1, h2, h3, h4, h5, h6⟩
  · intro p e s m args below meth c s₁ B hml hP _
    obtain ⟨rfl, hW, hKn, hR, hPh⟩ := hP
    have hown : s.vm.findClass (zow o) = some m.cls := by rw [ho]; exact findClass_of_methodNamed B.named
    have hcode : (Cond.codeWith y cc nL rt [(a, b, h, ct)]).before ((as.map (zva G)).toArray) s = true := atoms_spec (ws := [.codeWith y cc nL rt [(a, b, h, ct)]]) B.pre _ List.mem_cons_self
    obtain ⟨m', meth', c', h0, h1, h2, -, -, hex, -, -, -⟩ := Cond.codeWith_spec hcode
    cases B.named.symm.trans h0
    cases B.method.symm.trans h1
    cases (Stand.of_body B).code.symm.trans h2
    obtain ⟨x, hx, x1, x2, x3, x4⟩ : ∃ x : ExceptionTableEntry, c.exceptionTable.toList = [x] ∧ x.startPc = a ∧ x.endPc = b ∧ x.handlerPc = h ∧ x.catchType = ct := by
      generalize hL : c.exceptionTable.toList = L at hex
      rcases L with _ | ⟨x, _ | ⟨z, L⟩⟩
      · simp at hex
      · simp only [List.map_cons, List.map_nil, List.cons.injEq, Prod.mk.injEq, and_true] at hex
        exact ⟨x, rfl, hex⟩
      · simp at hex
    have hcov : ∀ pc, covers x pc = (Nat.ble a pc && Nat.blt pc b) := by
      intro pc
      unfold covers
      rw [x1, x2]
      rw [Bool.eq_iff_iff]
      simp [Nat.blt_eq]
    have hct : zCt p l e (zRm fr lo (zn σ)) s m (as.map (zva G)).toArray below meth c G (zhd a b h) := by
      intro pc
      have hz : zhd a b h pc = match covers x pc with
        | true => some h
        | false => none := by rw [hcov]; rfl
      refine ⟨fun hn z hzm => ?_, fun h' hh T locs cells slots g r τ X hg hpc hR' hk hr => ?_⟩
      · rw [hx, List.mem_singleton] at hzm
        subst hzm
        rw [hz] at hn
        cases hc : covers z pc with
        | true => rw [hc] at hn; cases hn
        | false => rfl
      · rw [hz] at hh
        cases hc : covers x pc with
        | false => rw [hc] at hh; cases hh
        | true =>
          rw [hc] at hh
          cases hh
          have h10 : 10 ≤ r := by rcases zK_cases r with ⟨_, c⟩ | ⟨c1, c2, c3⟩ | ⟨c1, c2⟩ <;> omega
          obtain ⟨cell, c1, c2, c3, -⟩ := (hR'.2.2.1 r h10 hr).2 (by omega)
          rw [hk] at c2
          obtain ⟨-, hfc, kF, hkF, -⟩ := hKn.1 30 (by omega) (by omega)
          have hfc' : s.vm.findClass "PackingHouse$Fault" = some (gC G 30) := hfc
          obtain ⟨c3', c4', hc3, hc4, hasg⟩ := Cond.castable_spec (hW _ hca rfl (as.map (zva G)).toArray)
          cases hc3.symm.trans hfc'
          cases hc4.symm.trans hfc'
          obtain ⟨vm', XV, stV⟩ := zcatch X (zad G r) hg hown hx (by rw [hpc]; exact hc) (by rw [x4]; exact hct0) (by rw [x4]; exact hW _ hcl rfl _) hfc' c1 (fun k h => by rw [c3] at h; cases h) ⟨kF, by rw [c2]; exact hkF⟩ (by rw [c2]; exact hasg)
          rw [x3] at stV
          exact ⟨vm', XV, stV⟩
    have hnm := (name_of_methodNamed B.named B.method).1
    have key := hEx (zJ p l e (zRm fr lo (zn σ)) s m (as.map (zva G)).toArray below meth c nL G ph (zn σ) (zQ below G ph (zn σ) K E s)) (by
      intro pc ls st τ hst
      unfold zstep at hst
      cases ht : ztb tb pc with
      | none => simp only [ht] at hst
      | some q =>
        obtain ⟨ins, len⟩ := q
        simp only [ht] at hst
        obtain ⟨⟨v1, v2, v3, v4⟩, b, hb, hq⟩ := zTv_i htv ht
        exact zs_all hfl B.exec B.bytes hml hW hKn hR.2.2.2.2 hown B.notSynchronized B.returns (fun h => by cases h) hct v1 v2 v3 v4 (fun hat => by
          have h3 := List.all_eq_true.mp (List.all_eq_true.mp hnt b hb) _ hq
          rw [hat] at h3
          cases h3) (fun i hi => htc b hb _ hq i hi) hst) (fun pc ls ls' st τ hs hz lsc H locs a1 a2 a3 a4 a5 a6 => hz lsc H locs ⟨a1.1, a1.2.1, fun q hq => by
        obtain ⟨u, hu, rfl⟩ := List.mem_map.mp hq
        exact a1.2.2 _ (List.mem_map.mpr ⟨u, hs u hu, rfl⟩)⟩ a2 a3 a4 a5 a6)
    have hh0 : s₁.heap = s.heap := by rw [B.state]; rfl
    have hl := lv_entry (as.map (zva G)) (n := nL) (by rw [zsl_c]; exact hfit)
    rw [zargs_c] at hl
    have hw := key _ s.heap [] hl hR hPh (fun q hq => absurd hq List.not_mem_nil) (Nat.le_refl _) hcap
    rw [Nat.sub_self, Nat.sub_self] at hw
    obtain ⟨t, a1, oc, b1, b2, b3⟩ := hw s₁ hh0 (Stand.of_body B)
    refine ⟨t, oc, ?_, b1, b2, b3⟩
    rw [lg_entry_eq]
    exact a1
theorem zMdw_ok {y : MethodName} {cc : ByteArray} {nL : Nat} {rt : Option FieldType} {o fr lo ct a b h : Nat} {ph : Bool} {tb : zTb} {L : zCl} (hy : plainFor y = true) (ho : zow o = y.cls) (htv : zTv cc nL o false tb = true) (hnt : zNoT tb = true) (hk : zcKey L tb = true) (hA : zcAll o fr lo ph L) (hct0 : ct ≠ 0)
    (hcl : Cond.classLink (zow o) ct "PackingHouse$Fault" ∈ lw_tbl) (hca : Cond.castable "PackingHouse$Fault" "PackingHouse$Fault" ∈ lw_tbl) :
    zOk y (.codeWith y cc nL rt [(a, b, h, ct)]) fr lo ph (zMdw o rt ph tb L a b h nL) := zMw_ok hy ho (zcX_m hA) htv hnt (zTc_of hA hk) hct0 hcl hca
theorem zkVw {o fr lo : Nat} {ph : Bool} {i n k : Nat} {X : zX} {y : MethodName} {b : ByteArray} {rt : Option FieldType} {fY lY nY : Nat} {hs : List (Nat × Nat × Nat × Nat)} (hk : (1 ≤ k ∧ k ≤ 31) ∧ fY + 1 ≤ fr ∧ 8 + (nY + 11) + lY ≤ lo) (hOk : zOk y (.codeWith y b nY rt hs) fY lY ph X) (hc : Cond.codeWith y b nY rt hs ∈ lw_tbl) (hini : Cond.initialized y.cls ∈ lw_tbl) (hi : Cond.instanceMethod y ∈ lw_tbl) (hsel : Cond.selects (zcn k) y y ∈ lw_tbl) (hp : zpl y ∧ zna y n)
    (hl : Cond.methodLink (zow o) i y ∈ lw_tbl) : zCk o fr lo ph (zik 0 i) (n + 1) (zvt ph k X) :=
  zck_V hk.1.1 hk.1.2 hOk (zcw_with hc) (fun _ _ _ _ h1 h2 h3 => zcd_with h1 h2 h3) hini hp.1 hp.2 hk.2.1 hk.2.2 hl hi hsel

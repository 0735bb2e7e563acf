/-! PART 19, second: a static method called by the name of a class below its own -/
section ZSU
variable {Q : Unit → Pre} {E : CtlPost} {e : Env} {d : Bool} {acts : List Action} {s s₀ : State} {f : JFrame}
theorem z_wpSU {index ci n c : Nat} {m : MethodId} {dk ck : Class} {cf : ClassFile} {name desc : String} (hs : s.topJava?.isSome) (hp : e.platform.polymorphicOnlyByInvokevirtual = true)
    (hW : s₀.WarmedH s.vm) (hE : s₀.MethodEntryUp e s.vm f.method.cls index c m ci) (h1 : s₀.vm.classes[f.method.cls]? = some dk) (h2 : dk.cf = some cf)
    (h3 : cf.constantPool[index]? = some (if false then .interfaceMethodref ci n else .methodref ci n)) (h4 : cf.constantPool.nameAndType? n = some (name, desc))
    (hck : s₀.vm.classes[c]? = some ck) (hnone : (ck.methods.any fun x => x.name == name && !x.isStatic && signaturePolymorphic ck x) = false) :
    wp (Op.invokestatic.sem index) Q E e d acts (s.setTop f) ↔ wp (Op.invokestatic.sem index) Q E e d acts ((s.setVm (s.vm.calledUp f.method.cls ci index c m)).setTop f) := by
  obtain ⟨hgc, hrc, hW₁, hgm⟩ := hE.classFirst
  obtain ⟨k₀, hk₀, he₀⟩ := hW.alike.2.2 _ _ h1
  obtain ⟨k₂, hk₂, he₂⟩ := hE.warmed.alike.2.2 _ _ h1
  obtain ⟨c₁, hc₁, hec₁⟩ := hW₁.alike.2.2 _ _ hck
  obtain ⟨c₂, hc₂, hec₂⟩ := hE.warmed.alike.2.2 _ _ hck
  have hb₀ := memberRef_ask_via (e := e) (via := false) hk₀ (by rw [he₀]; exact h2) h3 h4
  have hb₂ := memberRef_ask_via (e := e) (via := false) hk₂ (by rw [he₂]; exact h2) h3 h4
  have hn₁ : (c₁.methods.any fun x => x.name == name && !x.isStatic && signaturePolymorphic c₁ x) = false := by rw [hec₁]; exact hnone
  have hn₂ : (c₂.methods.any fun x => x.name == name && !x.isStatic && signaturePolymorphic c₂ x) = false := by rw [hec₂]; exact hnone
  have hs₁ : (s.setVm (s.vm.noted f.method.cls ci (.cls c))).topJava?.isSome := hs
  have hs₂ : (s.setVm (s.vm.calledUp f.method.cls ci index c m)).topJava?.isSome := hs
  have hL : ∀ {Q' : ClassId → Pre} {d' : Bool} {acts' : List Action}, wp (Jvm.resolveClassAt ci) Q' E e d' acts' (s.setTop f) ↔ Q' c d' acts' ((s.setVm (s.vm.noted f.method.cls ci (.cls c))).setTop f) :=
    W.resolveClassAt_links (t := s.setTop f) (State.method?_setTop f hs) hgc
  have hM : ∀ {Q' : MethodId → Pre} {d' : Bool} {acts' : List Action}, wp (Jvm.resolveMethodAt index) Q' E e d' acts' ((s.setVm (s.vm.noted f.method.cls ci (.cls c))).setTop f) ↔ Q' m d' acts' ((s.setVm (s.vm.calledUp f.method.cls ci index c m)).setTop f) :=
    W.resolveMethodAt_links (t := (s.setVm (s.vm.noted f.method.cls ci (.cls c))).setTop f) (State.method?_setTop f hs₁) hgm
  simp [Op.invokestatic.sem, hp, Seam.memberRefOf, State.method?_setTop f hs, State.method?_setTop f hs₂, hb₀, hb₂, hL, W.resolveClassAt_ready (s := (s.setVm (s.vm.calledUp f.method.cls ci index c m)).setTop f) (State.method?_setTop f hs₂) hE.classReady,
    hc₁, hc₂, hn₁, hn₂, hM, W.resolveMethodAt_ready (s := (s.setVm (s.vm.calledUp f.method.cls ci index c m)).setTop f) (State.method?_setTop f hs₂) hE.ready, -Array.any_eq_true]
end ZSU
section ZSV
variable {p : Program} {l : Launch} {e : Env} {R : Room} {s : State} {m : MethodId} {args : Array Value} {below : List Frame} {meth : Method} {c : Code} {T : State} {locs : List Loc} {cells slots : Nat}
theorem zi_SU (X : Stand p l e R s m args below meth c T locs cells slots) (hexec : p.tables.exec = Jvm.exec) {own : String} {index : Nat} {x y : MethodName} {m' : MethodId} {meth' : Method} (hyx : y = ⟨y.cls, x.name, x.desc⟩) (hn : s.methodNamed? y = some m') (hm' : s.vm.method? m' = some meth')
    (hown : s.vm.findClass own = some m.cls) (hlink : (Cond.methodLink own index x).before args s = true) (hsame : (Cond.sameMethod x.cls y.cls x.name x.desc).before args s = true) (hstat : (Cond.static y).before args s = true) (hinit : (Cond.initialized y.cls).before args s = true)
    (hy : y.cls ≠ "java/lang/invoke/MethodHandle" ∧ y.cls ≠ "java/lang/invoke/VarHandle")
    {g : JFrame} (hg : g.method = m) {argsL rest : List Value} (hlen : argsL.length = meth'.sig.parameters.length)
    (hstack : g.stack = argsL.reverse ++ rest) (hdg : decode c.code g.pc = .ok (.invokestatic index, 3)) :
    zInv p l e R s m args below meth c T locs cells slots g rest argsL.toArray y := by
  have hstatic : meth'.isStatic = true := Cond.static_spec hn hm' hstat
  obtain ⟨k', hk', hnx⟩ := className_of_methodNamed hn
  have hinitP : k'.init = .initialized := Cond.initialized_spec (findClass_of_methodNamed hn) hk' hinit
  have hpl : e.platform.magicAccessors = ({} : Platform).magicAccessors := by rw [X.admits.platform]
  have hpv : e.platform.polymorphicOnlyByInvokevirtual = true := by rw [X.admits.platform]
  obtain ⟨cn, ck, r1, hcn, hck, hni, hf, hn1⟩ := Cond.sameMethod_found hsame
  rw [← hyx] at hn1
  cases hn.symm.trans hn1
  obtain ⟨ci, hl, hright⟩ := Cond.methodLink_specUp hown hcn hck hni hf hlink e.platform hpl (by rw [X.admits.platform])
  have hE : s.MethodEntryUp e T.vm m.cls index cn m' ci := State.methodEntryUp X.warmed hl hright
  obtain ⟨dk, cfile, nt, mname, mdesc, ck', _, _, hd, hcf, hcp, hnt, -, -, hck', -, hnopoly, -⟩ := hl.here
  cases hck.symm.trans hck'
  have alike := hE.warmed.alike
  obtain ⟨dk₂, hdk₂, hed₂⟩ := alike.2.2 _ _ hd
  obtain ⟨k₂, hk₂, he₂⟩ := alike.2.2 _ _ hk'
  obtain ⟨ck₂, hck₂, hec₂⟩ := alike.2.2 _ _ hck
  have hnone : (ck.methods.any fun z => z.name == mname && !z.isStatic && signaturePolymorphic ck z) = false := by simp [hnopoly]
  have hnone₂ : (ck₂.methods.any fun z => z.name == mname && !z.isStatic && signaturePolymorphic ck₂ z) = false := by rw [hec₂]; exact hnone
  have hpk : signaturePolymorphic k₂ meth' = false := by
    have e1 : k₂.name = y.cls := by rw [he₂]; exact hnx
    unfold signaturePolymorphic
    rw [e1]
    simp [hy.1, hy.2]
  have X' := X.noted hE.warmed
  refine ⟨T.vm.calledUp m.cls ci index cn m', m', X'.warmed, X', X'.named hn, fun target hrest => ?_⟩
  subst hg
  jvm_step X.here [hexec, hdg, z_wpSU (e := e) (s := T) (s₀ := s) (f := g) X.here.top hpv X.warmed hE hd hcf (by simpa using hcp) hnt hck hnone,
    Op.invokestatic.wp_ready (e := e) (s := T.setVm (T.vm.calledUp g.method.cls ci index cn m')) (k := k₂) (meth := meth') (m := m') (args := argsL) (rest := rest) (f := g)
      X.here.top ⟨ci, mname, mdesc, false, cn, ck₂, memberRef_ask_via (e := e) (via := false) hdk₂ (by rw [hed₂]; exact hcf) (by simpa using hcp) hnt, hE.classReady, hck₂, hnone₂⟩ hE.ready hk₂
      (by show (T.vm.calledUp g.method.cls ci index cn m').method? m' = some meth'; rw [alike.method?]; exact hm') hpk hstatic (by rw [he₂]; exact hinitP) hlen hstack]
  intro acts
  rw [doInvoke_state]
  exact hrest
end ZSV
theorem zkSU {o fr lo : Nat} {ph : Bool} {i n : Nat} {X : zX} {x y : MethodName} {b : ByteArray} {rt : Option FieldType} {fY lY nY : Nat} (f : zfS y b nY rt n) (hk : fY + 1 ≤ fr ∧ 8 + (nY + 11) + lY ≤ lo) (hOk : zOk y (.code y b nY rt) fY lY ph X) (hyx : y = ⟨y.cls, x.name, x.desc⟩) (hl : Cond.methodLink (zow o) i x ∈ lw_tbl) (hsm : Cond.sameMethod x.cls y.cls x.name x.desc ∈ lw_tbl) : zCk o fr lo ph (zik 2 i) n X := by
  intro p l e s m args below meth c G n0 T locs σ as K E g rest hfl hx hW hKn hZz hown hX hR hP h1 h2 hXX hn hg hsize hmr hst hrest hdg
  obtain ⟨mk, methM, hnamed, hmethM⟩ := znm_code f.1 s hW
  refine z_callJ hfl hW hKn hX hR hP h1 h2 hOk hXX (zcw_code f.1) f.2.2.1 ?_ hg hsize hmr hrest hdg hk.1 hk.2
  have hcd := zcd_code (hW _ f.1 rfl args) hnamed hmethM
  have := zna_i f.2.2.2.2 hcd
  exact zi_SU hX hx (argsL := as.map (zva G)) hyx hnamed hmethM hown (hW _ hl rfl args) (hW _ hsm rfl args) (hW _ f.2.1 rfl args) (hW _ f.2.2.1 rfl args) f.2.2.2.1 hg (by rw [List.length_map, hn, this]) hst hdg
theorem zkU {o fr lo : Nat} {ph : Bool} {i n k : Nat} {X : zX} {x y : MethodName} {b : ByteArray} {rt : Option FieldType} {fY lY nY : Nat} (hk : (1 ≤ k ∧ k ≤ 31) ∧ fY + 1 ≤ fr ∧ 8 + (nY + 11) + lY ≤ lo) (hOk : zOk y (.code y b nY rt) fY lY ph X) (hc : Cond.code y b nY rt ∈ lw_tbl) (hini : Cond.initialized y.cls ∈ lw_tbl) (hi : Cond.instanceMethod y ∈ lw_tbl) (hp : zpl x ∧ zna x n)
    (hl : Cond.methodLink (zow o) i x ∈ lw_tbl) (hsm : Cond.sameMethod x.cls x.cls x.name x.desc ∈ lw_tbl) (hd : ∀ s : State, zWd s → va_Decl s x) (hs : Cond.selects (zcn k) x y ∈ lw_tbl) : zCk o fr lo ph (zik 0 i) (n + 1) (zvt ph k X) :=
  zck_U hk.1.1 hk.1.2 hOk (zcw_code hc) hini hp.1 hp.2 hk.2.1 hk.2.2 hl hsm hd hi hs

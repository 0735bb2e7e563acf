/-! PART 16: the meaning of a method out of its table is what the machine does -/
/-- an exception that arises at pc goes on in the handler -/
def zCt (p : Program) (l : Launch) (e : Env) (R : Room) (s : State) (m : MethodId) (args : Array Value) (below : List Frame) (meth : Method) (c : Code) (G : zG) (hd : Nat → Option Nat) : Prop :=
  ∀ pc, (hd pc = none → ∀ x ∈ c.exceptionTable.toList, covers x pc = false) ∧
    ∀ h, hd pc = some h → ∀ (T : State) (locs : List Loc) (cells slots : Nat) (g : JFrame) (r : Nat) (σ : zS), Stand p l e R s m args below meth c T locs cells slots → g.method = m → g.pc = pc → zRel G s σ T.heap → zK r = 30 → r < zn σ →
      ∃ vm', Stand p l e R s m args below meth c (T.setVm vm') locs cells slots ∧ ∀ target, Steps p.tables e below ((T.setVm vm').setTop { g with pc := h, stack := [.ref (zad G r)] }) target → Steps p.tables e below ((T.setTop g).pushFrame (.throwing (zad G r))) target
section ZF
variable {p : Program} {l : Launch} {e : Env} {s : State} {m : MethodId} {args : Array Value} {below : List Frame} {meth : Method} {c : Code} {nL : Nat} {G : zG} {ph : Bool} {n0 : Nat} {cc : ByteArray} {fr lo : Nat}
theorem zs_inv {o : Nat} (hfl : l.flags = flags0) (hx : p.tables.exec = Jvm.exec) (hb : c.code = cc) (hml : c.maxLocals = nL) (hW : zWd s) (hKn : zKn G s) (hZz : zZs G s s.heap) (hown : s.vm.findClass (zow o) = some m.cls) (hlk : meth.locks = false) {hd' : Nat → Option Nat} (hct : zCt p l e (zRm fr lo n0) s m args below meth c G hd') {ar : Nat → Nat} {C : Nat → zX} {ins : Instr} {i pc : Nat} {ls : zLs} {st : List Value} {σ : zS} {K : zKt} {E : zEt}
    (hd : decode cc pc = .ok (ins, 3)) (hck : zCk o fr lo ph ins (ar i) (C i)) (h : zinv ar C hd' E (zJ p l e (zRm fr lo n0) s m args below meth c nL G ph n0 (zQ below G ph n0 K E s)) i pc ls st σ) : zJ p l e (zRm fr lo n0) s m args below meth c nL G ph n0 (zQ below G ph n0 K E s) pc ls st σ := by
  intro lsc H locs a1 a2 a3 a4 a5 a6 T hT X
  unfold zinv at h
  cases hbb : Nat.ble (ar i) st.length && Nat.ble ((st.drop (ar i)).map (fun v => v.category)).sum 8 with
  | false => rw [hbb] at h; exact h.elim
  | true =>
    rw [hbb] at h
    rw [Bool.and_eq_true, Nat.ble_eq, Nat.ble_eq] at hbb
    subst hT
    have hstk : st.map (zva G) = (((st.take (ar i)).reverse).map (zva G)).reverse ++ (st.drop (ar i)).map (zva G) := by
      rw [← List.map_reverse, List.reverse_reverse, ← List.map_append, List.take_append_drop]
    have hsum : (((st.drop (ar i)).map (zva G)).map fun v => v.category).sum ≤ 8 := by
      rw [List.map_map]
      have : ((fun v : Value => v.category) ∘ zva G) = fun v => v.category := by funext v; exact zva_cat G v
      rw [this]
      exact hbb.2
    obtain ⟨oc, τ, U', L, q1, q2, q3, q4, q5, q6, q7, q8⟩ := hck p l e s m args below meth c G n0 T locs σ _ _ _ (F0 m pc lsc (st.map (zva G))) ((st.drop (ar i)).map (zva G)) hfl hx hW hKn hZz hown X a2 a3 a5 a6 h (by rw [List.length_reverse, List.length_take]; omega) rfl (by rw [hml]; exact a1.1) rfl hstk hsum (by rw [hb]; exact hd)
    have hL : ∀ q ∈ locs ++ L, g0 G ≤ q.base := by
      intro q hq
      rcases List.mem_append.mp hq with hq | hq
      · exact a4 q hq
      · exact q4 q hq
    cases oc with
    | returned v =>
      obtain ⟨v', rfl, q9⟩ := q1
      obtain ⟨t, b1, b2⟩ := q9 lsc U'.heap (locs ++ L) a1 q2 q3 hL q5 q6 U' rfl q7
      refine ⟨t, q8.trans ?_, b2⟩
      have e1 : (v'.toList ++ st.drop (ar i)).map (zva G) = (v'.map (zva G)).toList ++ (st.drop (ar i)).map (zva G) := by
        rw [List.map_append]
        cases v' <;> rfl
      rw [e1] at b1
      exact b1
    | threw x =>
      obtain ⟨r, rfl, q9, q10, q11⟩ := q1
      unfold zexc at q11
      cases hh : hd' pc with
      | none =>
        rw [hh] at q11
        obtain ⟨t, b1, b2⟩ := zs_leave (g := { (F0 m pc lsc (st.map (zva G))) with stack := (st.drop (ar i)).map (zva G) }) (K := K) rfl q7 q2 q3 q5 q6 hL q9 q10 q11 hlk rfl rfl rfl ((hct pc).1 hh)
        exact ⟨t, q8.trans b1, b2⟩
      | some hp =>
        rw [hh] at q11
        obtain ⟨vm', X2, b1⟩ := (hct pc).2 hp hh U' _ _ _ { (F0 m pc lsc (st.map (zva G))) with stack := (st.drop (ar i)).map (zva G) } r τ q7 rfl rfl q2 q9 q10
        have h10 : r ≠ 0 := by intro e; rw [e] at q9; exact absurd q9 (by decide)
        obtain ⟨t, b2, b3⟩ := q11 lsc U'.heap (locs ++ L) a1 q2 q3 hL q5 q6 (U'.setVm vm') rfl X2
        refine ⟨t, q8.trans (b1 t ?_), b3⟩
        have e1 : [Value.ref r].map (zva G) = [.ref (zad G r)] := by rw [List.map_cons, zva_ref G h10]; rfl
        rw [e1] at b2
        exact b2
/-- every instruction -/
theorem zs_all {o : Nat} {rt : Option FieldType} {ini : Bool} (hfl : l.flags = flags0) (hx : p.tables.exec = Jvm.exec) (hb : c.code = cc) (hml : c.maxLocals = nL) (hW : zWd s) (hKn : zKn G s) (hZz : zZs G s s.heap) (hown : s.vm.findClass (zow o) = some m.cls) (hlk : meth.locks = false) (hr : meth.sig.returnType = rt) (hini : ini = true → meth.name = "<init>")
    {hd' : Nat → Option Nat} (hct : zCt p l e (zRm fr lo n0) s m args below meth c G hd') {ar : Nat → Nat} {C : Nat → zX} {ins : Instr} {len pc : Nat} {ls : zLs} {st : List Value} {σ : zS} {K : zKt} {E : zEt}
    (hd : decode cc pc = .ok (ins, len)) (hlen : zlenOK ins len = true) (hrng : zrngOK nL pc ins = true) (hpf : zpfOK o ini ins = true) (hth : ins = .athrow → hd' pc = none)
    (hck : ∀ i, (ins = .invokevirtual i ∨ ins = .invokespecial i ∨ ins = .invokestatic i) → zCk o fr lo ph ins (ar i) (C i))
    (h : zins o rt ph ar C hd' K E (zJ p l e (zRm fr lo n0) s m args below meth c nL G ph n0 (zQ below G ph n0 K E s)) ins len pc ls st σ) : zJ p l e (zRm fr lo n0) s m args below meth c nL G ph n0 (zQ below G ph n0 K E s) pc ls st σ := by
  by_cases hpl : zplain ins = true
  · exact zs_plain hx hb hpl hlen hrng hd h
  · cases ins
    case getstatic i =>
      obtain rfl : len = 3 := by simpa [zlenOK] using hlen
      obtain ⟨v, q1, q2⟩ := zoc_i h
      exact zs_gets hx hb hW hown hd q1 q2
    case ldc i =>
      obtain rfl : len = 2 := by simpa [zlenOK] using hlen
      cases hs : zstr o i with
      | some r =>
        have h : zod (zstr o i) _ _ := h
        rw [hs] at h
        exact zs_ldcS hx hb hKn hown hd hs h
      | none =>
        have h : zod (zstr o i) _ _ := h
        rw [hs] at h
        obtain ⟨v, q1, q2⟩ := zoc_i h
        exact zs_ldc hx hb hW hown hd q1 q2
    case ldc_w i =>
      obtain rfl : len = 3 := by simpa [zlenOK] using hlen
      obtain ⟨v, q1, q2⟩ := zoc_i h
      exact zs_ldcw hx hb hW hown hd q1 q2
    case ldc2_w i =>
      obtain rfl : len = 3 := by simpa [zlenOK] using hlen
      obtain ⟨v, q1, q2⟩ := zoc_i h
      exact zs_ldc2 hx hb hW hown hd q1 q2
    case if_acmp cnd off =>
      obtain rfl : len = 3 := by simpa [zlenOK] using hlen
      obtain ⟨a, b, r, rfl, q0, q1⟩ := zp2R_i h
      exact zs_acmp hx hb hd (by simpa [zrngOK] using hrng) q0 q1
    case arraylength =>
      obtain rfl : len = 1 := by simpa [zlenOK] using hlen
      obtain ⟨a, r, rfl, q1⟩ := zp1R_i h
      unfold zbl at q1
      cases ho : o == zLaw with
      | true => rw [ho] at q1; exact zs_slen hx hb hd q1
      | false => rw [ho] at q1; exact zs_alen hx hb hKn hd q1
    case iaload =>
      obtain rfl : len = 1 := by simpa [zlenOK] using hlen
      obtain ⟨a, j, r, rfl, q1⟩ := zpRI_i h
      unfold zbl at q1
      cases ho : o == zLaw with
      | true => rw [ho] at q1; exact zs_sald hx hb hd q1
      | false => rw [ho] at q1; exact zs_iald hx hb hKn hd q1
    case baload =>
      obtain rfl : len = 1 := by simpa [zlenOK] using hlen
      obtain ⟨a, j, r, rfl, q1⟩ := zpRI_i h
      exact zs_bald hx hb hKn hd q1
    case laload =>
      obtain rfl : len = 1 := by simpa [zlenOK] using hlen
      obtain ⟨a, j, r, rfl, q1⟩ := zpRI_i h
      exact zs_lald hx hb hKn hd q1
    case aaload =>
      obtain rfl : len = 1 := by simpa [zlenOK] using hlen
      obtain ⟨a, j, r, rfl, q1⟩ := zpRI_i h
      exact zs_aald hx hb hKn hd q1
    case iastore =>
      obtain rfl : len = 1 := by simpa [zlenOK] using hlen
      obtain ⟨a, j, x, r, rfl, q1⟩ := zpRII_i h
      exact zs_iast hx hb hKn hd q1
    case bastore =>
      obtain rfl : len = 1 := by simpa [zlenOK] using hlen
      obtain ⟨a, j, x, r, rfl, q1⟩ := zpRII_i h
      exact zs_bast hx hb hKn hd q1
    case lastore =>
      obtain rfl : len = 1 := by simpa [zlenOK] using hlen
      obtain ⟨a, j, x, r, rfl, q1⟩ := zpRIL_i h
      exact zs_last hx hb hKn hd q1
    case aastore =>
      obtain rfl : len = 1 := by simpa [zlenOK] using hlen
      obtain ⟨a, j, x, r, rfl, q1⟩ := zpRIR_i h
      refine fun lsc H locs a1 a2 a3 a4 a5 a6 => zs_aast hx hb hKn hW hd q1 (fun hP => zPh_wR ?_ hP) lsc H locs a1 a2 a3 a4 a5 a6
      have hk := (zalo_i (zalo_i q1 a3).1 a3).1.1
      rw [ztg_big (by omega)]
      decide
    case getfield i =>
      obtain rfl : len = 3 := by simpa [zlenOK] using hlen
      obtain ⟨⟨k, f, n⟩, q1, q2⟩ := zoc_i h
      obtain ⟨a, r, rfl, q3⟩ := zp1R_i q2
      exact zs_getf hx hb hKn hW hown hd q1 q3
    case putfield i =>
      obtain rfl : len = 3 := by simpa [zlenOK] using hlen
      obtain ⟨⟨k, f, n⟩, q1, q2⟩ := zoc_i h
      exact zs_putf hx hb hKn hW hown hini hd q1 hpf q2
    case new i =>
      obtain rfl : len = 3 := by simpa [zlenOK] using hlen
      obtain ⟨⟨k, a⟩, q1, q2, q3, q4⟩ := zoc_i h
      exact zs_new hx hb hKn hW hown rfl rfl hd q1 q2 q3 q4
    case newarray t =>
      obtain rfl : len = 2 := by simpa [zlenOK] using hlen
      obtain ⟨n, r, rfl, q1, q2, q3, q4, q5⟩ := zp1I_i h
      exact zs_newa hx hb hKn hW rfl rfl hd q1 q2 q3 q4 q5
    case anewarray i =>
      obtain rfl : len = 3 := by simpa [zlenOK] using hlen
      obtain ⟨⟨k, a⟩, q1, q2⟩ := zoc_i h
      obtain ⟨n, r, rfl, q3, q4, q5, q6, q7⟩ := zp1I_i q2
      exact zs_anew hx hb hKn hW hown rfl rfl hd q1 q3 q4 q5 q6 q7
    case invokevirtual i =>
      obtain rfl : len = 3 := by simpa [zlenOK] using hlen
      exact zs_inv hfl hx hb hml hW hKn hZz hown hlk hct hd (hck i (Or.inl rfl)) h
    case invokespecial i =>
      obtain rfl : len = 3 := by simpa [zlenOK] using hlen
      exact zs_inv hfl hx hb hml hW hKn hZz hown hlk hct hd (hck i (Or.inr (Or.inl rfl))) h
    case invokestatic i =>
      obtain rfl : len = 3 := by simpa [zlenOK] using hlen
      exact zs_inv hfl hx hb hml hW hKn hZz hown hlk hct hd (hck i (Or.inr (Or.inr rfl))) h
    case ireturn =>
      obtain rfl : len = 1 := by simpa [zlenOK] using hlen
      exact zs_ireturn hx hb hlk hr hd h
    case lreturn =>
      obtain rfl : len = 1 := by simpa [zlenOK] using hlen
      exact zs_lreturn hx hb hlk hr hd h
    case areturn =>
      obtain rfl : len = 1 := by simpa [zlenOK] using hlen
      exact zs_areturn hx hb hlk hr hd h
    case return_ =>
      obtain rfl : len = 1 := by simpa [zlenOK] using hlen
      exact zs_return hx hb hlk hr hd h
    case athrow =>
      obtain rfl : len = 1 := by simpa [zlenOK] using hlen
      obtain ⟨a, r, rfl, q1, q2, q3⟩ := zp1R_i h
      have hn := hth rfl
      unfold zexc at q3
      rw [hn] at q3
      exact zs_athrow hx hb hlk hd ((hct pc).1 hn) q1 q2 q3
    all_goals first | exact absurd rfl hpl | exact h.elim
end ZF
/-- a method's table is right -/
def zTv (cc : ByteArray) (nL o : Nat) (ini : Bool) (tb : zTb) : Bool := tb.all (fun b => b.all (fun q => decide (decode cc q.1 = .ok (q.2.1, q.2.2)) && zlenOK q.2.1 q.2.2 && zrngOK nL q.1 q.2.1 && zpfOK o ini q.2.1))
theorem zTv_i {cc : ByteArray} {nL o : Nat} {ini : Bool} {tb : zTb} (h : zTv cc nL o ini tb = true) {pc : Nat} {ins : Instr} {len : Nat} (ht : ztb tb pc = some (ins, len)) :
    (decode cc pc = .ok (ins, len) ∧ zlenOK ins len = true ∧ zrngOK nL pc ins = true ∧ zpfOK o ini ins = true) ∧ ∃ b ∈ tb, (pc, ins, len) ∈ b := by
  unfold ztb at ht
  obtain ⟨q, hq, h2⟩ := Option.map_eq_some_iff.mp ht
  have hm := List.mem_of_find?_eq_some hq
  have hi : q.1 = pc := by have := List.find?_some hq; simpa using this
  have ho : tb.getD (pc / 8) [] ∈ tb := by
    rw [List.getD_eq_getElem?_getD]
    cases hg : tb[pc / 8]? with
    | none => rw [List.getD_eq_getElem?_getD, hg] at hm; exact absurd hm List.not_mem_nil
    | some b => exact List.mem_of_getElem? hg
  have h3 := List.all_eq_true.mp (List.all_eq_true.mp h _ ho) q hm
  obtain ⟨q1, q2, q3⟩ := q
  simp only [Prod.mk.injEq] at h2
  obtain ⟨rfl, rfl⟩ := h2
  simp only at hi
  subst hi
  simp only [Bool.and_eq_true, decide_eq_true_eq] at h3
  exact ⟨⟨h3.1.1.1, h3.1.1.2, h3.1.2, h3.2⟩, _, ho, hm⟩
theorem zargs_c (G : zG) : ∀ (as : List Value) (i : Nat), lv_args i (as.map (zva G)) = (lv_args i as).map (zvl G)
  | [], _ => rfl
  | v :: as, i => by
    show (i, zva G v) :: lv_args (if (zva G v).category = 2 then i + 2 else i + 1) (as.map (zva G)) = (i, zva G v) :: (lv_args (if v.category = 2 then i + 2 else i + 1) as).map (zvl G)
    rw [zva_cat, zargs_c G as]
theorem zsl_c (G : zG) : ∀ (as : List Value), (lg_sl (as.map (zva G))).length = (lg_sl as).length
  | [] => rfl
  | v :: as => by
    have ih := zsl_c G as
    unfold lg_sl at ih ⊢
    simp only [List.map_cons, List.flatMap_cons, List.length_append, zva_cat, ih]
    split <;> rfl
/-- the calls of a method are right -/
def zTc (o fr lo : Nat) (ph : Bool) (ar : Nat → Nat) (C : Nat → zX) (tb : zTb) : Prop := ∀ b ∈ tb, ∀ q ∈ b, ∀ i, (q.2.1 = .invokevirtual i ∨ q.2.1 = .invokespecial i ∨ q.2.1 = .invokestatic i) → zCk o fr lo ph q.2.1 (ar i) (C i)
theorem zMe_ok {y : MethodName} {cc : ByteArray} {nL : Nat} {rt : Option FieldType} {o fr lo : Nat} {ph ini : Bool} {tb : zTb} {ar : Nat → Nat} {C : Nat → zX} (hy : plainFor y = true) (ho : zow o = y.cls) (hini : ini = true → y.name = "<init>") (hcm : ∀ i, zMono (C i)) (htv : zTv cc nL o ini tb = true) (htc : zTc o fr lo ph ar C tb) :
    zOk y (.code y cc nL rt) fr lo ph (zMe (o, rt, ph, tb, ar, C, fun _ => none) nL) := by
  refine ⟨zMe_m (M := (o, rt, ph, tb, ar, C, fun _ => none)) hcm nL, fun l G as σ K E hfl hX hcap => ?_⟩
  obtain ⟨hfit, hEx⟩ := hX
  refine MetFree.of_bodySF (code := cc) (maxLocals := nL) (ret := rt) hy ?_ ?_
  · intro args s m h hn
    obtain ⟨meth, c, h1, h2, h3, h4, h5, h6, -, -⟩ := Cond.code_spec hn (atoms_spec (ws := [.code y cc nL rt]) h _ List.mem_cons_self)
    exact ⟨meth, c, h1, h2, h3, h4, h5, h6⟩
  · intro p e s m args below meth c s₁ B hml hP _
    obtain ⟨rfl, hW, hKn, hR, hPh⟩ := hP
    have hown : s.vm.findClass (zow o) = some m.cls := by rw [ho]; exact findClass_of_methodNamed B.named
    have hcode : (Cond.code y cc nL rt).before ((as.map (zva G)).toArray) s = true := atoms_spec (ws := [.code y cc nL rt]) B.pre _ List.mem_cons_self
    have hemp := B.noHandlers hcode
    have hct : zCt p l e (zRm fr lo (zn σ)) s m (as.map (zva G)).toArray below meth c G (fun _ => none) := by
      intro pc
      refine ⟨fun _ x hx => ?_, fun h hh => by cases hh⟩
      have : c.exceptionTable.toList = [] := by simpa using hemp
      rw [this] at hx
      exact absurd hx List.not_mem_nil
    have hnm := (name_of_methodNamed B.named B.method).1
    have key := hEx (zJ p l e (zRm fr lo (zn σ)) s m (as.map (zva G)).toArray below meth c nL G ph (zn σ) (zQ below G ph (zn σ) K E s)) (by
      intro pc ls st τ hst
      unfold zstep at hst
      cases ht : ztb tb pc with
      | none => simp only [ht] at hst
      | some q =>
        obtain ⟨ins, len⟩ := q
        simp only [ht] at hst
        obtain ⟨⟨v1, v2, v3, v4⟩, b, hb, hq⟩ := zTv_i htv ht
        exact zs_all hfl B.exec B.bytes hml hW hKn hR.2.2.2.2 hown B.notSynchronized B.returns (fun h => hnm.trans (hini h)) hct v1 v2 v3 v4 (fun _ => rfl) (fun i hi => htc b hb _ hq i hi) hst) (fun pc ls ls' st τ hs hz lsc H locs a1 a2 a3 a4 a5 a6 => hz lsc H locs ⟨a1.1, a1.2.1, fun q hq => by
        obtain ⟨u, hu, rfl⟩ := List.mem_map.mp hq
        exact a1.2.2 _ (List.mem_map.mpr ⟨u, hs u hu, rfl⟩)⟩ a2 a3 a4 a5 a6)
    have hh0 : s₁.heap = s.heap := by rw [B.state]; rfl
    have hl := lv_entry (as.map (zva G)) (n := nL) (by rw [zsl_c]; exact hfit)
    rw [zargs_c] at hl
    have hw := key _ s.heap [] hl hR hPh (fun q hq => absurd hq List.not_mem_nil) (Nat.le_refl _) hcap
    rw [Nat.sub_self, Nat.sub_self] at hw
    obtain ⟨t, a1, oc, b1, b2, b3⟩ := hw s₁ hh0 (Stand.of_body B)
    refine ⟨t, oc, ?_, b1, b2, b3⟩
    rw [lg_entry_eq]
    exact a1

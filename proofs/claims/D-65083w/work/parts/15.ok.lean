/-! PART 15: a method's meaning is what the machine does; calls by it -/
def zRm (fr lo n0 : Nat) : Room := { frames := fr, cells := zCap - n0, slots := zsl zCap - zsl n0, locals := lo }
def zPre (G : zG) (ph : Bool) (as : List Value) (σ : zS) : Array Value → State → Prop := fun v U => v = (as.map (zva G)).toArray ∧ zWd U ∧ zKn G U ∧ zRel G U σ U.heap ∧ zPh ph σ
/-- X says what method y does, in fr frames and lo words -/
def zOk (y : MethodName) (w : Cond) (fr lo : Nat) (ph : Bool) (X : zX) : Prop := zMono X ∧ ∀ (l : Launch) (G : zG) (as : List Value) (σ : zS) (K : zKt) (E : zEt), l.flags = flags0 → X as σ K E → zn σ ≤ zCap →
  MetFree l y (headSpec [w] (zRm fr lo (zn σ))) (zPre G ph as σ) (fun _ _ _ _ _ => True) (fun _ st o t => zPost G ph (zn σ) K E st o t)
/-- a word that tells a method's code -/
def zcw (y : MethodName) (nY : Nat) (w : Cond) : Prop := zgood w = true ∧ w ∈ lw_tbl ∧ ∀ (U : State) (A : Array Value) (mk : MethodId), w.before A U = true → U.methodNamed? y = some mk → ∃ methY cY, U.vm.method? mk = some methY ∧ methY.code = some cY ∧ cY.maxLocals = nY
theorem zcw_code {y : MethodName} {b : ByteArray} {n : Nat} {r : Option FieldType} (h : Cond.code y b n r ∈ lw_tbl) : zcw y n (.code y b n r) := by
  refine ⟨rfl, h, fun U A mk h1 h2 => ?_⟩
  obtain ⟨meth, c, q1, q2, -, q3, -⟩ := Cond.code_spec h2 h1
  exact ⟨meth, c, q1, q2, q3⟩
theorem zcw_with {y : MethodName} {b : ByteArray} {n : Nat} {r : Option FieldType} {hs : List (Nat × Nat × Nat × Nat)} (h : Cond.codeWith y b n r hs ∈ lw_tbl) : zcw y n (.codeWith y b n r hs) := by
  refine ⟨rfl, h, fun U A mk h1 h2 => ?_⟩
  obtain ⟨m', meth, c, q0, q1, q2, -, q3, -⟩ := Cond.codeWith_spec h1
  cases h2.symm.trans q0
  exact ⟨meth, c, q1, q2, q3⟩
/-- at the machine, what X says of a call is what comes -/
def zCk (o fr lo : Nat) (ph : Bool) (ins : Instr) (n : Nat) (X : zX) : Prop := ∀ (p : Program) (l : Launch) (e : Env) (s : State) (m : MethodId) (args : Array Value) (below : List Frame) (meth : Method) (c : Code) (G : zG) (n0 : Nat) (T : State) (locs : List Loc) (σ : zS) (as : List Value) (K : zKt) (E : zEt) (g : JFrame) (rest : List Value),
  l.flags = flags0 → p.tables.exec = Jvm.exec → zWd s → zKn G s → zZs G s s.heap → s.vm.findClass (zow o) = some m.cls → Stand p l e (zRm fr lo n0) s m args below meth c T locs (zn σ - n0) (zsl (zn σ) - zsl n0) → zRel G s σ T.heap → zPh ph σ → n0 ≤ zn σ → zn σ ≤ zCap → X as σ K E → as.length = n →
  g.method = m → g.locals.size = c.maxLocals → g.monitorRoom = 0 → g.stack = (as.map (zva G)).reverse ++ rest → (rest.map fun v => v.category).sum ≤ 8 → decode c.code g.pc = .ok (ins, 3) →
  ∃ (oc : Outcome) (τ : zS) (U' : State) (L : List Loc), zOut G K E oc τ ∧ zRel G s τ U'.heap ∧ zPh ph τ ∧ (∀ q ∈ L, g0 G ≤ q.base) ∧ n0 ≤ zn τ ∧ zn τ ≤ zCap ∧ Stand p l e (zRm fr lo n0) s m args below meth c U' (locs ++ L) (zn τ - n0) (zsl (zn τ) - zsl n0) ∧
    Steps p.tables e below (T.setTop g) (match oc with
      | .returned v => U'.setTop { g with pc := g.pc + 3, stack := v.toList ++ rest }
      | .threw x => (U'.setTop { g with stack := rest }).pushFrame (.throwing x))
section ZD
variable {p : Program} {l : Launch} {e : Env} {s : State} {m : MethodId} {args : Array Value} {below : List Frame} {meth : Method} {c : Code} {G : zG} {ph : Bool} {n0 : Nat} {T : State} {locs : List Loc} {σ : zS} {as : List Value} {K : zKt} {E : zEt} {g : JFrame} {rest : List Value} {fr lo : Nat}
theorem z_callJ {ins : Instr} (hfl : l.flags = flags0) (hW : zWd s) (hKn : zKn G s) (X : Stand p l e (zRm fr lo n0) s m args below meth c T locs (zn σ - n0) (zsl (zn σ) - zsl n0)) (hR : zRel G s σ T.heap) (hP : zPh ph σ) (h1 : n0 ≤ zn σ) (h2 : zn σ ≤ zCap)
    {y : MethodName} {w : Cond} {fY lY nY : Nat} {X' : zX} (hOk : zOk y w fY lY ph X') (hX : X' as σ K E) (hcw : zcw y nY w) (hini : Cond.initialized y.cls ∈ lw_tbl) (hinv : zInv p l e (zRm fr lo n0) s m args below meth c T locs (zn σ - n0) (zsl (zn σ) - zsl n0) g rest (as.map (zva G)).toArray y)
    (hg : g.method = m) (hsize : g.locals.size = c.maxLocals) (hmr : g.monitorRoom = 0) (hrest : (rest.map fun v => v.category).sum ≤ 8) (hdg : decode c.code g.pc = .ok (ins, 3)) (hfr : fY + 1 ≤ fr) (hlo : 8 + (nY + 11) + lY ≤ lo) :
    ∃ (oc : Outcome) (τ : zS) (U' : State) (L : List Loc), zOut G K E oc τ ∧ zRel G s τ U'.heap ∧ zPh ph τ ∧ (∀ q ∈ L, g0 G ≤ q.base) ∧ n0 ≤ zn τ ∧ zn τ ≤ zCap ∧ Stand p l e (zRm fr lo n0) s m args below meth c U' (locs ++ L) (zn τ - n0) (zsl (zn τ) - zsl n0) ∧
    Steps p.tables e below (T.setTop g) (match oc with
      | .returned v => U'.setTop { g with pc := g.pc + 3, stack := v.toList ++ rest }
      | .threw x => (U'.setTop { g with stack := rest }).pushFrame (.throwing x)) := by
  obtain ⟨vm₁, mk, w1, X1, hn, hstep⟩ := hinv
  obtain ⟨g1, g2, g3⟩ := hcw
  have hWU : zWd (T.setVm vm₁) := zWd_warm (U := T.setVm vm₁) w1 hW
  obtain ⟨methY, cY, hmY, hcY, hnY⟩ := g3 (T.setVm vm₁) #[] mk (hWU w g2 g1 #[]) hn
  have hsl := zsl_le h1
  have hsl2 := zsl_le h2
  obtain ⟨o, t, hQ, hfin⟩ := z_call (U := T.setVm vm₁) X1 (g := { g with stack := rest }) (hOk.2 l G as σ K E hfl hX h2) hg hsize hdg hn hmY hcY (hWU _ hini rfl _) (atoms_intro (ws := [w]) (fun v hv => by rw [List.mem_singleton] at hv; subst hv; exact hWU _ g2 g1 _)) hfr
    (by show 2 * g.monitorRoom + (rest.map fun v => v.category).sum + (cY.maxLocals + 11) + lY ≤ lo; rw [hmr, hnY]; omega) (by show zn σ - n0 + (zCap - zn σ) ≤ zCap - n0; omega) (by show zsl (zn σ) - zsl n0 + (zsl zCap - zsl (zn σ)) ≤ zsl zCap - zsl n0; omega)
    ⟨rfl, zWd_warm (U := (T.setVm vm₁).calling { g with stack := rest } mk (as.map (zva G)).toArray) w1 hW, zKn_warm (U := (T.setVm vm₁).calling { g with stack := rest } mk (as.map (zva G)).toArray) w1 hKn, zRel_U w1.alike hR, hP⟩
    (fun o t ⟨τ, q1, q2, q3, q4, q5, q6, L, q7, q8⟩ => ⟨q6, L, _, _, q8⟩)
  obtain ⟨τ, q1, q2, q3, q4, q5, q6, L, q7, q8⟩ := hQ
  obtain ⟨U', u1, u2, u3, u4⟩ := hfin L _ _ q8
  have hal : t.vm.Alike s.vm := by rw [← u2]; exact u3.warmed.alike.symm
  have hsl3 := zsl_le q4
  have e1 : zn σ - n0 + (zn τ - zn σ) = zn τ - n0 := by omega
  have e2 : zsl (zn σ) - zsl n0 + (zsl (zn τ) - zsl (zn σ)) = zsl (zn τ) - zsl n0 := by omega
  rw [e1, e2] at u3
  exact ⟨o, τ, U', L, q1, by rw [u1]; exact zRel_U hal q2, q3, q7, Nat.le_trans h1 q4, q5, u3, hstep _ u4⟩
end ZD
abbrev zpl (y : MethodName) : Prop := y.cls ≠ "java/lang/invoke/MethodHandle" ∧ y.cls ≠ "java/lang/invoke/VarHandle"
/-- how many arguments the descriptor has (without a receiver) -/
abbrev zna (y : MethodName) (n : Nat) : Prop := (parseMethodDescriptor y.desc).map (fun d => d.parameters.length) = some n
theorem zna_i {y : MethodName} {n : Nat} (h : zna y n) {sig : MethodDescriptor} (hs : parseMethodDescriptor y.desc = some sig) : n = sig.parameters.length := by
  have h : (parseMethodDescriptor y.desc).map (fun d => d.parameters.length) = some n := h
  rw [hs] at h
  exact (Option.some.inj h).symm
/-- the code word tells the descriptor -/
theorem zcd_code {y : MethodName} {b : ByteArray} {n : Nat} {r : Option FieldType} {U : State} {A : Array Value} {mk : MethodId} {methM : Method} (h1 : (Cond.code y b n r).before A U = true) (h2 : U.methodNamed? y = some mk) (h3 : U.vm.method? mk = some methM) : parseMethodDescriptor y.desc = some methM.sig := by
  obtain ⟨meth, c, q1, -, -, -, -, -, -, q⟩ := Cond.code_spec h2 h1
  cases h3.symm.trans q1
  exact q
theorem zcd_with {y : MethodName} {b : ByteArray} {n : Nat} {r : Option FieldType} {hs : List (Nat × Nat × Nat × Nat)} {U : State} {A : Array Value} {mk : MethodId} {methM : Method} (h1 : (Cond.codeWith y b n r hs).before A U = true) (h2 : U.methodNamed? y = some mk) (h3 : U.vm.method? mk = some methM) : parseMethodDescriptor y.desc = some methM.sig := by
  obtain ⟨m', meth, c, q0, q1, -, -, -, -, -, -, q⟩ := Cond.codeWith_spec h1
  cases h2.symm.trans q0
  cases h3.symm.trans q1
  exact q
def zcd (y : MethodName) (w : Cond) : Prop := ∀ (U : State) (A : Array Value) (mk : MethodId) (methM : Method), w.before A U = true → U.methodNamed? y = some mk → U.vm.method? mk = some methM → parseMethodDescriptor y.desc = some methM.sig
section ZE
variable {o fr lo : Nat} {ph : Bool} {i n : Nat} {X : zX} {y : MethodName} {w : Cond} {fY lY nY : Nat}
theorem zck_V {k : Nat} (hk1 : 1 ≤ k) (hk2 : k ≤ 31) (hOk : zOk y w fY lY ph X) (hcw : zcw y nY w) (hcd : zcd y w) (hini : Cond.initialized y.cls ∈ lw_tbl) (hy : zpl y) (hna : zna y n) (hfr : fY + 1 ≤ fr) (hlo : 8 + (nY + 11) + lY ≤ lo)
    (hl : Cond.methodLink (zow o) i y ∈ lw_tbl) (hi : Cond.instanceMethod y ∈ lw_tbl) (hs : Cond.selects (zcn k) y y ∈ lw_tbl) : zCk o fr lo ph (.invokevirtual i) (n + 1) (zvt ph k X) := by
  intro p l e s m args below meth c G n0 T locs σ as K E g rest hfl hx hW hKn hZz hown hX hR hP h1 h2 hXX hn hg hsize hmr hst hrest hdg
  obtain ⟨r, as', rfl, hz⟩ := zvt_i hXX
  obtain ⟨z1, z2, z3, z4⟩ := zalk_i hz hP hk1 hk2
  obtain ⟨cell, c1, c2, c3, -⟩ := (hR.2.2.1 r z2 z3).2 (by omega)
  obtain ⟨-, hfc, -⟩ := hKn.1 k hk1 hk2
  have hr0 : r ≠ 0 := fun h => by rw [h] at z2; exact absurd z2 (by decide)
  refine z_callJ hfl hW hKn hX hR hP h1 h2 hOk z4 hcw hini ?_ hg hsize hmr hrest hdg hfr hlo
  have e1 : ((Value.ref r :: as').map (zva G)).toArray = (Value.ref (zad G r) :: as'.map (zva G)).toArray := by rw [List.map_cons, zva_ref G hr0]
  rw [e1]
  refine zi_V hX hx hown (hW _ hl rfl args) (hW _ hi rfl args) (hW _ hs rfl args) hy c1 (by rw [c3]; rfl) (by rw [c2, z1]; exact hfc) hg (fun methM mk a1 a2 => ?_) ?_ hdg
  · have := zna_i hna (hcd s args mk methM (hW _ hcw.2.1 hcw.1 args) a1 a2)
    rw [List.length_map, ← this]
    simpa using hn
  · rw [hst, List.map_cons, List.reverse_cons, zva_ref G hr0, List.append_assoc]
    rfl
theorem zck_VN {k : Nat} (hk1 : 1 ≤ k) (hk2 : k ≤ 31) (hOk : zOk y w fY lY ph X) (hcw : zcw y nY w) (hcd : zcd y w) (hini : Cond.initialized y.cls ∈ lw_tbl) (hy : zpl y) (hna : zna y n) (hfr : fY + 1 ≤ fr) (hlo : 8 + (nY + 11) + lY ≤ lo)
    (hl : Cond.methodLinkNest (zow o) i y "PackingHouse" ∈ lw_tbl) (hi : Cond.instanceMethod y ∈ lw_tbl) (hs : Cond.selects (zcn k) y y ∈ lw_tbl) : zCk o fr lo ph (.invokevirtual i) (n + 1) (zvt ph k X) := by
  intro p l e s m args below meth c G n0 T locs σ as K E g rest hfl hx hW hKn hZz hown hX hR hP h1 h2 hXX hn hg hsize hmr hst hrest hdg
  obtain ⟨r, as', rfl, hz⟩ := zvt_i hXX
  obtain ⟨z1, z2, z3, z4⟩ := zalk_i hz hP hk1 hk2
  obtain ⟨cell, c1, c2, c3, -⟩ := (hR.2.2.1 r z2 z3).2 (by omega)
  obtain ⟨-, hfc, -⟩ := hKn.1 k hk1 hk2
  have hr0 : r ≠ 0 := fun h => by rw [h] at z2; exact absurd z2 (by decide)
  refine z_callJ hfl hW hKn hX hR hP h1 h2 hOk z4 hcw hini ?_ hg hsize hmr hrest hdg hfr hlo
  have e1 : ((Value.ref r :: as').map (zva G)).toArray = (Value.ref (zad G r) :: as'.map (zva G)).toArray := by rw [List.map_cons, zva_ref G hr0]
  rw [e1]
  refine zi_VN hX hx hown (hW _ hl rfl args) (hW _ hi rfl args) (hW _ hs rfl args) hy c1 (by rw [c3]; rfl) (by rw [c2, z1]; exact hfc) hg (fun methM mk a1 a2 => ?_) ?_ hdg
  · have := zna_i hna (hcd s args mk methM (hW _ hcw.2.1 hcw.1 args) a1 a2)
    rw [List.length_map, ← this]
    simpa using hn
  · rw [hst, List.map_cons, List.reverse_cons, zva_ref G hr0, List.append_assoc]
    rfl
theorem zck_U {k : Nat} {x : MethodName} (hk1 : 1 ≤ k) (hk2 : k ≤ 31) (hOk : zOk y w fY lY ph X) (hcw : zcw y nY w) (hini : Cond.initialized y.cls ∈ lw_tbl) (hy : zpl x) (hna : zna x n) (hfr : fY + 1 ≤ fr) (hlo : 8 + (nY + 11) + lY ≤ lo)
    (hl : Cond.methodLink (zow o) i x ∈ lw_tbl) (hsm : Cond.sameMethod x.cls x.cls x.name x.desc ∈ lw_tbl) (hd : ∀ s : State, zWd s → va_Decl s x) (hi : Cond.instanceMethod y ∈ lw_tbl) (hs : Cond.selects (zcn k) x y ∈ lw_tbl) : zCk o fr lo ph (.invokevirtual i) (n + 1) (zvt ph k X) := by
  intro p l e s m args below meth c G n0 T locs σ as K E g rest hfl hx hW hKn hZz hown hX hR hP h1 h2 hXX hn hg hsize hmr hst hrest hdg
  obtain ⟨r, as', rfl, hz⟩ := zvt_i hXX
  obtain ⟨z1, z2, z3, z4⟩ := zalk_i hz hP hk1 hk2
  obtain ⟨cell, c1, c2, c3, -⟩ := (hR.2.2.1 r z2 z3).2 (by omega)
  obtain ⟨-, hfc, -⟩ := hKn.1 k hk1 hk2
  have hr0 : r ≠ 0 := fun h => by rw [h] at z2; exact absurd z2 (by decide)
  refine z_callJ hfl hW hKn hX hR hP h1 h2 hOk z4 hcw hini ?_ hg hsize hmr hrest hdg hfr hlo
  have e1 : ((Value.ref r :: as').map (zva G)).toArray = (Value.ref (zad G r) :: as'.map (zva G)).toArray := by rw [List.map_cons, zva_ref G hr0]
  rw [e1]
  refine zi_U hX hx hown (hW _ hl rfl args) (hW _ hsm rfl args) (hd s hW) hy (hW _ hs rfl args) (hW _ hi rfl args) c1 (by rw [c3]; rfl) (by rw [c2, z1]; exact hfc) hg (fun sig hsg => ?_) ?_ hdg
  · have := zna_i hna hsg
    rw [List.length_map, ← this]
    simpa using hn
  · rw [hst, List.map_cons, List.reverse_cons, zva_ref G hr0, List.append_assoc]
    rfl
theorem zck_or {X1 X2 : zX} {ins : Instr} (h1 : zCk o fr lo ph ins n X1) (h2 : zCk o fr lo ph ins n X2) : zCk o fr lo ph ins n (zor X1 X2) := by
  intro p l e s m args below meth c G n0 T locs σ as K E g rest b1 b2 b3 b4 b4b b5 b6 b7 b8 b9 b10 hXX b12 b13 b14 b15 b16 b17 b18
  rcases hXX with hXX | hXX
  · exact h1 p l e s m args below meth c G n0 T locs σ as K E g rest b1 b2 b3 b4 b4b b5 b6 b7 b8 b9 b10 hXX b12 b13 b14 b15 b16 b17 b18
  · exact h2 p l e s m args below meth c G n0 T locs σ as K E g rest b1 b2 b3 b4 b4b b5 b6 b7 b8 b9 b10 hXX b12 b13 b14 b15 b16 b17 b18
theorem zck_S (hOk : zOk y w fY lY ph X) (hcw : zcw y nY w) (hcd : zcd y w) (hnm : ∀ s : State, zWd s → ∃ mk methM, s.methodNamed? y = some mk ∧ s.vm.method? mk = some methM) (hini : Cond.initialized y.cls ∈ lw_tbl) (hy : zpl y) (hna : zna y n) (hfr : fY + 1 ≤ fr) (hlo : 8 + (nY + 11) + lY ≤ lo)
    (hl : Cond.methodLink (zow o) i y ∈ lw_tbl) (hi : Cond.static y ∈ lw_tbl) : zCk o fr lo ph (.invokestatic i) n X := by
  intro p l e s m args below meth c G n0 T locs σ as K E g rest hfl hx hW hKn hZz hown hX hR hP h1 h2 hXX hn hg hsize hmr hst hrest hdg
  refine z_callJ hfl hW hKn hX hR hP h1 h2 hOk hXX hcw hini ?_ hg hsize hmr hrest hdg hfr hlo
  obtain ⟨mk, methM, a1, a2⟩ := hnm s hW
  refine zi_S hX hx a1 a2 hown (hW _ hl rfl args) (hW _ hi rfl args) (hW _ hini rfl args) hy hg ?_ hst hdg
  have := zna_i hna (hcd s args mk methM (hW _ hcw.2.1 hcw.1 args) a1 a2)
  rw [List.length_map, ← this]
  exact hn
theorem zck_SN (hOk : zOk y w fY lY ph X) (hcw : zcw y nY w) (hcd : zcd y w) (hnm : ∀ s : State, zWd s → ∃ mk methM, s.methodNamed? y = some mk ∧ s.vm.method? mk = some methM) (hini : Cond.initialized y.cls ∈ lw_tbl) (hy : zpl y) (hna : zna y n) (hfr : fY + 1 ≤ fr) (hlo : 8 + (nY + 11) + lY ≤ lo)
    (hl : Cond.methodLinkNest (zow o) i y "PackingHouse" ∈ lw_tbl) (hi : Cond.static y ∈ lw_tbl) : zCk o fr lo ph (.invokestatic i) n X := by
  intro p l e s m args below meth c G n0 T locs σ as K E g rest hfl hx hW hKn hZz hown hX hR hP h1 h2 hXX hn hg hsize hmr hst hrest hdg
  refine z_callJ hfl hW hKn hX hR hP h1 h2 hOk hXX hcw hini ?_ hg hsize hmr hrest hdg hfr hlo
  obtain ⟨mk, methM, a1, a2⟩ := hnm s hW
  refine zi_SN hX hx a1 a2 hown (hW _ hl rfl args) (hW _ hi rfl args) (hW _ hini rfl args) hy hg ?_ hst hdg
  have := zna_i hna (hcd s args mk methM (hW _ hcw.2.1 hcw.1 args) a1 a2)
  rw [List.length_map, ← this]
  exact hn
theorem zck_I {b : ByteArray} (hOk : zOk y (.code y b nY none) fY lY ph X) (hc : Cond.code y b nY none ∈ lw_tbl) (hini : Cond.initialized y.cls ∈ lw_tbl) (hy : zpl y) (hy1 : y.name = "<init>") (hna : zna y n) (hfr : fY + 1 ≤ fr) (hlo : 8 + (nY + 11) + lY ≤ lo)
    (hl : Cond.methodLink (zow o) i y ∈ lw_tbl) (hi : Cond.instanceMethod y ∈ lw_tbl) : zCk o fr lo ph (.invokespecial i) (n + 1) (znn X) := by
  intro p l e s m args below meth c G n0 T locs σ as K E g rest hfl hx hW hKn hZz hown hX hR hP h1 h2 hXX hn hg hsize hmr hst hrest hdg
  obtain ⟨r, as', rfl, hr0, hz⟩ := znn_i hXX
  refine z_callJ hfl hW hKn hX hR hP h1 h2 hOk hz (zcw_code hc) hini ?_ hg hsize hmr hrest hdg hfr hlo
  have e1 : ((Value.ref r :: as').map (zva G)).toArray = (Value.ref (zad G r) :: as'.map (zva G)).toArray := by rw [List.map_cons, zva_ref G hr0]
  rw [e1]
  refine zi_I hX hx hown hy1 (hW _ hl rfl args) (hW _ hi rfl args) (hW _ hc rfl args) hy hg (fun sig hsg => ?_) ?_ hdg
  · have := zna_i hna hsg
    rw [List.length_map, ← this]
    simpa using hn
  · rw [hst, List.map_cons, List.reverse_cons, zva_ref G hr0, List.append_assoc]
    rfl
theorem zck_IN {b : ByteArray} (hOk : zOk y (.code y b nY none) fY lY ph X) (hc : Cond.code y b nY none ∈ lw_tbl) (hini : Cond.initialized y.cls ∈ lw_tbl) (hy : zpl y) (hy1 : y.name = "<init>") (hna : zna y n) (hfr : fY + 1 ≤ fr) (hlo : 8 + (nY + 11) + lY ≤ lo)
    (hl : Cond.methodLinkNest (zow o) i y "PackingHouse" ∈ lw_tbl) (hi : Cond.instanceMethod y ∈ lw_tbl) : zCk o fr lo ph (.invokespecial i) (n + 1) (znn X) := by
  intro p l e s m args below meth c G n0 T locs σ as K E g rest hfl hx hW hKn hZz hown hX hR hP h1 h2 hXX hn hg hsize hmr hst hrest hdg
  obtain ⟨r, as', rfl, hr0, hz⟩ := znn_i hXX
  refine z_callJ hfl hW hKn hX hR hP h1 h2 hOk hz (zcw_code hc) hini ?_ hg hsize hmr hrest hdg hfr hlo
  have e1 : ((Value.ref r :: as').map (zva G)).toArray = (Value.ref (zad G r) :: as'.map (zva G)).toArray := by rw [List.map_cons, zva_ref G hr0]
  rw [e1]
  refine zi_IN hX hx hown hy1 (hW _ hl rfl args) (hW _ hi rfl args) (hW _ hc rfl args) hy hg (fun sig hsg => ?_) ?_ hdg
  · have := zna_i hna hsg
    rw [List.length_map, ← this]
    simpa using hn
  · rw [hst, List.map_cons, List.reverse_cons, zva_ref G hr0, List.append_assoc]
    rfl
end ZE

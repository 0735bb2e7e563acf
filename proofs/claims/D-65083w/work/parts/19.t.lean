/-! PART 19.t: String.charAt on the two constants -/
/-- a static field as the library has it -/
theorem zsis {C n d : String} {v : Value} {A : Nat → Prop} {U : State} (h : va_Z C n d v A U U.heap) : Jvm.Lib.Cold.StaticIs U C n d v := by
  obtain ⟨cf, kf, fi, f, a, cell, h1, h2, h3, h4, h5, h6, h7, h8⟩ := h
  exact ⟨cf, fi, kf, f, a, cell, h1, h2, h3, h4, h5, (fun e => by rw [e] at h6; cases h6), h7⟩
theorem zfof {U : State} {a : Nat} {cell : Cell} {o n d : String} {c i : Nat} {k : Class} {f : Field} {v : Value} (h0 : U.heap[a]? = some cell) (h1 : U.fieldFound? o n d = some (c, k, i, f)) (h2 : f.isStatic = false) (h3 : U.vm.assignable cell.cls c = true) (h4 : cell.slots[f.slot]? = some v) (h5 : cell.vm ≠ .unknown) (h6 : cell.vm.isStatics = false) : U.fieldOf? a o n d = some v := by
  simp [State.fieldOf?, State.fieldNamed?, h0, h1, h2, h3, h5, h6, h4]
theorem zdcl {x : MethodName} {b : ByteArray} {n : Nat} {r : Option FieldType} {A : Array Value} {U : State} (h1 : (Cond.instanceMethod x).before A U = true) (h2 : (Cond.code x b n r).before A U = true) : (Cond.declares x).before A U = true := by
  obtain ⟨m, meth, q1, q2, q3, q4⟩ := va_Decl.of h1 h2
  simp [Cond.before, Cond.holds, Cond.value, q1, q2, q3, q4]
theorem zsig {y : MethodName} {b : ByteArray} {n : Nat} {r : Option FieldType} {A : Array Value} {U : State} (h1 : (Cond.code y b n r).before A U = true) : Jvm.Lib.Cold.Sig U y := by
  obtain ⟨mk, hn⟩ := Cond.code_named h1
  obtain ⟨meth, c, q1, -, -, -, -, -, -, q⟩ := Cond.code_spec hn h1
  exact ⟨mk, meth, hn, q1, q⟩
theorem wc_i1 : Cond.instanceMethod Jvm.Lib.Str.charAt.name ∈ lw_tbl := zq1 (q := (8, 150)) (by decide +kernel)
theorem wc_s1 : Cond.selects "java/lang/String" Jvm.Lib.Str.charAt.name Jvm.Lib.Str.charAt.name ∈ lw_tbl := zq1 (q := (8, 151)) (by decide +kernel)
theorem wc_c1 : Cond.code Jvm.Lib.Str.charAt.name Jvm.Lib.Str.charAt.code 2 (some .char) ∈ lw_tbl := zq1 (q := (8, 152)) (by decide +kernel)
theorem wc_l1 : Cond.methodLink "java/lang/String" 492 Jvm.Lib.Str.isLatin1.name ∈ lw_tbl := zq1 (q := (8, 153)) (by decide +kernel)
theorem wc_i2 : Cond.instanceMethod Jvm.Lib.Str.isLatin1.name ∈ lw_tbl := zq1 (q := (8, 154)) (by decide +kernel)
theorem wc_s2 : Cond.selects "java/lang/String" Jvm.Lib.Str.isLatin1.name Jvm.Lib.Str.isLatin1.name ∈ lw_tbl := zq1 (q := (8, 155)) (by decide +kernel)
theorem wc_c2 : Cond.code Jvm.Lib.Str.isLatin1.name Jvm.Lib.String.isLatin1.code 1 (some .boolean) ∈ lw_tbl := zq1 (q := (8, 156)) (by decide +kernel)
theorem wc_f1 : Cond.fieldLink "java/lang/String" 38 "java/lang/String" "COMPACT_STRINGS" "Z" ∈ lw_tbl := zq1 (q := (8, 157)) (by decide +kernel)
theorem wc_l2 : Cond.methodLink "java/lang/String" 495 Jvm.Lib.SL1.charAt.name ∈ lw_tbl := zq1 (q := (8, 159)) (by decide +kernel)
theorem wc_t1 : Cond.static Jvm.Lib.SL1.charAt.name ∈ lw_tbl := zq1 (q := (8, 160)) (by decide +kernel)
theorem wc_c3 : Cond.code Jvm.Lib.SL1.charAt.name Jvm.Lib.SL1.charAt.code 2 (some .char) ∈ lw_tbl := zq1 (q := (8, 161)) (by decide +kernel)
theorem wc_l3 : Cond.methodLink "java/lang/StringLatin1" 9 Jvm.Lib.Str.checkIndex.name ∈ lw_tbl := zq1 (q := (8, 162)) (by decide +kernel)
theorem wc_t2 : Cond.static Jvm.Lib.Str.checkIndex.name ∈ lw_tbl := zq1 (q := (8, 163)) (by decide +kernel)
theorem wc_c4 : Cond.code Jvm.Lib.Str.checkIndex.name Jvm.Lib.Str.checkIndex.code 2 none ∈ lw_tbl := zq1 (q := (8, 164)) (by decide +kernel)
theorem wc_f2 : Cond.fieldLink "java/lang/String" 1053 "jdk/internal/util/Preconditions" "SIOOBE_FORMATTER" "Ljava/util/function/BiFunction;" ∈ lw_tbl := zq1 (q := (8, 165)) (by decide +kernel)
theorem wc_l4 : Cond.methodLink "java/lang/String" 1059 Jvm.Lib.Preconditions.checkIndex.name ∈ lw_tbl := zq1 (q := (8, 167)) (by decide +kernel)
theorem wc_t3 : Cond.static Jvm.Lib.Preconditions.checkIndex.name ∈ lw_tbl := zq1 (q := (8, 168)) (by decide +kernel)
theorem wc_c5 : Cond.code Jvm.Lib.Preconditions.checkIndex.name Jvm.Lib.Preconditions.checkIndex.code 3 (some .int) ∈ lw_tbl := zq1 (q := (8, 169)) (by decide +kernel)
theorem wc_f3 : Cond.fieldLink "java/lang/String" 15 "java/lang/String" "coder" "B" ∈ lw_tbl := zq1 (q := (15, 42)) (by decide +kernel)
theorem wc_f4 : Cond.fieldLink "java/lang/String" 9 "java/lang/String" "value" "[B" ∈ lw_tbl := zq1 (q := (15, 43)) (by decide +kernel)
theorem wc_n1 : Cond.initialized "java/lang/String" ∈ lw_tbl := zq1 (q := (1, 40)) (by decide +kernel)
theorem wc_n2 : Cond.initialized "java/lang/StringLatin1" ∈ lw_tbl := zq1 (q := (1, 41)) (by decide +kernel)
theorem wc_n3 : Cond.initialized "jdk/internal/util/Preconditions" ∈ lw_tbl := zq1 (q := (1, 42)) (by decide +kernel)
theorem zchr : ∀ q, q < 2 → ∀ j, j < 8 → (((zchL.getD q []).getD j 0) &&& 255).toUInt32.toUInt16.toUInt32.toInt32 = (zchL.getD q []).getD j 0 := by decide +kernel
theorem zchn8 : ∀ q, q < 2 → (zchL.getD q []).length ≤ 8 ∧ (Int32.ofNat (zchL.getD q []).length).toInt = (zchL.getD q []).length := by decide +kernel
theorem zck_charAt {o fr lo : Nat} {ph : Bool} {i : Nat} (hfr : 4 ≤ fr) (hlo : 93 ≤ lo) (hl : Cond.methodLink (zow o) i Jvm.Lib.Str.charAt.name ∈ lw_tbl) : zCk o fr lo ph (.invokevirtual i) 2 X_charAt := by
  intro p l e s m args below meth c G n0 T locs σ as K E g rest hfl hx hW hKn hZz hown hX hR hP h1 h2 hXX hn hg hsize hmr hst hrest hdg
  obtain ⟨a, k, rfl, ha, k1, k2, hK⟩ := X_charAt_i hXX
  obtain ⟨q, hq, ea⟩ : ∃ q, q < 2 ∧ a = 6 + 2 * q := by
    rcases ha with h | h
    · exact ⟨0, by omega, h⟩
    · exact ⟨1, by omega, h⟩
  have ez : zchs a = zchL.getD q [] := by unfold zchs; rw [ea]; congr 1; omega
  rw [ez] at k2 hK
  obtain ⟨n8, nN⟩ := zchn8 q hq
  have hza : zad G a = gX G (6 + 2 * q) := by unfold zad; rw [if_pos (by omega), ea]
  obtain ⟨-, -, -, -, -, -, -, fmt, z1, z2, z3, z4⟩ := hR.2.2.2.2
  have hSo : zSo G s T.heap q := by
    match q, hq with
    | 0, _ => exact z3
    | 1, _ => exact z4
    | q + 2, h => omega
  have hSo2 := hSo
  obtain ⟨cell0, c0, -, -, -, -, -, -, -, -, -, ⟨y1, y2, -, y4, y5, -, y7, -⟩, -⟩ := hSo
  have hinv : zInv p l e (zRm fr lo n0) s m args below meth c T locs (zn σ - n0) (zsl (zn σ) - zsl n0) g rest (Value.ref (gX G (6 + 2 * q)) :: [Value.int k]).toArray Jvm.Lib.Str.charAt.name := by
    refine zi_V hX hx hown (hW _ hl rfl args) (hW _ wc_i1 rfl args) (C := "java/lang/String") (hW _ wc_s1 rfl args) (by decide) y1 y4 (by rw [y5]; exact y2) hg (fun methM mk a1 a2 => ?_) ?_ hdg
    · have h3 := zcd_code (hW _ wc_c1 rfl args) a1 a2
      rw [show parseMethodDescriptor Jvm.Lib.Str.charAt.name.desc = some ⟨[.int], some .char⟩ from by decide +kernel] at h3
      rw [← Option.some.inj h3]; rfl
    · rw [hst]
      show ([zva G (.ref a), Value.int k].reverse ++ rest) = _
      rw [zva_ref G (by omega), hza]; rfl
  obtain ⟨vm₁, mk, w1, X1, hn1, hstep⟩ := hinv
  have hWU : zWd (T.setVm vm₁) := zWd_warm (U := T.setVm vm₁) w1 hW
  obtain ⟨methY, cY, hmY, hcY, hnY⟩ := (zcw_code wc_c1).2.2 (T.setVm vm₁) #[] mk (hWU _ wc_c1 rfl #[]) hn1
  have hVw : ∀ A : Array Value, zWd ((T.setVm vm₁).calling { g with stack := rest } mk A) := fun A => zWd_warm (U := (T.setVm vm₁).calling { g with stack := rest } mk A) w1 hW
  obtain ⟨cell, c, c1, c2, kk, kk1, kk2, i1, i2, f1, f2, ⟨x1, x2, x3, x4, x5, x6, x7, x8⟩, ⟨b1, b2, b3, b4⟩, ⟨d1, d2, d3, d4⟩, arr, t1, t2, t3, t4, t5, t6, t7⟩ := zSo_U (U := T.setVm vm₁) w1.alike hSo2
  have hzk := zcp_nn k k1
  have hlt : k < arr.slots.size.toInt32 := by
    rw [t5]
    refine Int32.lt_iff_toInt_lt.mpr ?_
    rw [nN, hzk]
    exact Int.ofNat_lt.mpr k2
  have hle : (0 : Int32) ≤ k := Int32.not_lt.mp k1
  have hpre : ∀ (A : Array Value) (V : State), zWd V → V.heap = T.heap → V.vm = vm₁ → A = #[Value.ref (gX G (6 + 2 * q)), .int k] → Jvm.Lib.Cold.charAt.spec.pre.before A V = true := by
    intro A V hV e1 e2 eA
    subst eA
    simp only [Jvm.Lib.Cold.charAt.spec, Cond.before_and, Bool.and_eq_true]
    refine ⟨hV _ wc_c1 rfl _, by rfl, ?_, hV _ wc_l1 rfl _, zdcl (hV _ wc_i2 rfl _) (hV _ wc_c2 rfl _), hV _ wc_s2 rfl _, hV _ wc_i2 rfl _, hV _ wc_f4 rfl _, hV _ wc_l2 rfl _, hV _ wc_t1 rfl _, hV _ wc_n2 rfl _, hV _ wc_n1 rfl _⟩
    have x2' : V.vm.findClass Jvm.Lib.str = some c := by rw [e2]; exact x2
    have x3' : V.vm.classes[c]? = some kk := by rw [e2]; exact x3
    have x1' : V.heap[gX G (6 + 2 * q)]? = some cell := by rw [e1]; exact x1
    simp only [Cond.before, Cond.holds, Cond.value, Term.eval]
    cases hk9 : kk.kind <;> simp_all
  obtain ⟨oc, t, hQ, hfin⟩ := z_call (U := T.setVm vm₁) X1 (g := { g with stack := rest }) (Jvm.Lib.Cold.charAt.met l (gX G (6 + 2 * q)) (gX G (7 + 2 * q)) k ((zchL.getD q []).getD k.toNatClampNeg 0) 1 fmt.v arr) hg hsize hdg hn1 hmY hcY (a := #[Value.ref (gX G (6 + 2 * q)), .int k]) (hWU _ wc_n1 rfl _) (hpre _ _ hWU rfl rfl rfl) hfr
    (by show 2 * g.monitorRoom + (rest.map fun v => v.category).sum + (cY.maxLocals + 11) + 72 ≤ lo; rw [hmr, hnY]; omega) (by show zn σ - n0 + 0 ≤ zCap - n0; omega) (by show zsl (zn σ) - zsl n0 + 0 ≤ zsl zCap - zsl n0; have := zsl_le h2; omega)
    (by
      have hV := hVw #[Value.ref (gX G (6 + 2 * q)), .int k]
      generalize hVe : (T.setVm vm₁).calling { g with stack := rest } mk #[Value.ref (gX G (6 + 2 * q)), .int k] = V at hV
      have e1 : V.heap = T.heap := by rw [← hVe]; rfl
      have e2 : V.vm = vm₁ := by rw [← hVe]; rfl
      have hal : s.vm.Alike V.vm := by rw [e2]; exact w1.alike
      have hs1 := va_Z.moved hal z1
      have hs2 := va_Z.moved hal z2
      rw [← e1] at hs1 hs2
      have f1' : V.fieldFound? "java/lang/String" "coder" "B" = some (c1, kk1, i1, f1) := by
        have : V.fieldFound? "java/lang/String" "coder" "B" = (T.setVm vm₁).fieldFound? "java/lang/String" "coder" "B" := by rw [← hVe]; rfl
        rw [this]; exact b1
      have f2' : V.fieldFound? "java/lang/String" "value" "[B" = some (c2, kk2, i2, f2) := by
        have : V.fieldFound? "java/lang/String" "value" "[B" = (T.setVm vm₁).fieldFound? "java/lang/String" "value" "[B" := by rw [← hVe]; rfl
        rw [this]; exact d1
      have x1' : V.heap[gX G (6 + 2 * q)]? = some cell := by rw [e1]; exact x1
      have arr' : V.isArrayOf arr .byte := State.isArrayOf_alike (by rw [e2]; exact Vm.Alike.refl _) t2
      refine ⟨rfl, ?_, zsig (hV _ wc_c3 rfl #[]), ?_, ⟨rfl, zsis hs1, by decide, ?_⟩, ?_, rfl, by rw [e1]; exact t1, arr', t3, ?_, t6 _ k2, zsig (hV _ wc_c4 rfl #[]), ?_, rfl, zsis hs2, zsig (hV _ wc_c5 rfl #[]), ?_⟩
      · exact (va_fe rfl).trans (zfof x1' f2' d2 (by rw [e2]; exact d3) d4 x7 x4)
      · simp only [Jvm.Lib.Cold.isLatin1.spec, Cond.before_and, Bool.and_eq_true]
        exact ⟨hV _ wc_c2 rfl _, rfl, hV _ wc_f1 rfl _, hV _ wc_f3 rfl _⟩
      · exact (va_fe rfl).trans (zfof x1' f1' b2 (by rw [e2]; exact b3) b4 x7 x4)
      · simp only [Jvm.Lib.Cold.latin1.spec, Cond.before_and, Bool.and_eq_true]
        exact ⟨hV _ wc_c3 rfl _, rfl, hV _ wc_l3 rfl _, hV _ wc_t2 rfl _, hV _ wc_n1 rfl _⟩
      · rintro (h | h)
        · exact k1 h
        · omega
      · simp only [Jvm.Lib.Cold.checkIndex.spec, Cond.before_and, Bool.and_eq_true]
        exact ⟨hV _ wc_c4 rfl _, rfl, hV _ wc_f2 rfl _, hV _ wc_l4 rfl _, hV _ wc_t3 rfl _, hV _ wc_n3 rfl _⟩
      · simp only [Jvm.Lib.Preconditions.checkIndex.spec, Cond.before_and, Bool.and_eq_true]
        refine ⟨hV _ wc_c5 rfl _, rfl, rfl, rfl, ?_, ?_, ?_⟩
        · obtain ⟨fv, fok⟩ := fmt
          cases fv <;> first | rfl | (simp [Value.isRef] at fok)
        · simp [Cond.before, Cond.holds, Cond.value, Term.eval, hle]
        · simp [Cond.before, Cond.holds, Cond.value, Term.eval, hlt])
    (fun o t ⟨⟨_, h2, h3⟩, _⟩ => ⟨h2, [], 0, 0, h3.sameButNew 0 0⟩)
  obtain ⟨⟨-, hW2, hsb⟩, rfl⟩ := hQ
  obtain ⟨U', u1, u2, u3, u4⟩ := hfin [] 0 0 (hsb.sameButNew 0 0)
  have hth : t.heap = T.heap := by
    have := State.sameBut_nil.mp hsb
    have h9 := congrArg State.heap this
    exact h9
  refine ⟨.returned (some (.int ((zchL.getD q []).getD k.toNatClampNeg 0))), σ, U', [], ⟨_, rfl, hK⟩, by rw [u1, hth]; exact hR, hP, fun q hq => absurd hq List.not_mem_nil, h1, h2, u3, hstep _ ?_⟩
  have e9 := zchr q hq k.toNatClampNeg (by omega)
  rw [e9] at u4
  exact u4

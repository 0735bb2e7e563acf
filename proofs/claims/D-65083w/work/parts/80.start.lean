/-! PART 80: the law's start -/
def zSTP : List Int32 := [16, 17, 18, 0, 8, 7, 9, 6, 10, 5, 11, 4, 12, 3, 13, 2, 14, 1, 15]
def zMAG : List Int32 := [4, 34, 77, 24]
def zBEN : List Int32 := [33, 60, 97, 114, 99, 104, 62, 10]
/-- the abstract memory at the law's start -/
def zS0 (L : Nat) (xs : Nat → Int32) : zS := (10, (fun r j => if r = 0 then nI L else if r = 1 then xs j else if r = 2 ∨ r = 4 then zSTP.getD j 0 else if r = 3 then zMAG.getD j 0 else zBEN.getD j 0), (fun _ _ => 0), (fun _ _ => 0))
def zstL (r : Nat) : List Int32 := if r = 2 ∨ r = 4 then zSTP else if r = 3 then zMAG else zBEN
theorem zWd_of {s : State} {A : Array Value} (h : ∀ w ∈ lw_tbl, w.before A s = true) : zWd s := by
  intro w hw hg B
  have h0 := h w hw
  by_cases h1 : (w.onTables && w.keeps) = true
  · exact word_at (State.WarmedH.refl s) (Or.inl h1) h0
  · unfold zgood at hg
    rw [Bool.or_eq_true] at hg
    rcases hg with hg | hg
    · exact absurd hg h1
    · revert h0 hg
      cases w with
      | fieldLinkNest a i b n d hst => exact fun h0 _ => va_Nw.use rfl (va_Nw.of rfl h0)
      | methodLinkNest a i x hst => exact fun h0 _ => va_Nw.use rfl (va_Nw.of rfl h0)
      | declares x => exact fun h0 _ => va_Nw.use rfl (va_Nw.of rfl h0)
      | castable a b => exact fun h0 _ => va_Nw.use rfl (va_Nw.of rfl h0)
      | arrayClass t => exact fun h0 _ => word_at (State.WarmedH.refl s) (Or.inr ⟨t, rfl⟩) h0
      | arrayOver t =>
        cases t with
        | object C => exact fun h0 _ => va_AO.use (va_AO.of h0)
        | _ => exact fun _ hg => by simp at hg
      | _ => exact fun _ hg => by simp at hg
/-- a field's reading tells where it lies -/
theorem zfofI {s : State} {A : Array Value} {t : Term} {a : Nat} {o n d : String} {v : Value} (ht : t.eval A s none [] s = some (.ref a)) (hv : (Term.field t o n d).eval A s none [] s = some v) : ∃ (c : ClassId) (k : Class) (i : Nat) (f : Field) (cell : Cell), s.fieldFound? o n d = some (c, k, i, f) ∧ f.isStatic = false ∧ s.heap[a]? = some cell ∧ cell.vm ≠ .unknown ∧ s.vm.assignable cell.cls c = true ∧ cell.slots[f.slot]? = some v := by
  cases hfo : s.fieldFound? o n d with
  | none =>
    rw [va_fe ht] at hv
    simp [State.fieldOf?, State.fieldNamed?, hfo] at hv
  | some x =>
    obtain ⟨cf, k, fi, f⟩ := x
    obtain ⟨g1, cell, g2, g3, -, g5, g6⟩ := Term.field_spec hfo ht hv
    exact ⟨cf, k, fi, f, cell, rfl, g1, g2, g3, g5, g6⟩
/-- one of the two strings -/
theorem zSo_of {s : State} {A : Array Value} {G : zG} {q : Nat} {t : Term} {a d : Nat} (hg : g0 G = s.heap.size) (ha : gX G (6 + 2 * q) = a) (hd : gX G (7 + 2 * q) = d) (hex : (Cond.exactly t "java/lang/String").before A s = true) (ht : t.eval A s none [] s = some (.ref a)) (hco : (Term.field t "java/lang/String" "coder" "B").eval A s none [] s = some (.int 0)) (hva : (Term.field t "java/lang/String" "value" "[B").eval A s none [] s = some (.ref d))
    (hT : va_T .byte d ((zchL.getD q []).length) (fun j => .int ((zchL.getD q []).getD j 0)) (fun a => g0 G ≤ a) s s.heap) : zSo G s s.heap q := by
  obtain ⟨a', c, cell, k, e1, e2, e3, e4, e5, e6, e7⟩ := Cond.exactly_spec hex
  cases Option.some.inj (e1.symm.trans ht)
  obtain ⟨c1, k1, i1, f1, cell1, p1, p2, p3, p4, p5, p6⟩ := zfofI ht hco
  obtain ⟨c2, k2, i2, f2, cell2, r1, r2, r3, r4, r5, r6⟩ := zfofI ht hva
  cases e3.symm.trans p3
  cases e3.symm.trans r3
  refine ⟨cell, c, c1, c2, k, k1, k2, i1, i2, f1, f2, ⟨by rw [ha]; exact e3, e2, e4, e5, e6, e7, p4, by rw [ha, hg]; exact (Array.getElem?_eq_some_iff.mp e3).1⟩, ⟨p1, p2, p5, p6⟩, ⟨r1, r2, r5, by rw [hd]; exact r6⟩, by rw [hd]; exact hT⟩
theorem zLy_of {s : State} {A : Array Value} {G : zG} {n d : String} (hg : g0 G = s.heap.size) (h : (Cond.laysStatic Bundle.tN n d).before A s = true) : zLy G s s.heap n d := by
  obtain ⟨c, k, i, f, a, cell, h1, h2, h3, h4, h5, h6, h7, h8, h9⟩ := Cond.laysStatic_spec h
  exact ⟨c, k, i, f, a, cell, h1, h2, h3, h4, h5, h6, h7, h8, h9, by rw [hg]; exact (Array.getElem?_eq_some_iff.mp h5).1⟩
/-- a reference that a static field holds -/
theorem zRef_of {s : State} {A : Array Value} {C n d : String} (h : (Cond.isRef (.static C n d)).before A s = true) : ∃ v : RefV, (Term.static C n d).eval A s none [] s = some v.v := by
  simp only [Cond.before, Cond.holds, Cond.value] at h
  cases hv : (Term.static C n d).eval A s none [] s with
  | none => simp [hv] at h
  | some v =>
    rw [hv] at h
    have h2 : v.isRef = true := by cases v <;> first | rfl | (simp at h)
    exact ⟨⟨v, h2⟩, rfl⟩
theorem zwq : zckL [Cond.laysStatic "PackingHouse$Blocks" "STEPS" "[I", Cond.laysStatic "PackingHouse$Frame" "MAGIC" "[I", Cond.laysStatic Bundle.tN "UNASSIGNED_STACK" Bundle.steD, Cond.laysStatic Bundle.tN "SUPPRESSED_SENTINEL" Bundle.listD, Cond.laysStatic "java/lang/String" "COMPACT_STRINGS" "Z", Cond.laysStatic "jdk/internal/util/Preconditions" "SIOOBE_FORMATTER" "Ljava/util/function/BiFunction;", Cond.laysStatic "PackingHouseModel" "STEPS" "[I", Cond.laysStatic "PackingHouseModel" "BENCH" "[I",
    Cond.stringRef "PackingHouse$Bench" 27 "!<arch>\n", Cond.stringRef "PackingHouse$Tape" 56 "usta\x72"] [(5, 224), (6, 66), (7, 51), (7, 53), (8, 158), (8, 166), (12, 208), (14, 87), (8, 148), (9, 14)] = true := by decide +kernel
theorem zwi : zckL [Cond.initialized "PackingHouse$Blocks", Cond.initialized "PackingHouse$Frame", Cond.initialized "java/lang/Throwable", Cond.initialized "java/lang/String", Cond.initialized "jdk/internal/util/Preconditions", Cond.initialized "PackingHouseModel"] [(1, 10), (1, 18), (1, 36), (1, 40), (1, 42), (1, 33)] = true := by decide +kernel
abbrev zGv : List Cond := flatC (Jvm.Cond.and given_1 narrow_1)
/-- a static array of ints, as the start's words have it -/
theorem zsa_of {s : State} {A : Array Value} {C n : String} {xs : List Int32} {P : Nat → Prop} (hP : ∀ a : Nat, a < s.heap.size → ¬ P a) (hl : xs.length < 2 ^ 31) (h1 : (Cond.arrayOf (.static C n "[I") .int).before A s = true) (h2 : (Cond.eq (.length (.static C n "[I")) (.int (Int32.ofNat xs.length))).before A s = true) (h3 : ∀ j, j < xs.length → (Cond.eq (.elem (.static C n "[I") (.int (Int32.ofNat j))) (.int (xs.getD j 0))).before A s = true)
    (hly : (Cond.laysStatic C n "[I").before A s = true) (hi : (Cond.initialized C).before A s = true) : ∃ t : Nat, va_T .int t xs.length (fun j => .int (xs.getD j 0)) P s s.heap ∧ va_Z C n "[I" (.ref t) P s s.heap := by
  obtain ⟨t, ht, hT⟩ := va_Tof (f := fun j => .int (xs.getD j 0)) (A := P) hl h1 (va_eqt h2) (fun j hj => va_eqt (h3 j hj)) hP
  exact ⟨t, hT, va_Zof hly hi ht hP⟩
theorem zgv1 : ([Cond.arrayOf (.static "PackingHouse$Blocks" "STEPS" "[I") .int, Cond.eq (.length (.static "PackingHouse$Blocks" "STEPS" "[I")) (.int (Int32.ofNat 19)), Cond.arrayOf (.static "PackingHouseModel" "STEPS" "[I") .int, Cond.eq (.length (.static "PackingHouseModel" "STEPS" "[I")) (.int (Int32.ofNat 19)), Cond.arrayOf (.static "PackingHouse$Frame" "MAGIC" "[I") .int, Cond.eq (.length (.static "PackingHouse$Frame" "MAGIC" "[I")) (.int (Int32.ofNat 4)), Cond.arrayOf (.static "PackingHouseModel" "BENCH" "[I") .int, Cond.eq (.length (.static "PackingHouseModel" "BENCH" "[I")) (.int (Int32.ofNat 8)),
   Cond.isRef (.static Bundle.tN "UNASSIGNED_STACK" Bundle.steD), Cond.isRef (.static Bundle.tN "SUPPRESSED_SENTINEL" Bundle.listD), Cond.eq (.static "java/lang/String" "COMPACT_STRINGS" "Z") (.int 1), Cond.isRef (.static "jdk/internal/util/Preconditions" "SIOOBE_FORMATTER" "Ljava/util/function/BiFunction;"),
   Cond.exactly (.string "PackingHouse$Bench" 27) "java/lang/String", Cond.eq (.field (.string "PackingHouse$Bench" 27) "java/lang/String" "coder" "B") (.int 0), Cond.arrayOf (.field (.string "PackingHouse$Bench" 27) "java/lang/String" "value" "[B") .byte, Cond.eq (.length (.field (.string "PackingHouse$Bench" 27) "java/lang/String" "value" "[B")) (.int (Int32.ofNat 8)),
   Cond.exactly (.string "PackingHouse$Tape" 56) "java/lang/String", Cond.eq (.field (.string "PackingHouse$Tape" 56) "java/lang/String" "coder" "B") (.int 0), Cond.arrayOf (.field (.string "PackingHouse$Tape" 56) "java/lang/String" "value" "[B") .byte, Cond.eq (.length (.field (.string "PackingHouse$Tape" 56) "java/lang/String" "value" "[B")) (.int (Int32.ofNat 5))]).all (fun w => decide (w ∈ zGv)) = true := by decide +kernel
theorem zgv2 : (List.range 19).all (fun j => decide (Cond.eq (.elem (.static "PackingHouse$Blocks" "STEPS" "[I") (.int (Int32.ofNat j))) (.int (zSTP.getD j 0)) ∈ zGv) && decide (Cond.eq (.elem (.static "PackingHouseModel" "STEPS" "[I") (.int (Int32.ofNat j))) (.int (zSTP.getD j 0)) ∈ zGv)) = true := by decide +kernel
theorem zgv3 : (List.range 4).all (fun j => decide (Cond.eq (.elem (.static "PackingHouse$Frame" "MAGIC" "[I") (.int (Int32.ofNat j))) (.int (zMAG.getD j 0)) ∈ zGv)) = true := by decide +kernel
theorem zgv4 : (List.range 8).all (fun j => decide (Cond.eq (.elem (.static "PackingHouseModel" "BENCH" "[I") (.int (Int32.ofNat j))) (.int (zBEN.getD j 0)) ∈ zGv) && decide (Cond.eq (.elem (.field (.string "PackingHouse$Bench" 27) "java/lang/String" "value" "[B") (.int (Int32.ofNat j))) (.int ((zchL.getD 1 []).getD j 0)) ∈ zGv)) = true := by decide +kernel
theorem zgv5 : (List.range 5).all (fun j => decide (Cond.eq (.elem (.field (.string "PackingHouse$Tape" 56) "java/lang/String" "value" "[B") (.int (Int32.ofNat j))) (.int ((zchL.getD 0 []).getD j 0)) ∈ zGv)) = true := by decide +kernel
theorem z_start {s : State} {b L : Nat} {xs : Nat → Int32} (hL : L ≤ 256) (hts : ∀ w ∈ lw_tbl, w.before #[Value.ref b] s = true) (hX : va_X b L xs s s.heap) (hb : b < s.heap.size) (hgv : (Jvm.Cond.and given_1 narrow_1).before #[Value.ref b] s = true) :
    ∃ G : zG, gX G 1 = b ∧ g0 G = s.heap.size ∧ zWd s ∧ zKn G s ∧ zRel G s (zS0 L xs) s.heap := by
  have hs := flat_of_before _ hgv
  have w1 : ∀ w : Cond, w ∈ _ → w.before #[Value.ref b] s = true := fun w hw => hs w (of_decide_eq_true (List.all_eq_true.mp zgv1 w hw))
  have wl : ∀ w : Cond, w ∈ _ → w.before #[Value.ref b] s = true := fun w hw => hts w (zckL_in zwq w hw)
  have wi : ∀ w : Cond, w ∈ _ → w.before #[Value.ref b] s = true := fun w hw => hts w (zckL_in zwi w hw)
  have g2 : ∀ j, j < 19 → _ := fun j hj => (Bool.and_eq_true _ _).mp (List.all_eq_true.mp zgv2 j (List.mem_range.mpr hj))
  have g3 : ∀ j, j < 4 → _ := fun j hj => of_decide_eq_true (List.all_eq_true.mp zgv3 j (List.mem_range.mpr hj))
  have g4 : ∀ j, j < 8 → _ := fun j hj => (Bool.and_eq_true _ _).mp (List.all_eq_true.mp zgv4 j (List.mem_range.mpr hj))
  have g5 : ∀ j, j < 5 → _ := fun j hj => of_decide_eq_true (List.all_eq_true.mp zgv5 j (List.mem_range.mpr hj))
  have hP : ∀ a : Nat, a < s.heap.size → ¬ (s.heap.size ≤ a) := fun a h1 h2 => by omega
  -- classes
  have hc : ∀ k : Nat, ∃ q : ClassId × (Nat → Nat), 1 ≤ k → k ≤ 31 → u_Kn s (zcn k) (zT k) (znf k) q.1 q.2 := by
    intro k
    by_cases h : 1 ≤ k ∧ k ≤ 31
    · obtain ⟨c, i, h3⟩ := u_known (ws := lw_tbl) hts (zlay h.1 h.2) (hts _ (zinst h.1 h.2))
      exact ⟨(c, i), fun _ _ => h3⟩
    · exact ⟨(0, fun _ => 0), fun a b => absurd ⟨a, b⟩ h⟩
  obtain ⟨C, hC⟩ := Classical.axiomOfChoice hc
  have ha : ∀ k : Nat, ∃ q : ClassId, zarr k = true → k ≠ 105 → ArrOfT s q (zaty k) ∧ va_RA s q (zaty k) := by
    intro k
    have prim : ∀ ty : FieldType, Cond.arrayClass ty ∈ lw_tbl → zaty k = ty → (∀ q : ClassId, s.vm.findClass ("[" ++ ty.toString) = some q → va_RA s q ty) → ∃ q : ClassId, zarr k = true → k ≠ 105 → ArrOfT s q (zaty k) ∧ va_RA s q (zaty k) := by
      intro ty hw hk hra
      obtain ⟨c, kc, comp, f1, f2, f3⟩ := Cond.arrayClass_spec (hts _ hw)
      refine ⟨c, fun _ _ => ?_⟩
      rw [hk]
      exact ⟨fun n z => ⟨(fun k h => by cases h), kc, f2, comp, f3⟩, hra c f1⟩
    by_cases k1 : k = 101
    · exact prim .byte (zckL_in zarrw _ (by simp)) (by rw [k1]; rfl) (fun q h => h)
    by_cases k2 : k = 102
    · exact prim .int (zckL_in zarrw _ (by simp)) (by rw [k2]; rfl) (fun q h => h)
    by_cases k3 : k = 103
    · exact prim .boolean (zckL_in zarrw _ (by simp)) (by rw [k3]; rfl) (fun q h => h)
    by_cases k4 : k = 104
    · exact prim .long (zckL_in zarrw _ (by simp)) (by rw [k4]; rfl) (fun q h => h)
    by_cases k5 : 110 ≤ k ∧ k ≤ 116
    · have hov : Cond.arrayOver (.object (zan k)) ∈ lw_tbl := zckL_in zarro _ (List.mem_map.mpr ⟨k - 110, List.mem_range.mpr (by omega), by rw [show 110 + (k - 110) = k by omega]⟩)
      obtain ⟨comp, c, kc, f1, f2, f3, f4, f5⟩ := Cond.arrayOver_spec (hts _ hov)
      refine ⟨c, fun _ _ => ?_⟩
      have ek : zaty k = .object (zan k) := by
        unfold zaty
        split <;> first | omega | rfl
      rw [ek]
      exact ⟨fun n z => ⟨(fun k h => by cases h), kc, f3, comp, f4⟩, kc, comp, f3, f4, f1, f5⟩
    · refine ⟨0, fun h h5 => ?_⟩
      unfold zarr at h
      simp at h
      omega
  obtain ⟨Q, hQ⟩ := Classical.axiomOfChoice ha
  -- what is there
  obtain ⟨t2, T2, Z2⟩ := zsa_of (xs := zSTP) (P := fun a => s.heap.size ≤ a) hP (by decide) (w1 (Cond.arrayOf (.static "PackingHouse$Blocks" "STEPS" "[I") .int) (by decide +kernel)) (w1 (Cond.eq (.length (.static "PackingHouse$Blocks" "STEPS" "[I")) (.int (Int32.ofNat 19))) (by decide +kernel)) (fun j hj => hs _ (of_decide_eq_true (g2 j hj).1)) (wl _ (by decide +kernel)) (wi _ (by decide +kernel))
  obtain ⟨t3, T3, Z3⟩ := zsa_of (xs := zMAG) (P := fun a => s.heap.size ≤ a) hP (by decide) (w1 (Cond.arrayOf (.static "PackingHouse$Frame" "MAGIC" "[I") .int) (by decide +kernel)) (w1 (Cond.eq (.length (.static "PackingHouse$Frame" "MAGIC" "[I")) (.int (Int32.ofNat 4))) (by decide +kernel)) (fun j hj => hs _ (g3 j hj)) (wl _ (by decide +kernel)) (wi _ (by decide +kernel))
  obtain ⟨t4, T4, Z4⟩ := zsa_of (xs := zSTP) (P := fun a => s.heap.size ≤ a) hP (by decide) (w1 (Cond.arrayOf (.static "PackingHouseModel" "STEPS" "[I") .int) (by decide +kernel)) (w1 (Cond.eq (.length (.static "PackingHouseModel" "STEPS" "[I")) (.int (Int32.ofNat 19))) (by decide +kernel)) (fun j hj => hs _ (of_decide_eq_true (g2 j hj).2)) (wl _ (by decide +kernel)) (wi _ (by decide +kernel))
  obtain ⟨t5, T5, Z5⟩ := zsa_of (xs := zBEN) (P := fun a => s.heap.size ≤ a) hP (by decide) (w1 (Cond.arrayOf (.static "PackingHouseModel" "BENCH" "[I") .int) (by decide +kernel)) (w1 (Cond.eq (.length (.static "PackingHouseModel" "BENCH" "[I")) (.int (Int32.ofNat 8))) (by decide +kernel)) (fun j hj => hs _ (of_decide_eq_true (g4 j hj).1)) (wl _ (by decide +kernel)) (wi _ (by decide +kernel))
  have exB := w1 (Cond.exactly (.string "PackingHouse$Bench" 27) "java/lang/String") (by decide +kernel)
  have exT := w1 (Cond.exactly (.string "PackingHouse$Tape" 56) "java/lang/String") (by decide +kernel)
  obtain ⟨aB, -, -, -, eB, -⟩ := Cond.exactly_spec exB
  obtain ⟨aT, -, -, -, eT, -⟩ := Cond.exactly_spec exT
  obtain ⟨dB, vB, TB⟩ := va_Tof (f := fun j => .int ((zchL.getD 1 []).getD j 0)) (A := fun a => s.heap.size ≤ a) (N := 8) (by decide) (w1 (Cond.arrayOf (.field (.string "PackingHouse$Bench" 27) "java/lang/String" "value" "[B") .byte) (by decide +kernel)) (va_eqt (w1 (Cond.eq (.length (.field (.string "PackingHouse$Bench" 27) "java/lang/String" "value" "[B")) (.int (Int32.ofNat 8))) (by decide +kernel))) (fun j hj => va_eqt (hs _ (of_decide_eq_true (g4 j hj).2))) hP
  obtain ⟨dT, vT, TT⟩ := va_Tof (f := fun j => .int ((zchL.getD 0 []).getD j 0)) (A := fun a => s.heap.size ≤ a) (N := 5) (by decide) (w1 (Cond.arrayOf (.field (.string "PackingHouse$Tape" 56) "java/lang/String" "value" "[B") .byte) (by decide +kernel)) (va_eqt (w1 (Cond.eq (.length (.field (.string "PackingHouse$Tape" 56) "java/lang/String" "value" "[B")) (.int (Int32.ofNat 5))) (by decide +kernel))) (fun j hj => va_eqt (hs _ (g5 j hj))) hP
  obtain ⟨u0, hu0⟩ := zRef_of (w1 (Cond.isRef (.static Bundle.tN "UNASSIGNED_STACK" Bundle.steD)) (by decide +kernel))
  obtain ⟨sen, hsen⟩ := zRef_of (w1 (Cond.isRef (.static Bundle.tN "SUPPRESSED_SENTINEL" Bundle.listD)) (by decide +kernel))
  obtain ⟨fmt, hfmt⟩ := zRef_of (w1 (Cond.isRef (.static "jdk/internal/util/Preconditions" "SIOOBE_FORMATTER" "Ljava/util/function/BiFunction;")) (by decide +kernel))
  refine ⟨(fun k => (C k).1, fun k => (C k).2, Q, (fun r => [0, b, t2, t3, t4, t5, aT, dT, aB, dB].getD r 0), s.heap.size), rfl, rfl, zWd_of hts, ⟨hC, hQ, vk_R.of (wl _ (by decide +kernel)) eT, vk_R.of (wl _ (by decide +kernel)) eB⟩, by show _ = s.heap.size + (10 - 10); simp, Nat.le_refl _, fun r h1 h2 => absurd h2 (Nat.not_lt.mpr h1), fun r h1 h2 => ?_, fun r h1 h2 => ?_, u0, sen, va_Zof (wl _ (by decide +kernel)) (wi _ (by decide +kernel)) hu0 hP, va_Zof (wl _ (by decide +kernel)) (wi _ (by decide +kernel)) hsen hP, zLy_of rfl (wl _ (by decide +kernel)), zLy_of rfl (wl _ (by decide +kernel)), fmt, va_Zof (wl _ (by decide +kernel)) (wi _ (by decide +kernel)) (va_eqt (w1 _ (by decide +kernel))) hP, va_Zof (wl _ (by decide +kernel)) (wi _ (by decide +kernel)) hfmt hP, zSo_of rfl rfl rfl exT eT (va_eqt (w1 _ (by decide +kernel))) vT TT, zSo_of rfl rfl rfl exB eB (va_eqt (w1 _ (by decide +kernel))) vB TB⟩
  · obtain ⟨scr, x1, x2, x3, x4, x5⟩ := hX
    have one : ∀ (t N : Nat) (ys : List Int32), va_T .int t N (fun j => .int (ys.getD j 0)) (fun a => s.heap.size ≤ a) s s.heap → ∃ cell : Cell, s.heap[t]? = some cell ∧ s.isArrayOf cell .int ∧ cell.vm ≠ .unknown ∧ (N ≤ cell.slots.size ∧ cell.slots.size.toInt32 = Int32.ofNat N) ∧ (∀ j, j < N → cell.slots[j]? = some (.int (ys.getD j 0))) ∧ t < s.heap.size := fun t N ys ⟨ce, c1, c2, c3, c4, c5, c6, c7⟩ => ⟨ce, c1, c2, c3, ⟨c4, c5⟩, c6, Nat.lt_of_not_le c7⟩
    rcases (by omega : r = 1 ∨ r = 2 ∨ r = 3 ∨ r = 4 ∨ r = 5) with rfl | rfl | rfl | rfl | rfl
    · refine ⟨hb, scr, x1, x2, x3, ?_, ?_⟩
      · have e : (zI (zS0 L xs) 0 0).toNatClampNeg = L := nI_clamp (by omega)
        rw [if_pos rfl, e, x4]; exact ⟨Nat.le_refl _, rfl⟩
      · intro j hj
        have e : (zI (zS0 L xs) 0 0).toNatClampNeg = L := nI_clamp (by omega)
        rw [if_pos rfl, e] at hj
        exact x5 j hj
    · obtain ⟨cell, c1, c2, c3, c4, c5, c6⟩ := one t2 19 zSTP T2
      exact ⟨c6, cell, c1, c2, c3, c4, c5⟩
    · obtain ⟨cell, c1, c2, c3, c4, c5, c6⟩ := one t3 4 zMAG T3
      exact ⟨c6, cell, c1, c2, c3, c4, c5⟩
    · obtain ⟨cell, c1, c2, c3, c4, c5, c6⟩ := one t4 19 zSTP T4
      exact ⟨c6, cell, c1, c2, c3, c4, c5⟩
    · obtain ⟨cell, c1, c2, c3, c4, c5, c6⟩ := one t5 8 zBEN T5
      exact ⟨c6, cell, c1, c2, c3, c4, c5⟩
  · rcases (by omega : r = 2 ∨ r = 3 ∨ r = 4 ∨ r = 5) with rfl | rfl | rfl | rfl
    · exact Z2
    · exact Z3
    · exact Z4
    · exact Z5

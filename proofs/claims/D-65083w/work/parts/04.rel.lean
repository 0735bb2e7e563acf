/-! PART 04: how the abstract memory stands in the machine's heap -/
/-- class ids of kinds, slots of fields, class ids of array kinds, addresses of what was there before, heap size at the law's start -/
abbrev zG : Type := (Nat → ClassId) × (Nat → Nat → Nat) × (Nat → ClassId) × (Nat → Nat) × Nat
def gC (G : zG) : Nat → ClassId := G.1
def gI (G : zG) : Nat → Nat → Nat := G.2.1
def gA (G : zG) : Nat → ClassId := G.2.2.1
def gX (G : zG) : Nat → Nat := G.2.2.2.1
def g0 (G : zG) : Nat := G.2.2.2.2
def zad (G : zG) (r : Nat) : Nat := if r < 10 then gX G r else g0 G + (r - 10)
def zva (G : zG) (v : Value) : Value := match v with
  | .ref 0 => .null
  | .ref (r + 1) => .ref (zad G (r + 1))
  | v => v
def zvl (G : zG) (q : Nat × Value) : Nat × Value := (q.1, zva G q.2)
theorem zva_cat (G : zG) (v : Value) : (zva G v).category = v.category := by
  cases v with
  | ref a => cases a <;> rfl
  | _ => rfl
theorem zva_ref (G : zG) {r : Nat} (h : r ≠ 0) : zva G (.ref r) = .ref (zad G r) := by
  cases r with
  | zero => exact absurd rfl h
  | succ r => rfl
/-- what a place of an array holds -/
def zav (G : zG) (σ : zS) (r j : Nat) : Value := if zK r = 104 then .long (zL σ r j) else if zK r / 10 = 11 then zva G (.ref (zR σ r j)) else .int (zI σ r j)
/-- what a field holds -/
def zfc (G : zG) (σ : zS) (k f r : Nat) : Value := zva G (zfv false σ k f r)
def zcel (G : zG) (σ : zS) (r : Nat) (H : Heap) : Prop :=
  (101 ≤ zK r → H[zad G r]? = some (arrV (gA G (zK r)) (zN r) (zav G σ r))) ∧
  (¬ 101 ≤ zK r → ∃ cell : Cell, H[zad G r]? = some cell ∧ cell.cls = gC G (zK r) ∧ cell.vm = .none ∧ cell.monitor.owner = none ∧ (cell.monitor.count = 0 ∧ cell.slots.size = zns (zK r)) ∧ ∀ f, f < znf (zK r) → cell.slots[gI G (zK r) f]? = some (zfc G σ (zK r) f r))
/-- arrays of ints that were there before -/
def zxa (G : zG) (σ : zS) (U : State) (H : Heap) (r n : Nat) : Prop :=
  ∃ cell : Cell, H[gX G r]? = some cell ∧ U.isArrayOf cell .int ∧ cell.vm ≠ .unknown ∧ (n ≤ cell.slots.size ∧ cell.slots.size.toInt32 = Int32.ofNat n) ∧ ∀ j, j < n → cell.slots[j]? = some (.int (zI σ r j))
def zXs (G : zG) (σ : zS) (U : State) (H : Heap) : Prop := ∀ r, 1 ≤ r → r < 6 → gX G r < g0 G ∧ zxa G σ U H r (if r = 1 then (zI σ 0 0).toNatClampNeg else zN r)
/-- a static field's cell, as the word of its laying has it -/
def zLy (G : zG) (U : State) (H : Heap) (n d : String) : Prop := ∃ (c : ClassId) (k : Class) (i : Nat) (f : Field) (a : Nat) (cell : Cell), U.vm.findClass Bundle.tN = some c ∧ U.fieldFound? Bundle.tN n d = some (c, k, i, f) ∧ f.isStatic = true ∧ k.statics = some a ∧ H[a]? = some cell ∧ cell.vm.isStatics = true ∧ cell.cls = c ∧ f.slot < cell.slots.size ∧ k.staticTypes[f.slot]? = some f.type ∧ a < g0 G
theorem zLy_k {G : zG} {U : State} {H H' : Heap} {n d : String} (h : zLy G U H n d) (hq : ∀ a : Nat, a < H.size → a < g0 G → H'[a]? = H[a]?) : zLy G U H' n d := by
  obtain ⟨c, k, i, f, a, cell, h1, h2, h3, h4, h5, h6, h7, h8, h9, h10⟩ := h
  exact ⟨c, k, i, f, a, cell, h1, h2, h3, h4, by rw [hq a (Array.getElem?_eq_some_iff.mp h5).1 h10]; exact h5, h6, h7, h8, h9, h10⟩
theorem zLy_U {G : zG} {u U : State} {H : Heap} {n d : String} (hvm : u.vm.Alike U.vm) (h : zLy G u H n d) : zLy G U H n d := by
  obtain ⟨c, k, i, f, a, cell, h1, h2, h3, h4, h5, h6, h7, h8, h9, h10⟩ := h
  obtain ⟨k', hi', he⟩ := State.fieldFound?_setVm hvm h2
  exact ⟨c, k', i, f, a, cell, by rw [hvm.findClass]; exact h1, hi', h3, by rw [he]; exact h4, h5, h6, h7, h8, by rw [he]; exact h9, h10⟩
theorem zLy_w {G : zG} {U : State} {n d : String} {A : Array Value} (h : zLy G U U.heap n d) : (Cond.laysStatic Bundle.tN n d).before A U = true := by
  obtain ⟨c, k, i, f, a, cell, h1, h2, h3, h4, h5, h6, h7, h8, h9, h10⟩ := h
  exact Cond.laysStatic_of h1 h2 h3 h4 h5 h6 h7 h8 h9
/-- one of the two strings, as String.charAt reads it -/
def zSo (G : zG) (U : State) (H : Heap) (q : Nat) : Prop := ∃ (cell : Cell) (c c1 c2 : ClassId) (k k1 k2 : Class) (i1 i2 : Nat) (f1 f2 : Field),
  (H[gX G (6 + 2 * q)]? = some cell ∧ U.vm.findClass "java/lang/String" = some c ∧ U.vm.classes[c]? = some k ∧ cell.vm.isStatics = false ∧ cell.cls = c ∧ (k.kind = .ordinary → cell.slots.size = k.instanceTypes.size) ∧ cell.vm ≠ .unknown ∧ gX G (6 + 2 * q) < g0 G) ∧
  (U.fieldFound? "java/lang/String" "coder" "B" = some (c1, k1, i1, f1) ∧ f1.isStatic = false ∧ U.vm.assignable cell.cls c1 = true ∧ cell.slots[f1.slot]? = some (.int 0)) ∧
  (U.fieldFound? "java/lang/String" "value" "[B" = some (c2, k2, i2, f2) ∧ f2.isStatic = false ∧ U.vm.assignable cell.cls c2 = true ∧ cell.slots[f2.slot]? = some (.ref (gX G (7 + 2 * q)))) ∧
  va_T .byte (gX G (7 + 2 * q)) ((zchL.getD q []).length) (fun j => .int ((zchL.getD q []).getD j 0)) (fun a => g0 G ≤ a) U H
theorem zSo_k {G : zG} {U : State} {H H' : Heap} {q : Nat} (h : zSo G U H q) (hq : ∀ a : Nat, a < H.size → ¬ g0 G ≤ a → H'[a]? = H[a]?) : zSo G U H' q := by
  obtain ⟨cell, c, c1, c2, k, k1, k2, i1, i2, f1, f2, ⟨h1, h2⟩, h3, h4, h5⟩ := h
  refine ⟨cell, c, c1, c2, k, k1, k2, i1, i2, f1, f2, ⟨?_, h2⟩, h3, h4, h5.kept hq⟩
  rw [hq _ (Array.getElem?_eq_some_iff.mp h1).1 (Nat.not_le_of_lt h2.2.2.2.2.2.2)]
  exact h1
theorem zSo_U {G : zG} {u U : State} {H : Heap} {q : Nat} (hvm : u.vm.Alike U.vm) (h : zSo G u H q) : zSo G U H q := by
  obtain ⟨cell, c, c1, c2, k, k1, k2, i1, i2, f1, f2, ⟨h1, h2, h3, h4, h5, h6, h7, h8⟩, ⟨g1, g2, g3, g4⟩, ⟨e1, e2, e3, e4⟩, d1⟩ := h
  obtain ⟨k', hk', he⟩ := hvm.2.2 _ _ h3
  obtain ⟨k1', hk1', -⟩ := State.fieldFound?_setVm hvm g1
  obtain ⟨k2', hk2', -⟩ := State.fieldFound?_setVm hvm e1
  refine ⟨cell, c, c1, c2, k', k1', k2', i1, i2, f1, f2, ⟨h1, by rw [hvm.findClass]; exact h2, hk', h4, h5, ?_, h7, h8⟩, ⟨hk1', g2, by rw [hvm.assignable]; exact g3, g4⟩, ⟨hk2', e2, by rw [hvm.assignable]; exact e3, e4⟩, d1.moved hvm⟩
  rw [he]; exact h6
/-- the two strings, and what String.charAt reads beside them -/
def zSt (G : zG) (U : State) (H : Heap) : Prop := ∃ fmt : RefV, va_Z "java/lang/String" "COMPACT_STRINGS" "Z" (.int 1) (fun a => g0 G ≤ a) U H ∧ va_Z "jdk/internal/util/Preconditions" "SIOOBE_FORMATTER" "Ljava/util/function/BiFunction;" fmt.v (fun a => g0 G ≤ a) U H ∧ zSo G U H 0 ∧ zSo G U H 1
theorem zSt_k {G : zG} {U : State} {H H' : Heap} (h : zSt G U H) (hq : ∀ a : Nat, a < H.size → ¬ g0 G ≤ a → H'[a]? = H[a]?) : zSt G U H' := by
  obtain ⟨fmt, h1, h2, h3, h4⟩ := h
  exact ⟨fmt, h1.kept hq, h2.kept hq, zSo_k h3 hq, zSo_k h4 hq⟩
theorem zSt_U {G : zG} {u U : State} {H : Heap} (hvm : u.vm.Alike U.vm) (h : zSt G u H) : zSt G U H := by
  obtain ⟨fmt, h1, h2, h3, h4⟩ := h
  exact ⟨fmt, h1.moved hvm, h2.moved hvm, zSo_U hvm h3, zSo_U hvm h4⟩
/-- static fields -/
def zZs (G : zG) (U : State) (H : Heap) : Prop := (∀ r, 2 ≤ r → r < 6 → va_Z (zscn r) (zsnm r) "[I" (.ref (gX G r)) (fun a => g0 G ≤ a) U H) ∧
  ∃ u0 sen : RefV, va_Z Bundle.tN "UNASSIGNED_STACK" Bundle.steD u0.v (fun a => g0 G ≤ a) U H ∧ va_Z Bundle.tN "SUPPRESSED_SENTINEL" Bundle.listD sen.v (fun a => g0 G ≤ a) U H ∧ zLy G U H "UNASSIGNED_STACK" Bundle.steD ∧ zLy G U H "SUPPRESSED_SENTINEL" Bundle.listD ∧ zSt G U H
theorem zZs_k {G : zG} {U : State} {H H' : Heap} (h : zZs G U H) (hq : ∀ a : Nat, a < H.size → a < g0 G → H'[a]? = H[a]?) : zZs G U H' := by
  obtain ⟨h0, u0, sen, h1, h2, h3, h4, h5⟩ := h
  have hq' : ∀ a : Nat, a < H.size → ¬ g0 G ≤ a → H'[a]? = H[a]? := fun a h3 h4 => hq a h3 (Nat.lt_of_not_le h4)
  exact ⟨fun r h1 h2 => (h0 r h1 h2).kept hq', u0, sen, h1.kept hq', h2.kept hq', zLy_k h3 hq, zLy_k h4 hq, zSt_k h5 hq'⟩
theorem zZs_U {G : zG} {u U : State} {H : Heap} (hvm : u.vm.Alike U.vm) (h : zZs G u H) : zZs G U H := by
  obtain ⟨h0, u0, sen, h1, h2, h3, h4, h5⟩ := h
  exact ⟨fun r h1 h2 => (h0 r h1 h2).moved hvm, u0, sen, h1.moved hvm, h2.moved hvm, zLy_U hvm h3, zLy_U hvm h4, zSt_U hvm h5⟩
def zRel (G : zG) (U : State) (σ : zS) (H : Heap) : Prop :=
  H.size = g0 G + (zn σ - 10) ∧ 10 ≤ zn σ ∧ (∀ r, 10 ≤ r → r < zn σ → zcel G σ r H) ∧ zXs G σ U H ∧ zZs G U H
theorem zcel_eq {G : zG} {σ τ : zS} {r : Nat} {H : Heap} (h1 : zI σ r = zI τ r) (h2 : zL σ r = zL τ r) (h3 : zR σ r = zR τ r) (h : zcel G σ r H) : zcel G τ r H := by
  refine ⟨fun h4 => ?_, fun h4 => ?_⟩
  · rw [h.1 h4]
    congr 2
    funext j
    unfold zav
    rw [h1, h2, h3]
  · obtain ⟨cell, a1, a2, a3, a4, a5, a6⟩ := h.2 h4
    refine ⟨cell, a1, a2, a3, a4, a5, fun f hf => ?_⟩
    rw [a6 f hf]
    unfold zfc zfv
    rw [h1, h2, h3]
theorem zcel_H {G : zG} {σ : zS} {r : Nat} {H H' : Heap} (h : H'[zad G r]? = H[zad G r]?) (hc : zcel G σ r H) : zcel G σ r H' := by
  refine ⟨fun h4 => h.trans (hc.1 h4), fun h4 => ?_⟩
  obtain ⟨cell, a1, a2⟩ := hc.2 h4
  exact ⟨cell, h.trans a1, a2⟩
theorem zad_ne {G : zG} {r q : Nat} (hr : 10 ≤ r) (hq : 10 ≤ q) (h : r ≠ q) : zad G r ≠ zad G q := by
  unfold zad
  rw [if_neg (by omega), if_neg (by omega)]
  omega
theorem zad_ge {G : zG} {r : Nat} (hr : 10 ≤ r) : g0 G ≤ zad G r := by
  unfold zad
  rw [if_neg (by omega)]
  omega
/-- one cell is written -/
theorem zRel_w {G : zG} {U : State} {σ τ : zS} {H H' : Heap} {r : Nat} (h : zRel G U σ H) (hr : 10 ≤ r) (hn : zn τ = zn σ) (hs : H'.size = H.size) (ho : ∀ q, q ≠ zad G r → H'[q]? = H[q]?)
    (he : ∀ q, q ≠ r → zI σ q = zI τ q ∧ zL σ q = zL τ q ∧ zR σ q = zR τ q) (hc : zcel G τ r H') : zRel G U τ H' := by
  obtain ⟨h1, h2, h3, h4, h5⟩ := h
  refine ⟨by rw [hs, hn]; exact h1, by rw [hn]; exact h2, fun q hq hq2 => ?_, fun q hq hq2 => ?_, zZs_k h5 fun a _ ha => ho a (by have := zad_ge (G := G) hr; omega)⟩
  · by_cases e : q = r
    · subst e; exact hc
    · rw [hn] at hq2
      obtain ⟨e1, e2, e3⟩ := he q e
      exact zcel_eq e1 e2 e3 (zcel_H (ho _ (zad_ne hq hr e)) (h3 q hq hq2))
  · obtain ⟨x1, cell, x2, x3, x4, x5, x6⟩ := h4 q hq hq2
    have e0 : zI σ q = zI τ q := (he q (by omega)).1
    have e1 : zI σ 0 = zI τ 0 := (he 0 (by omega)).1
    refine ⟨x1, cell, ?_, x3, x4, by rw [← e1]; exact x5, fun j hj => ?_⟩
    · rw [ho _ (by have := zad_ge (G := G) hr; omega)]; exact x2
    · rw [← e0]; rw [← e1] at hj; exact x6 j hj
/-- one cell is made -/
theorem zRel_n {G : zG} {U : State} {σ : zS} {H H' : Heap} (h : zRel G U σ H) (hs : H'.size = H.size + 1) (ho : ∀ q, q < H.size → H'[q]? = H[q]?) (hc : zcel G (znw σ) (zn σ) H') : zRel G U (znw σ) H' := by
  obtain ⟨h1, h2, h3, h4, h5⟩ := h
  have hn : zn (znw σ) = zn σ + 1 := rfl
  have hx : ∀ q, q ≠ zn σ → zI σ q = zI (znw σ) q ∧ zL σ q = zL (znw σ) q ∧ zR σ q = zR (znw σ) q := by
    intro q hq
    have hq' : ¬ q = σ.1 := hq
    refine ⟨?_, ?_, ?_⟩
    · show σ.2.1 q = va_up σ.2.1 σ.1 (fun _ => 0) q
      unfold va_up; rw [if_neg hq']
    · show σ.2.2.1 q = va_up σ.2.2.1 σ.1 (fun _ => 0) q
      unfold va_up; rw [if_neg hq']
    · show σ.2.2.2 q = va_up σ.2.2.2 σ.1 (fun _ => 0) q
      unfold va_up; rw [if_neg hq']
  refine ⟨by rw [hs, hn, h1]; omega, by rw [hn]; omega, fun q hq hq2 => ?_, fun q hq hq2 => ?_, zZs_k h5 fun a ha _ => ho a ha⟩
  · by_cases e : q = zn σ
    · subst e; exact hc
    · obtain ⟨e1, e2, e3⟩ := hx q e
      refine zcel_eq e1 e2 e3 (zcel_H (ho _ ?_) (h3 q hq (by rw [hn] at hq2; omega)))
      rw [h1]
      unfold zad
      rw [if_neg (by omega)]
      rw [hn] at hq2
      omega
  · obtain ⟨x1, cell, x2, x3, x4, x5, x6⟩ := h4 q hq hq2
    have e0 : zI σ q = zI (znw σ) q := (hx q (by omega)).1
    have e1 : zI σ 0 = zI (znw σ) 0 := (hx 0 (by omega)).1
    refine ⟨x1, cell, ?_, x3, x4, by rw [← e1]; exact x5, fun j hj => ?_⟩
    · rw [ho _ (by omega)]; exact x2
    · rw [← e0]; rw [← e1] at hj; exact x6 j hj
theorem zRel_U {G : zG} {u U : State} {σ : zS} {H : Heap} (hvm : u.vm.Alike U.vm) (h : zRel G u σ H) : zRel G U σ H := by
  obtain ⟨h1, h2, h3, h4, h5⟩ := h
  refine ⟨h1, h2, h3, fun q hq hq2 => ?_, zZs_U hvm h5⟩
  obtain ⟨x1, cell, x2, x3, x4⟩ := h4 q hq hq2
  exact ⟨x1, cell, x2, State.isArrayOf_alike hvm x3, x4⟩

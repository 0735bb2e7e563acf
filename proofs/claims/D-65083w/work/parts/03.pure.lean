/-! PART 03.pure: dictionaries of calls, as meanings alone -/
/-- the receiver of a call is an object of kind k -/
def zvt (ph : Bool) (k : Nat) (X : zX) : zX := fun as σ K E => match as with
  | .ref r :: _ => zalk ph σ r k (X as σ K E)
  | _ => False
/-- the receiver of a call is there -/
def znn (X : zX) : zX := fun as σ K E => match as with
  | .ref r :: _ => r ≠ 0 ∧ X as σ K E
  | _ => False
def zor (X Y : zX) : zX := fun as σ K E => X as σ K E ∨ Y as σ K E
theorem zvt_m {ph : Bool} {k : Nat} {X : zX} (h : zMono X) : zMono (zvt ph k X) := by
  intro as σ K K' E E' hK hE hX
  rcases as with _ | ⟨v, as⟩
  · exact hX
  · cases v <;> first | exact zalk_m (h _ _ _ _ _ _ hK hE) hX | exact hX
theorem znn_m {X : zX} (h : zMono X) : zMono (znn X) := by
  intro as σ K K' E E' hK hE hX
  rcases as with _ | ⟨v, as⟩
  · exact hX
  · cases v <;> first | exact And.imp_right (h _ _ _ _ _ _ hK hE) hX | exact hX
theorem zor_m {X Y : zX} (h1 : zMono X) (h2 : zMono Y) : zMono (zor X Y) := fun as σ K K' E E' hK hE h => h.elim (fun h => Or.inl (h1 _ _ _ _ _ _ hK hE h)) (fun h => Or.inr (h2 _ _ _ _ _ _ hK hE h))
theorem zvt_i {ph : Bool} {k : Nat} {X : zX} {as : List Value} {σ : zS} {K : zKt} {E : zEt} (h : zvt ph k X as σ K E) : ∃ r as', as = .ref r :: as' ∧ zalk ph σ r k (X as σ K E) := by
  rcases as with _ | ⟨v, as⟩
  · exact h.elim
  · cases v <;> first | exact ⟨_, _, rfl, h⟩ | exact h.elim
theorem znn_i {X : zX} {as : List Value} {σ : zS} {K : zKt} {E : zEt} (h : znn X as σ K E) : ∃ r as', as = .ref r :: as' ∧ r ≠ 0 ∧ X as σ K E := by
  rcases as with _ | ⟨v, as⟩
  · exact h.elim
  · cases v <;> first | exact ⟨_, _, rfl, h⟩ | exact h.elim
/-- index, instruction (0 virtual, 1 special, 2 static), operands, meaning -/
abbrev zCl : Type := List (Nat × Nat × Nat × zX)
def zbot : zX := fun _ _ _ _ => False
def zcX (L : zCl) (i : Nat) : zX := match L.find? (fun q => q.1 == i) with
  | some q => q.2.2.2
  | none => zbot
def zcA (L : zCl) (i : Nat) : Nat := match L.find? (fun q => q.1 == i) with
  | some q => q.2.2.1
  | none => 0
def zcMo : zCl → Prop
  | [] => True
  | q :: t => zMono q.2.2.2 ∧ zcMo t
theorem zcMo_i : ∀ {L : zCl}, zcMo L → ∀ q ∈ L, zMono q.2.2.2
  | [], _, q, hq => absurd hq List.not_mem_nil
  | v :: t, h, q, hq => by
    rcases List.mem_cons.mp hq with rfl | hq
    · exact h.1
    · exact zcMo_i h.2 q hq
theorem zcMo_X {L : zCl} (h : zcMo L) (i : Nat) : zMono (zcX L i) := by
  unfold zcX
  cases hf : L.find? (fun q => q.1 == i) with
  | none => exact fun _ _ _ _ _ _ _ _ h => h.elim
  | some q => exact zcMo_i h q (List.mem_of_find?_eq_some hf)
/-- a method by its table and dictionary -/
def zMd (o : Nat) (rt : Option FieldType) (ph : Bool) (tb : zTb) (L : zCl) (nL : Nat) : zX := zMe (o, rt, ph, tb, zcA L, zcX L, fun _ => none) nL
theorem zMd_m {o : Nat} {rt : Option FieldType} {ph : Bool} {tb : zTb} {L : zCl} {nL : Nat} (h : ∀ i, zMono (zcX L i)) : zMono (zMd o rt ph tb L nL) := zMe_m (M := (o, rt, ph, tb, zcA L, zcX L, fun _ => none)) h nL
/-- Object's constructor does nothing -/
def X_objInit : zX := fun as σ K _ => match as with
  | [.ref r] => r ≠ 0 ∧ K none σ
  | _ => False
theorem X_objInit_m : zMono X_objInit := by
  intro as σ K K' E E' hK hE h
  rcases as with _ | ⟨v, _ | ⟨w, as⟩⟩
  · exact h
  · cases v <;> first | exact ⟨h.1, hK _ _ h.2⟩ | exact h
  · cases v <;> exact h
/-- a method's meaning by running its frame -/
theorem zMd_o {o : Nat} {rt : Option FieldType} {ph : Bool} {tb : zTb} {L : zCl} {nL : Nat} {as : List Value} {σ : zS} {K : zKt} {E : zEt} (h : zcMo L) (cut : Nat → Bool) (n : Nat) (hf : (lg_sl as).length ≤ nL)
    (hr : zrun (o, rt, ph, tb, zcA L, zcX L, fun _ => none) K E cut n 0 (lv_args 0 as) [] σ) : zMd o rt ph tb L nL as σ K E := ⟨hf, zEx_r (M := (o, rt, ph, tb, zcA L, zcX L, fun _ => none)) (zcMo_X h) cut n hr⟩
abbrev zMm (o : Nat) (rt : Option FieldType) (ph : Bool) (tb : zTb) (L : zCl) : zM := (o, rt, ph, tb, zcA L, zcX L, fun _ => none)
theorem zEx_o {o : Nat} {rt : Option FieldType} {ph : Bool} {tb : zTb} {L : zCl} {pc : Nat} {ls : zLs} {st : List Value} {σ : zS} {K : zKt} {E : zEt} (h : zcMo L) (cut : Nat → Bool) (n : Nat)
    (hr : zrun (zMm o rt ph tb L) K E cut n pc ls st σ) : zEx (zMm o rt ph tb L) K E pc ls st σ := zEx_r (M := zMm o rt ph tb L) (zcMo_X h) cut n hr
def zhd (a b h : Nat) : Nat → Option Nat := fun pc => match Nat.ble a pc && Nat.blt pc b with
  | true => some h
  | false => none
/-- a method with one handler -/
def zMdw (o : Nat) (rt : Option FieldType) (ph : Bool) (tb : zTb) (L : zCl) (a b h nL : Nat) : zX := zMe (o, rt, ph, tb, zcA L, zcX L, zhd a b h) nL
theorem zMdw_m {o : Nat} {rt : Option FieldType} {ph : Bool} {tb : zTb} {L : zCl} {a b h nL : Nat} (hm : ∀ i, zMono (zcX L i)) : zMono (zMdw o rt ph tb L a b h nL) := zMe_m (M := (o, rt, ph, tb, zcA L, zcX L, zhd a b h)) hm nL
theorem zMdw_o {o a b h : Nat} {rt : Option FieldType} {ph : Bool} {tb : zTb} {L : zCl} {nL : Nat} {as : List Value} {σ : zS} {K : zKt} {E : zEt} (hA : zcMo L) (cut : Nat → Bool) (n : Nat) (hf : (lg_sl as).length ≤ nL)
    (hr : zrun (o, rt, ph, tb, zcA L, zcX L, zhd a b h) K E cut n 0 (lv_args 0 as) [] σ) : zMdw o rt ph tb L a b h nL as σ K E := ⟨hf, zEx_r (M := (o, rt, ph, tb, zcA L, zcX L, zhd a b h)) (zcMo_X hA) cut n hr⟩
abbrev zMmw (o : Nat) (rt : Option FieldType) (ph : Bool) (tb : zTb) (L : zCl) (a b h : Nat) : zM := (o, rt, ph, tb, zcA L, zcX L, zhd a b h)
theorem zEx_ow {o a b h : Nat} {rt : Option FieldType} {ph : Bool} {tb : zTb} {L : zCl} {pc : Nat} {ls : zLs} {st : List Value} {σ : zS} {K : zKt} {E : zEt} (hA : zcMo L) (cut : Nat → Bool) (n : Nat)
    (hr : zrun (zMmw o rt ph tb L a b h) K E cut n pc ls st σ) : zEx (zMmw o rt ph tb L a b h) K E pc ls st σ := zEx_r (M := zMmw o rt ph tb L a b h) (zcMo_X hA) cut n hr
-- what a call brings
def zki (k : Int32 → zS → Prop) : zKt := fun v τ => match v with
  | some (.int x) => k x τ
  | _ => False
def zkl (k : Int64 → zS → Prop) : zKt := fun v τ => match v with
  | some (.long x) => k x τ
  | _ => False
def zkr (k : Nat → zS → Prop) : zKt := fun v τ => match v with
  | some (.ref x) => k x τ
  | _ => False
def zkv (k : zS → Prop) : zKt := fun v τ => match v with
  | none => k τ
  | _ => False
theorem zki_m {k : Int32 → zS → Prop} {K : zKt} (h : ∀ x τ, k x τ → K (some (.int x)) τ) (v : Option Value) (τ : zS) (hk : zki k v τ) : K v τ := by
  cases v with
  | none => exact hk.elim
  | some v => cases v <;> first | exact h _ _ hk | exact hk.elim
theorem zkl_m {k : Int64 → zS → Prop} {K : zKt} (h : ∀ x τ, k x τ → K (some (.long x)) τ) (v : Option Value) (τ : zS) (hk : zkl k v τ) : K v τ := by
  cases v with
  | none => exact hk.elim
  | some v => cases v <;> first | exact h _ _ hk | exact hk.elim
theorem zkr_m {k : Nat → zS → Prop} {K : zKt} (h : ∀ x τ, k x τ → K (some (.ref x)) τ) (v : Option Value) (τ : zS) (hk : zkr k v τ) : K v τ := by
  cases v with
  | none => exact hk.elim
  | some v => cases v <;> first | exact h _ _ hk | exact hk.elim
theorem zkv_m {k : zS → Prop} {K : zKt} (h : ∀ τ, k τ → K none τ) (v : Option Value) (τ : zS) (hk : zkv k v τ) : K v τ := by
  cases v with
  | none => exact h _ hk
  | some v => exact hk.elim
abbrev zrm (x y : Int32) : Int32 := x - x / y * y
abbrev zrl (x y : Int64) : Int64 := x - x / y * y
abbrev zil (x y : Int32) : Int32 := x <<< (y &&& 31)
abbrev zir (x y : Int32) : Int32 := x >>> (y &&& 31)
abbrev ziu (x y : Int32) : Int32 := (x.toUInt32 >>> (y.toUInt32 &&& Int32.toUInt32 31)).toInt32
abbrev zll (x : Int64) (y : Int32) : Int64 := x <<< (y.toInt64 &&& 63)
abbrev zlr (x : Int64) (y : Int32) : Int64 := x >>> (y.toInt64 &&& 63)
abbrev zlu (x : Int64) (y : Int32) : Int64 := (x.toUInt64 >>> (y.toInt64.toUInt64 &&& Int64.toUInt64 63)).toInt64
abbrev zib (x : Int32) : Int32 := x.toInt8.toInt32
/-- a meaning that unification does not look into -/
def zpr (X : zX) : zX := fun as σ K E => ∀ P : Prop, (X as σ K E → P) → P
theorem zpr_m {X : zX} (h : zMono X) : zMono (zpr X) := fun as σ K K' E E' hK hE hX P hP => hX P fun q => hP (h _ _ _ _ _ _ hK hE q)
def zcpb (σ : zS) (a sp n : Nat) : Prop := ∀ i, i < n → -128 ≤ zI σ a (sp + i) ∧ zI σ a (sp + i) ≤ 127
def X_acopy0 (ph : Bool) : zX := fun as σ K _ => match as with
  | [.ref a, .int sp, .ref b, .int dp, .int n] => zalo ph σ a (zalo ph σ b ((zK a = 102 ∨ (zK a = 101 ∧ zcpb σ a sp.toNatClampNeg n.toNatClampNeg)) ∧ zK b = zK a ∧ ¬ sp < 0 ∧ ¬ dp < 0 ∧ ¬ n < 0 ∧ sp.toNatClampNeg + n.toNatClampNeg ≤ zN a ∧ dp.toNatClampNeg + n.toNatClampNeg ≤ zN b ∧ K none (zsI σ b (va_cpy (zI σ a) (zI σ b) sp.toNatClampNeg dp.toNatClampNeg n.toNatClampNeg))))
  | _ => False
def X_acopy (ph : Bool) : zX := zpr (X_acopy0 ph)
theorem X_acopy_i {ph : Bool} {as : List Value} {σ : zS} {K : zKt} {E : zEt} (h : X_acopy ph as σ K E) : ∃ a sp b dp n, as = [.ref a, .int sp, .ref b, .int dp, .int n] := by
  have h : X_acopy0 ph as σ K E := h _ id
  unfold X_acopy0 at h
  split at h
  · exact ⟨_, _, _, _, _, rfl⟩
  · exact h.elim
theorem X_acopy_m {ph : Bool} : zMono (X_acopy ph) := by
  intro as σ K K' E E' hK hE h
  obtain ⟨a, sp, b, dp, n, rfl⟩ := X_acopy_i h
  have h : X_acopy0 ph _ σ K E := h _ id
  refine fun P hP => hP ?_
  unfold X_acopy0 at h ⊢
  exact zalo_m (zalo_m (fun ⟨h1, h2, h3, h4, h5, h6, h7, h8⟩ => ⟨h1, h2, h3, h4, h5, h6, h7, hK _ _ h8⟩)) h
def X_rte0 : zX := fun as σ K _ => match as with
  | [.ref a] => zK a = 30 ∧ a < zn σ ∧ zR σ a 2 = 0 ∧ K none σ
  | _ => False
def X_rte : zX := zpr (X_rte0)
theorem X_rte_i {as : List Value} {σ : zS} {K : zKt} {E : zEt} (h : X_rte as σ K E) : ∃ a : Nat, as = [.ref a] ∧ zK a = 30 ∧ a < zn σ ∧ zR σ a 2 = 0 ∧ K none σ := by
  have h : X_rte0 as σ K E := h _ id
  unfold X_rte0 at h
  split at h
  · exact ⟨_, rfl, h⟩
  · exact h.elim
theorem X_rte_m : zMono X_rte := by
  intro as σ K K' E E' hK hE h
  obtain ⟨a, rfl, h1, h2, h3, h4⟩ := X_rte_i h
  refine fun P hP => hP ?_
  unfold X_rte0
  exact ⟨h1, h2, h3, hK _ _ h4⟩
/-- the bytes of the two strings -/
def zchL : List (List Int32) := [[117, 115, 116, 97, 114], [33, 60, 97, 114, 99, 104, 62, 10]]
def zchs (a : Nat) : List Int32 := zchL.getD ((a - 6) / 2) []
def X_charAt0 : zX := fun as σ K _ => match as with
  | [.ref a, .int k] => (a = 6 ∨ a = 8) ∧ ¬ k < 0 ∧ k.toNatClampNeg < (zchs a).length ∧ K (some (.int ((zchs a).getD k.toNatClampNeg 0))) σ
  | _ => False
def X_charAt : zX := zpr (X_charAt0)
theorem X_charAt_i {as : List Value} {σ : zS} {K : zKt} {E : zEt} (h : X_charAt as σ K E) : ∃ (a : Nat) (k : Int32), as = [.ref a, .int k] ∧ (a = 6 ∨ a = 8) ∧ ¬ k < 0 ∧ k.toNatClampNeg < (zchs a).length ∧ K (some (.int ((zchs a).getD k.toNatClampNeg 0))) σ := by
  have h : X_charAt0 as σ K E := h _ id
  unfold X_charAt0 at h
  split at h
  · exact ⟨_, _, rfl, h⟩
  · exact h.elim
theorem X_charAt_m : zMono X_charAt := by
  intro as σ K K' E E' hK hE h
  obtain ⟨a, k, rfl, h1, h2, h3, h4⟩ := X_charAt_i h
  refine fun P hP => hP ?_
  unfold X_charAt0
  exact ⟨h1, h2, h3, hK _ _ h4⟩
/-- the phase: what is built is built -/
def zPh (ph : Bool) (σ : zS) : Prop := ph = true → zEnd ≤ zn σ ∧ ∀ r f, 10 ≤ r → r < zEnd → ztg (zK r) f = 3 → zR σ r f = r + zof (zK r) f
/-- a call in the second phase from the law's frame -/
def zpt (X : zX) : zX := fun as σ K E => zPh true σ ∧ X as σ (fun v τ => zPh true τ → K v τ) (fun a τ => zPh true τ → E a τ)
theorem zpt_m {X : zX} (h : zMono X) : zMono (zpt X) := fun _ _ _ _ _ _ hK hE ⟨h1, h2⟩ => ⟨h1, h _ _ _ _ _ _ (fun v τ q p => hK v τ (q p)) (fun a τ q p => hE a τ (q p)) h2⟩
theorem zki_p {k : Int32 → zS → Prop} {K : zKt} (h : ∀ x τ, k x τ → K (some (.int x)) τ) (v : Option Value) (τ : zS) (hk : zPh true τ → zki k v τ) (p : zPh true τ) : K v τ := zki_m h v τ (hk p)
theorem zkl_p {k : Int64 → zS → Prop} {K : zKt} (h : ∀ x τ, k x τ → K (some (.long x)) τ) (v : Option Value) (τ : zS) (hk : zPh true τ → zkl k v τ) (p : zPh true τ) : K v τ := zkl_m h v τ (hk p)

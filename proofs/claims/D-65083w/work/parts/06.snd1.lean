/-! PART 06: soundness, the frame's own instructions -/
def zgood (w : Cond) : Bool := (w.onTables && w.keeps) || (match w with
  | .fieldLinkNest .. => true
  | .methodLinkNest .. => true
  | .declares _ => true
  | .castable .. => true
  | .arrayClass _ => true
  | .arrayOver (.object _) => true
  | _ => false)
/-- the tables' words hold at a state -/
def zWd (U : State) : Prop := ∀ w ∈ lw_tbl, zgood w = true → ∀ A, w.before A U = true
theorem zWd_warm {s U : State} (hW : s.WarmedH U.vm) (h : zWd s) : zWd U := by
  intro w hw hg A
  have h0 := h w hw hg
  by_cases h1 : (w.onTables && w.keeps) = true
  · exact word_at hW (Or.inl h1) (h0 #[])
  · unfold zgood at hg
    rw [Bool.or_eq_true] at hg
    rcases hg with hg | hg
    · exact absurd hg h1
    · revert h0 hg
      cases w with
      | fieldLinkNest a i b n d hst => exact fun h0 _ => (va_Nw.use rfl (va_Nw.warmF hW (va_Nw.of rfl (h0 #[]))))
      | methodLinkNest a i x hst => exact fun h0 _ => (va_Nw.use rfl (va_Nw.warmM hW (va_Nw.of rfl (h0 #[]))))
      | declares x => exact fun h0 _ => (va_Nw.use rfl (va_Nw.warmD hW (va_Nw.of rfl (h0 #[]))))
      | castable a b => exact fun h0 _ => (va_Nw.use rfl (va_Nw.warmC hW (va_Nw.of rfl (h0 #[]))))
      | arrayClass t => exact fun h0 _ => word_at hW (Or.inr ⟨t, rfl⟩) (h0 #[])
      | arrayOver t =>
        cases t with
        | object C => exact fun h0 _ => va_AO.use (va_AO.moved hW.alike (va_AO.of (h0 #[])))
        | _ => exact fun _ hg => by simp at hg
      | _ => exact fun _ hg => by simp at hg
def zaty (k : Nat) : FieldType := match k with
  | 101 => .byte
  | 102 => .int
  | 103 => .boolean
  | 104 => .long
  | k => .object (zan k)
/-- classes of kinds as the tables have them -/
def zSr (G : zG) (U : State) : Prop := vk_R "PackingHouse$Tape" 56 "usta\x72" (gX G 6) U ∧ vk_R "PackingHouse$Bench" 27 "!<arch>\n" (gX G 8) U
def zKn (G : zG) (U : State) : Prop := (∀ k, 1 ≤ k → k ≤ 31 → u_Kn U (zcn k) (zT k) (znf k) (gC G k) (gI G k)) ∧ (∀ k, zarr k = true → k ≠ 105 → ArrOfT U (gA G k) (zaty k) ∧ va_RA U (gA G k) (zaty k)) ∧ zSr G U
theorem zKn_warm {G : zG} {s U : State} (hW : s.WarmedH U.vm) (h : zKn G s) : zKn G U := ⟨fun k h1 h2 => u_Kn_moved hW.alike (h.1 k h1 h2), fun k h1 h2 => ⟨arrOfT_moved hW.alike (h.2.1 k h1 h2).1, (h.2.1 k h1 h2).2.moved hW.alike⟩, h.2.2.1.warm hW, h.2.2.2.warm hW⟩
/-- slots of the cells below a ref -/
def zsz (r : Nat) : Nat := if 101 ≤ zK r then zN r else zns (zK r)
def zsl : Nat → Nat
  | 0 => 0
  | n + 1 => zsl n + zsz n
theorem zsl_le {a b : Nat} (h : a ≤ b) : zsl a ≤ zsl b := by
  induction b with
  | zero => have : a = 0 := by omega
            subst this; exact Nat.le_refl _
  | succ b ih =>
    by_cases e : a = b + 1
    · subst e; exact Nat.le_refl _
    · have := ih (by omega)
      show zsl a ≤ zsl b + zsz b
      omega
/-- the machine comes from this frame to Q -/
def zJ (p : Program) (l : Launch) (e : Env) (R : Room) (s : State) (m : MethodId) (args : Array Value) (below : List Frame) (meth : Method) (c : Code) (nL : Nat) (G : zG) (ph : Bool) (n0 : Nat) (Q : State → Prop) : zZt := fun pc ls st σ =>
  ∀ (lsc : Array Slot) (H : Heap) (locs : List Loc), lv_has lsc nL (ls.map (zvl G)) → zRel G s σ H → zPh ph σ → (∀ q ∈ locs, g0 G ≤ q.base) → n0 ≤ zn σ → zn σ ≤ zCap →
    W p l e R s m args below meth c H locs (zn σ - n0) (zsl (zn σ) - zsl n0) Q (F0 m pc lsc (st.map (zva G)))
theorem zp1I_i {st : List Value} {k : Int32 → List Value → Prop} (h : zp1I st k) : ∃ a r, st = .int a :: r ∧ k a r := by
  rcases st with _ | ⟨v, r⟩
  · exact h.elim
  · cases v <;> first | exact ⟨_, _, rfl, h⟩ | exact h.elim
theorem zp1L_i {st : List Value} {k : Int64 → List Value → Prop} (h : zp1L st k) : ∃ a r, st = .long a :: r ∧ k a r := by
  rcases st with _ | ⟨v, r⟩
  · exact h.elim
  · cases v <;> first | exact ⟨_, _, rfl, h⟩ | exact h.elim
theorem zp1R_i {st : List Value} {k : Nat → List Value → Prop} (h : zp1R st k) : ∃ a r, st = .ref a :: r ∧ k a r := by
  rcases st with _ | ⟨v, r⟩
  · exact h.elim
  · cases v <;> first | exact ⟨_, _, rfl, h⟩ | exact h.elim
theorem zp2I_i {st : List Value} {k : Int32 → Int32 → List Value → Prop} (h : zp2I st k) : ∃ a b r, st = .int b :: .int a :: r ∧ k a b r := by
  rcases st with _ | ⟨v, _ | ⟨w, r⟩⟩
  · exact h.elim
  · cases v <;> exact h.elim
  · cases v <;> cases w <;> first | exact ⟨_, _, _, rfl, h⟩ | exact h.elim
theorem zp2L_i {st : List Value} {k : Int64 → Int64 → List Value → Prop} (h : zp2L st k) : ∃ a b r, st = .long b :: .long a :: r ∧ k a b r := by
  rcases st with _ | ⟨v, _ | ⟨w, r⟩⟩
  · exact h.elim
  · cases v <;> exact h.elim
  · cases v <;> cases w <;> first | exact ⟨_, _, _, rfl, h⟩ | exact h.elim
theorem zpLI_i {st : List Value} {k : Int64 → Int32 → List Value → Prop} (h : zpLI st k) : ∃ a b r, st = .int b :: .long a :: r ∧ k a b r := by
  rcases st with _ | ⟨v, _ | ⟨w, r⟩⟩
  · exact h.elim
  · cases v <;> exact h.elim
  · cases v <;> cases w <;> first | exact ⟨_, _, _, rfl, h⟩ | exact h.elim
theorem zp2R_i {st : List Value} {k : Nat → Nat → List Value → Prop} (h : zp2R st k) : ∃ a b r, st = .ref b :: .ref a :: r ∧ k a b r := by
  rcases st with _ | ⟨v, _ | ⟨w, r⟩⟩
  · exact h.elim
  · cases v <;> exact h.elim
  · cases v <;> cases w <;> first | exact ⟨_, _, _, rfl, h⟩ | exact h.elim
theorem zpRI_i {st : List Value} {k : Nat → Int32 → List Value → Prop} (h : zpRI st k) : ∃ a b r, st = .int b :: .ref a :: r ∧ k a b r := by
  rcases st with _ | ⟨v, _ | ⟨w, r⟩⟩
  · exact h.elim
  · cases v <;> exact h.elim
  · cases v <;> cases w <;> first | exact ⟨_, _, _, rfl, h⟩ | exact h.elim
theorem zpRL_i {st : List Value} {k : Nat → Int64 → List Value → Prop} (h : zpRL st k) : ∃ a b r, st = .long b :: .ref a :: r ∧ k a b r := by
  rcases st with _ | ⟨v, _ | ⟨w, r⟩⟩
  · exact h.elim
  · cases v <;> exact h.elim
  · cases v <;> cases w <;> first | exact ⟨_, _, _, rfl, h⟩ | exact h.elim
theorem zpRII_i {st : List Value} {k : Nat → Int32 → Int32 → List Value → Prop} (h : zpRII st k) : ∃ a j x r, st = .int x :: .int j :: .ref a :: r ∧ k a j x r := by
  rcases st with _ | ⟨v, _ | ⟨w, _ | ⟨u, r⟩⟩⟩
  · exact h.elim
  · cases v <;> exact h.elim
  · cases v <;> first | exact h.elim | (cases w <;> exact h.elim)
  · cases v <;> first | exact h.elim | (cases w <;> first | exact h.elim | (cases u <;> first | exact ⟨_, _, _, _, rfl, h⟩ | exact h.elim))
theorem zpRIL_i {st : List Value} {k : Nat → Int32 → Int64 → List Value → Prop} (h : zpRIL st k) : ∃ a j x r, st = .long x :: .int j :: .ref a :: r ∧ k a j x r := by
  rcases st with _ | ⟨v, _ | ⟨w, _ | ⟨u, r⟩⟩⟩
  · exact h.elim
  · cases v <;> exact h.elim
  · cases v <;> first | exact h.elim | (cases w <;> exact h.elim)
  · cases v <;> first | exact h.elim | (cases w <;> first | exact h.elim | (cases u <;> first | exact ⟨_, _, _, _, rfl, h⟩ | exact h.elim))
theorem zpRIR_i {st : List Value} {k : Nat → Int32 → Nat → List Value → Prop} (h : zpRIR st k) : ∃ a j x r, st = .ref x :: .int j :: .ref a :: r ∧ k a j x r := by
  rcases st with _ | ⟨v, _ | ⟨w, _ | ⟨u, r⟩⟩⟩
  · exact h.elim
  · cases v <;> exact h.elim
  · cases v <;> first | exact h.elim | (cases w <;> exact h.elim)
  · cases v <;> first | exact h.elim | (cases w <;> first | exact h.elim | (cases u <;> first | exact ⟨_, _, _, _, rfl, h⟩ | exact h.elim))
theorem zc1_i {v : Value} {P : Prop} (h : zc1 v P) : v.category = 1 ∧ P := by
  unfold zc1 at h
  cases v <;> first | exact ⟨rfl, h⟩ | exact h.elim
theorem zpv_i {st : List Value} {k : Value → List Value → Prop} (h : zpv st k) : ∃ v r, st = v :: r ∧ k v r := by
  rcases st with _ | ⟨v, r⟩
  · exact h.elim
  · exact ⟨_, _, rfl, h⟩
theorem zpvv_i {st : List Value} {k : Value → Value → List Value → Prop} (h : zpvv st k) : ∃ v w r, st = v :: w :: r ∧ k v w r := by
  rcases st with _ | ⟨v, _ | ⟨w, r⟩⟩
  · exact h.elim
  · exact h.elim
  · exact ⟨_, _, _, rfl, h⟩
theorem zpvvv_i {st : List Value} {k : Value → Value → Value → List Value → Prop} (h : zpvvv st k) : ∃ v w u r, st = v :: w :: u :: r ∧ k v w u r := by
  rcases st with _ | ⟨v, _ | ⟨w, _ | ⟨u, r⟩⟩⟩
  · exact h.elim
  · exact h.elim
  · exact h.elim
  · exact ⟨_, _, _, _, rfl, h⟩
theorem zdup2_i {st : List Value} {k : List Value → Prop} (h : zdup2 st k) : (∃ x r, st = .long x :: r ∧ k (.long x :: .long x :: r)) ∨ ∃ v w r, st = v :: w :: r ∧ v.category = 1 ∧ w.category = 1 ∧ k (v :: w :: v :: w :: r) := by
  rcases st with _ | ⟨v, _ | ⟨w, r⟩⟩
  · exact h.elim
  · cases v <;> first | exact Or.inl ⟨_, _, rfl, h⟩ | exact h.elim
  · cases v <;> first
      | exact Or.inl ⟨_, _, rfl, h⟩
      | exact Or.inr ⟨_, _, _, rfl, rfl, zc1_i h⟩
      | exact h.elim
theorem zgI_i {ls : zLs} {i : Nat} {k : Int32 → Prop} (h : zgI ls i k) : ∃ x, zget ls i = some (.int x) ∧ k x := by
  unfold zgI at h
  cases hv : zget ls i with
  | none => rw [hv] at h; exact h.elim
  | some v => rw [hv] at h; cases v <;> first | exact ⟨_, rfl, h⟩ | exact h.elim
theorem zgL_i {ls : zLs} {i : Nat} {k : Int64 → Prop} (h : zgL ls i k) : ∃ x, zget ls i = some (.long x) ∧ k x := by
  unfold zgL at h
  cases hv : zget ls i with
  | none => rw [hv] at h; exact h.elim
  | some v => rw [hv] at h; cases v <;> first | exact ⟨_, rfl, h⟩ | exact h.elim
theorem zgR_i {ls : zLs} {i : Nat} {k : Nat → Prop} (h : zgR ls i k) : ∃ x, zget ls i = some (.ref x) ∧ k x := by
  unfold zgR at h
  cases hv : zget ls i with
  | none => rw [hv] at h; exact h.elim
  | some v => rw [hv] at h; cases v <;> first | exact ⟨_, rfl, h⟩ | exact h.elim
theorem zoc_i {α : Type} {x : Option α} {k : α → Prop} (h : zoc x k) : ∃ v, x = some v ∧ k v := by
  cases x with
  | none => exact h.elim
  | some v => exact ⟨v, rfl, h⟩
theorem zget_m {ls : zLs} {i : Nat} {v : Value} (h : zget ls i = some v) : (i, v) ∈ ls := by
  unfold zget at h
  obtain ⟨q, hq, h2⟩ := Option.map_eq_some_iff.mp h
  have hi : q.1 = i := by have := List.find?_some hq; simpa using this
  have hm := List.mem_of_find?_eq_some hq
  obtain ⟨a, b⟩ := q
  simp only at hi h2
  subst hi; subst h2
  exact hm
theorem zget_c {G : zG} {ls : zLs} {i nL : Nat} {v : Value} {lsc : Array Slot} (h : zget ls i = some v) (hl : lv_has lsc nL (ls.map (zvl G))) : lsc[i]? = some (.val (zva G v)) :=
  hl.2.2 (i, zva G v) (List.mem_map.mpr ⟨(i, v), zget_m h, rfl⟩)
theorem zget_k {G : zG} {ls : zLs} {i : Nat} {v : Value} (h : zget ls i = some v) : ∃ k : Nat, (ls.map (zvl G))[k]? = some (i, zva G v) :=
  List.getElem?_of_mem (List.mem_map.mpr ⟨(i, v), zget_m h, rfl⟩)
theorem zst1_c (G : zG) (ls : zLs) (i : Nat) (v : Value) : (i, zva G v) :: (ls.map (zvl G)).filter (fun q => !(q.1 == i) && !(q.1 + 1 == i && q.2.category == 2)) = (zst1 ls i v).map (zvl G) := by
  unfold zst1
  rw [List.map_cons, List.filter_map]
  congr 2
  apply List.filter_congr
  intro q _
  simp [zvl, zva_cat]
theorem zst2_c (G : zG) (ls : zLs) (i : Nat) (v : Value) : (i, zva G v) :: (ls.map (zvl G)).filter (fun q => !(q.1 == i) && (!(q.1 == i + 1) && !(q.1 + 1 == i && q.2.category == 2))) = (zst2 ls i v).map (zvl G) := by
  unfold zst2
  rw [List.map_cons, List.filter_map]
  congr 2
  apply List.filter_congr
  intro q _
  simp [zvl, zva_cat]

/-! PART 30: reading and writing the abstract memory; frames; rows of octets -/
section RW
variable (σ : zS) (a i : Nat) (r j : Nat)
theorem zn_wI (v : Int32) : zn (zwI σ a i v) = zn σ := rfl
theorem zn_wL (v : Int64) : zn (zwL σ a i v) = zn σ := rfl
theorem zn_wR (v : Nat) : zn (zwR σ a i v) = zn σ := rfl
theorem zn_sI (f : Nat → Int32) : zn (zsI σ a f) = zn σ := rfl
theorem zn_nw : zn (znw σ) = zn σ + 1 := rfl
theorem zL_wI (v : Int32) : zL (zwI σ a i v) = zL σ := rfl
theorem zR_wI (v : Int32) : zR (zwI σ a i v) = zR σ := rfl
theorem zI_wL (v : Int64) : zI (zwL σ a i v) = zI σ := rfl
theorem zR_wL (v : Int64) : zR (zwL σ a i v) = zR σ := rfl
theorem zI_wR (v : Nat) : zI (zwR σ a i v) = zI σ := rfl
theorem zL_wR (v : Nat) : zL (zwR σ a i v) = zL σ := rfl
theorem zL_sI (f : Nat → Int32) : zL (zsI σ a f) = zL σ := rfl
theorem zR_sI (f : Nat → Int32) : zR (zsI σ a f) = zR σ := rfl
theorem zIwI (v : Int32) : zI (zwI σ a i v) r j = if r = a ∧ j = i then v else zI σ r j := by
  show va_up σ.2.1 a (va_up (zI σ a) i v) r j = _
  unfold va_up
  by_cases h : r = a
  · subst h
    by_cases h2 : j = i
    · simp [h2]
    · simp [h2]
  · simp [h]; rfl
theorem zLwL (v : Int64) : zL (zwL σ a i v) r j = if r = a ∧ j = i then v else zL σ r j := by
  show va_up σ.2.2.1 a (va_up (zL σ a) i v) r j = _
  unfold va_up
  by_cases h : r = a
  · subst h
    by_cases h2 : j = i
    · simp [h2]
    · simp [h2]
  · simp [h]; rfl
theorem zRwR (v : Nat) : zR (zwR σ a i v) r j = if r = a ∧ j = i then v else zR σ r j := by
  show va_up σ.2.2.2 a (va_up (zR σ a) i v) r j = _
  unfold va_up
  by_cases h : r = a
  · subst h
    by_cases h2 : j = i
    · simp [h2]
    · simp [h2]
  · simp [h]; rfl
theorem zI_sI' (f : Nat → Int32) : zI (zsI σ a f) r j = if r = a then f j else zI σ r j := by
  show va_up σ.2.1 a f r j = _
  unfold va_up
  by_cases h : r = a <;> simp [h]; rfl
theorem zI_nw : zI (znw σ) r j = if r = zn σ then 0 else zI σ r j := by
  show va_up σ.2.1 σ.1 (fun _ => 0) r j = if r = σ.1 then 0 else σ.2.1 r j
  unfold va_up
  by_cases h : r = σ.1 <;> simp [h]
theorem zL_nw : zL (znw σ) r j = if r = zn σ then 0 else zL σ r j := by
  show va_up σ.2.2.1 σ.1 (fun _ => 0) r j = if r = σ.1 then 0 else σ.2.2.1 r j
  unfold va_up
  by_cases h : r = σ.1 <;> simp [h]
theorem zR_nw : zR (znw σ) r j = if r = zn σ then 0 else zR σ r j := by
  show va_up σ.2.2.2 σ.1 (fun _ => 0) r j = if r = σ.1 then 0 else σ.2.2.2 r j
  unfold va_up
  by_cases h : r = σ.1 <;> simp [h]
end RW
/-- memory is the same but at the places S -/
def zfm (S : Nat → Nat → Prop) (σ τ : zS) : Prop := zn τ = zn σ ∧ ∀ r i, ¬ S r i → zI τ r i = zI σ r i ∧ zL τ r i = zL σ r i ∧ zR τ r i = zR σ r i
section FM
variable {S T : Nat → Nat → Prop} {σ τ υ : zS}
theorem zfm.refl (S : Nat → Nat → Prop) (σ : zS) : zfm S σ σ := ⟨rfl, fun _ _ _ => ⟨rfl, rfl, rfl⟩⟩
theorem zfm.trans (h1 : zfm S σ τ) (h2 : zfm S τ υ) : zfm S σ υ := ⟨h2.1.trans h1.1, fun r i h => ⟨(h2.2 r i h).1.trans (h1.2 r i h).1, (h2.2 r i h).2.1.trans (h1.2 r i h).2.1, (h2.2 r i h).2.2.trans (h1.2 r i h).2.2⟩⟩
theorem zfm.mono (h : zfm S σ τ) (hs : ∀ r i, S r i → T r i) : zfm T σ τ := ⟨h.1, fun r i hn => h.2 r i fun q => hn (hs r i q)⟩
theorem zfm.I (h : zfm S σ τ) (r i : Nat) (hn : ¬ S r i) : zI τ r i = zI σ r i := (h.2 r i hn).1
theorem zfm.L (h : zfm S σ τ) (r i : Nat) (hn : ¬ S r i) : zL τ r i = zL σ r i := (h.2 r i hn).2.1
theorem zfm.R (h : zfm S σ τ) (r i : Nat) (hn : ¬ S r i) : zR τ r i = zR σ r i := (h.2 r i hn).2.2
theorem zfm.wI (h : zfm S σ τ) {a i : Nat} {v : Int32} (hs : S a i) : zfm S σ (zwI τ a i v) := ⟨h.1, fun r j hn => ⟨by rw [zIwI, if_neg (fun q => hn (by rw [q.1, q.2]; exact hs))]; exact h.I r j hn, h.L r j hn, h.R r j hn⟩⟩
theorem zfm.wL (h : zfm S σ τ) {a i : Nat} {v : Int64} (hs : S a i) : zfm S σ (zwL τ a i v) := ⟨h.1, fun r j hn => ⟨h.I r j hn, by rw [zLwL, if_neg (fun q => hn (by rw [q.1, q.2]; exact hs))]; exact h.L r j hn, h.R r j hn⟩⟩
theorem zfm.wR (h : zfm S σ τ) {a i : Nat} {v : Nat} (hs : S a i) : zfm S σ (zwR τ a i v) := ⟨h.1, fun r j hn => ⟨h.I r j hn, h.L r j hn, by rw [zRwR, if_neg (fun q => hn (by rw [q.1, q.2]; exact hs))]; exact h.R r j hn⟩⟩
theorem zfm.sI (h : zfm S σ τ) {a : Nat} {f : Nat → Int32} (hs : ∀ i, S a i ∨ f i = zI τ a i) : zfm S σ (zsI τ a f) := ⟨h.1, fun r j hn => ⟨by
  rw [zI_sI']
  by_cases q : r = a
  · rw [if_pos q]
    rcases hs j with h2 | h2
    · exact absurd (by rw [q]; exact h2) hn
    · rw [h2, ← q]; exact h.I r j hn
  · rw [if_neg q]; exact h.I r j hn, h.L r j hn, h.R r j hn⟩⟩
end FM
/-- strong induction for a loop -/
theorem zloop {α : Type} (L I : α → Prop) (μ : α → Nat) (h : ∀ a, I a → (∀ b, I b → μ b < μ a → L b) → L a) (a : α) (ha : I a) : L a := by
  have : ∀ n a, μ a < n → I a → L a := by
    intro n
    induction n with
    | zero => intro a h1; omega
    | succ n ih => intro a h1 h2; exact h a h2 fun b hb hm => ih b (by omega) hb
  exact this _ a (Nat.lt_succ_self _) ha
theorem zgd_l {α : Type} {l m : List α} {i : Nat} {d : α} (h : i < l.length) : (l ++ m).getD i d = l.getD i d := by
  rw [List.getD_eq_getElem?_getD, List.getD_eq_getElem?_getD, List.getElem?_append_left h]
theorem zgd_r {α : Type} {l m : List α} {i : Nat} {d : α} (h : l.length ≤ i) : (l ++ m).getD i d = m.getD (i - l.length) d := by
  rw [List.getD_eq_getElem?_getD, List.getD_eq_getElem?_getD, List.getElem?_append_right h]
/-- an array that begins with a list -/
def zar (σ : zS) (r : Nat) (l : List Int32) : Prop := ∀ i, i < l.length → zI σ r i = l.getD i 0
theorem zar.fm {σ τ : zS} {r : Nat} {l : List Int32} {S : Nat → Nat → Prop} (h : zar σ r l) (hf : zfm S σ τ) (hs : ∀ i, i < l.length → ¬ S r i) : zar τ r l := fun i hi => (hf.I r i (hs i hi)).trans (h i hi)
theorem zar.push {σ τ : zS} {r : Nat} {l : List Int32} {v : Int32} (h : zar σ r l) (h1 : ∀ i, i < l.length → zI τ r i = zI σ r i) (h2 : zI τ r l.length = v) : zar τ r (l ++ [v]) := by
  intro i hi
  rw [List.length_append, List.length_singleton] at hi
  by_cases q : i < l.length
  · rw [h1 i q, h i q, zgd_l q]
  · have : i = l.length := by omega
    subst this
    rw [h2]; simp
def zby (x : Int32) : Prop := -128 ≤ x ∧ x ≤ 127
theorem zby_ib (x : Int32) : zby (zib x) := by
  unfold zby zib
  rw [Int32.le_iff_toInt_le, Int32.le_iff_toInt_le, Int8.toInt_toInt32]
  have h1 := Int8.le_toInt x.toInt8
  have h2 := Int8.toInt_lt x.toInt8
  have e1 : (-128 : Int32).toInt = -128 := by decide
  have e2 : (127 : Int32).toInt = 127 := by decide
  rw [e1, e2]
  omega
theorem zib_by {x : Int32} (h : zby x) : zib x = x := by
  unfold zby at h
  rw [Int32.le_iff_toInt_le, Int32.le_iff_toInt_le] at h
  have e1 : (-128 : Int32).toInt = -128 := by decide
  have e2 : (127 : Int32).toInt = 127 := by decide
  rw [e1, e2] at h
  unfold zib
  apply Int32.toInt_inj.mp
  rw [Int8.toInt_toInt32, Int32.toInt_toInt8]
  exact Int.bmod_eq_of_le (by omega) (by omega)
theorem znar (x : Int32) : vp_nar .byte x = zib x := rfl
theorem zbv_b {r : Nat} (h : zK r = 101) (x : Int32) : zbv r (zib x) = zib x := by
  unfold zbv
  rw [if_neg (by omega), znar]
  exact zib_by (zby_ib x)
/-- what the tables say of rows -/
theorem zKd (r : Nat) (h : 1216 ≤ r) : zK r = 30 := by
  unfold zK
  have : zKC.getD (r / 64) [] = [] := by
    rw [List.getD_eq_getElem?_getD, List.getElem?_eq_none (by show 19 ≤ r / 64; omega)]; rfl
  rw [this]; rfl
def zcheck (p : Nat → Bool) : Bool := (List.range 1216).all p
theorem zcheck_i {p : Nat → Bool} (h : zcheck p = true) (r : Nat) (hr : r < 1216) : p r = true := List.all_eq_true.mp h r (List.mem_range.mpr hr)
theorem zrow_c : zcheck (fun r => !(zK r == 2) || (zK (r + 1) == 101 && Nat.ble (zN (r + 1)) 15000 && Nat.ble 100 (zN (r + 1)))) = true := by decide +kernel
theorem zrow_k {r : Nat} (h : zK r = 2) : zK (r + 1) = 101 ∧ zN (r + 1) ≤ 15000 ∧ 100 ≤ zN (r + 1) := by
  by_cases q : r < 1216
  · have := zcheck_i zrow_c r q
    simp only [h, Bool.or_eq_true, Bool.and_eq_true, beq_iff_eq, Nat.ble_eq] at this
    simp at this
    exact ⟨this.1.1, this.1.2, this.2⟩
  · rw [zKd r (by omega)] at h; omega
/-- a row with its octets -/
def zrw (σ : zS) (a : Nat) (l : List Int32) : Prop := zK a = 2 ∧ l.length ≤ zN (a + 1) ∧ zI σ a 1 = nI l.length ∧ zar σ (a + 1) l ∧ ∀ x ∈ l, zby x
abbrev zrS (a : Nat) : Nat → Nat → Prop := fun r i => (r = a ∧ i = 1) ∨ r = a + 1
theorem zrw.fm {σ τ : zS} {a : Nat} {l : List Int32} {S : Nat → Nat → Prop} (h : zrw σ a l) (hf : zfm S σ τ) (h1 : ¬ S a 1) (h2 : ∀ i, ¬ S (a + 1) i) : zrw τ a l :=
  ⟨h.1, h.2.1, by rw [hf.I a 1 h1]; exact h.2.2.1, h.2.2.2.1.fm hf (fun i _ => h2 i), h.2.2.2.2⟩
theorem zrw.len {σ : zS} {a : Nat} {l : List Int32} (h : zrw σ a l) : l.length ≤ 15000 := by have := zrow_k h.1; have := h.2.1; omega
theorem s_Row_get {σ : zS} {K : zKt} {E : zEt} {a : Nat} {l : List Int32} {i : Nat} (h : zrw σ a l) (hi : i < l.length) (hk : K (some (.int (l.getD i 0 &&& 255))) σ) : X_Row_get true [.ref a, .int (nI i)] σ K E := by
  have k := zrow_k h.1
  have hl := h.len
  have h2 := h.2.1
  refine b_Row_get ⟨h.1, k.1, vp_in_nI (by omega) (by omega), ?_⟩
  rw [nI_clamp (by omega), h.2.2.2.1 i hi]
  exact hk
theorem s_Row_add {σ : zS} {K : zKt} {E : zEt} {a : Nat} {l : List Int32} {b : Int32} (h : zrw σ a l) (hc : l.length < zN (a + 1)) (hk : ∀ τ, zfm (zrS a) σ τ → zrw τ a (l ++ [zib b]) → K none τ) : X_Row_add true [.ref a, .int b] σ K E := by
  have k := zrow_k h.1
  obtain ⟨h1, h2, h3, h4, h5⟩ := h
  refine b_Row_add ⟨h1, k.1, by rw [h3]; exact vp_in_nI hc (by omega), ?_⟩
  rintro σ1 rfl σ2 rfl
  rw [h3, nI_clamp (by omega), zbv_b k.1]
  refine hk _ (((zfm.refl _ σ).wI (Or.inr rfl)).wI (Or.inl ⟨rfl, rfl⟩)) ⟨h1, by simp; omega, ?_, ?_, ?_⟩
  · simp [zIwI, h3, nI_1]
  · refine h4.push (fun i hi => ?_) ?_
    · simp [zIwI, show i ≠ l.length by omega]
    · simp [zIwI]
  · intro x hx
    rcases List.mem_append.mp hx with hx | hx
    · exact h5 x hx
    · rw [List.mem_singleton.mp hx]; exact zby_ib b

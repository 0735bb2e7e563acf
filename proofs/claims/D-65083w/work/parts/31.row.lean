/-! PART 31: rows -/
def zbt (v : Int64) (k : Nat) : Int32 := zib ((zlr v (8 * nI k)).toInt32)
def zlowL (v : Int64) : Nat → List Int32
  | 0 => []
  | n + 1 => zlowL v n ++ [zbt v n]
def zhighL (v : Int64) : Nat → List Int32
  | 0 => []
  | n + 1 => zbt v n :: zhighL v n
theorem zlowL_len (v : Int64) (n : Nat) : (zlowL v n).length = n := by
  induction n with
  | zero => rfl
  | succ n ih => simp [zlowL, ih]
theorem zhighL_len (v : Int64) (n : Nat) : (zhighL v n).length = n := by
  induction n with
  | zero => rfl
  | succ n ih => simp [zhighL, ih]
theorem nI_m1 (k : Nat) : nI (k + 1) + (-1) = nI k := by
  rw [← nI_pred k, Int32.sub_eq_add_neg]
theorem s_Row_low {σ : zS} {K : zKt} {E : zEt} {a : Nat} {l : List Int32} {v : Int64} {n : Nat} (h : zrw σ a l) (hc : l.length + n ≤ zN (a + 1)) (hk : ∀ τ, zfm (zrS a) σ τ → zrw τ a (l ++ zlowL v n) → K none τ) : X_Row_low true [.ref a, .long v, .int (nI n)] σ K E := by
  have k0 := zrow_k h.1
  have key : ∀ j k τ, k + j = n → zfm (zrS a) σ τ → zrw τ a (l ++ zlowL v k) → L_Row_low_3 a v (nI n) (nI k) τ K E := by
    intro j
    induction j with
    | zero =>
      intro k τ hj hf hr
      refine b_Row_low_3 ⟨fun _ => ?_, fun q => absurd (nI_le (by omega) (by omega)) q⟩
      have : k = n := by omega
      subst this
      exact hk τ hf hr
    | succ j ih =>
      intro k τ hj hf hr
      refine b_Row_low_3 ⟨fun q => absurd q (nI_ge (by omega) (by omega)), fun _ => ⟨h.1, s_Row_add hr (by simp [zlowL_len]; omega) fun υ f r => ?_⟩⟩
      show L_Row_low_3 a v (nI n) (nI k + 1) υ K E
      rw [nI_1]
      refine ih (k + 1) υ (by omega) (hf.trans f) ?_
      rw [List.append_assoc] at r
      exact r
  exact b_Row_low (key n 0 σ (by omega) (zfm.refl _ _) (by simpa [zlowL] using h))
theorem s_Row_high {σ : zS} {K : zKt} {E : zEt} {a : Nat} {l : List Int32} {v : Int64} {n : Nat} (h : zrw σ a l) (hc : l.length + n ≤ zN (a + 1)) (hk : ∀ τ, zfm (zrS a) σ τ → zrw τ a (l ++ zhighL v n) → K none τ) : X_Row_high true [.ref a, .long v, .int (nI n)] σ K E := by
  have k0 := zrow_k h.1
  have key : ∀ k τ m, k + m.length ≤ n → zfm (zrS a) σ τ → zrw τ a (l ++ m) → m ++ zhighL v k = zhighL v n → L_Row_high_5 a v (nI k + (-1)) τ K E := by
    intro k
    induction k with
    | zero =>
      intro τ m hj hf hr hm
      refine b_Row_high_5 ⟨fun _ => ?_, fun q => absurd (by decide) q⟩
      rw [show m = zhighL v n from by simpa [zhighL] using hm] at hr
      exact hk τ hf hr
    | succ k ih =>
      intro τ m hj hf hr hm
      rw [nI_m1]
      refine b_Row_high_5 ⟨fun q => absurd q (nI_pos (by omega)), fun _ => ⟨h.1, s_Row_add hr (by simp [zlowL_len]; omega) fun υ f r => ?_⟩⟩
      show L_Row_high_5 a v (nI k + (-1)) υ K E
      rw [List.append_assoc] at r
      exact ih υ _ (by simp; omega) (hf.trans f) r (by rw [List.append_assoc]; exact hm)
  refine b_Row_high ?_
  rw [Int32.sub_eq_add_neg]
  exact (key n σ [] (by simp) (zfm.refl _ _) (by simpa using h) (by simp))
theorem zar_take {σ : zS} {r : Nat} {l : List Int32} {n : Nat} (h : zar σ r l) : zar σ r (l.take n) := by
  intro i hi
  simp only [List.length_take] at hi
  rw [h i (by omega), List.getD_eq_getElem?_getD, List.getD_eq_getElem?_getD, List.getElem?_take_of_lt (by omega)]
theorem s_acopy {σ : zS} {K : zKt} {E : zEt} {a b : Nat} {l m : List Int32} {sp dp n : Nat} (ha : zar σ a l) (hb : zar σ b m) (hka : zK a = 101 ∨ zK a = 102) (hkb : zK b = zK a) (hby : ∀ x ∈ l, zby x) (h1 : sp + n ≤ l.length) (h2 : dp ≤ m.length) (hla : l.length ≤ zN a) (hlb : dp + n ≤ zN b) (hA : zN a < 2 ^ 31) (hB : zN b < 2 ^ 31)
    (hk : ∀ τ, zfm (fun r i => r = b ∧ dp ≤ i ∧ i < dp + n) σ τ → zar τ b (m.take dp ++ (l.drop sp).take n) → K none τ) : X_acopy true [.ref a, .int (nI sp), .ref b, .int (nI dp), .int (nI n)] σ K E := by
  refine fun P hP => hP ?_
  unfold X_acopy0
  show (_ ∨ _) ∧ _
  rw [nI_clamp (show sp < 2 ^ 31 by omega), nI_clamp (show dp < 2 ^ 31 by omega), nI_clamp (show n < 2 ^ 31 by omega)]
  refine ⟨?_, hkb, nI_pos (by omega), nI_pos (by omega), nI_pos (by omega), by omega, by omega, hk _ ?_ ?_⟩
  · rcases hka with h | h
    · refine Or.inr ⟨h, fun i hi => ?_⟩
      rw [ha (sp + i) (by omega)]
      have hm : l.getD (sp + i) 0 ∈ l := by
        rw [List.getD_eq_getElem?_getD, List.getElem?_eq_getElem (by omega)]
        exact List.getElem_mem _
      exact hby _ hm
    · exact Or.inl h
  · refine (zfm.refl _ σ).sI fun i => ?_
    by_cases q : dp ≤ i ∧ i < dp + n
    · exact Or.inl ⟨rfl, q⟩
    · right; unfold va_cpy; rw [if_neg q]
  · intro i hi
    simp only [List.length_append, List.length_take, List.length_drop] at hi
    rw [zI_sI', if_pos rfl]
    unfold va_cpy
    by_cases q : i < dp
    · rw [if_neg (by omega), zgd_l (by simp; omega), hb i (by omega), List.getD_eq_getElem?_getD, List.getD_eq_getElem?_getD, List.getElem?_take_of_lt q]
    · rw [if_pos (by omega), zgd_r (by simp; omega), ha _ (by omega)]
      simp only [List.length_take, Nat.min_eq_left h2]
      rw [List.getD_eq_getElem?_getD, List.getD_eq_getElem?_getD, List.getElem?_take_of_lt (by omega), List.getElem?_drop]
theorem zby_sub {l : List Int32} (h : ∀ x ∈ l, zby x) (n : Nat) : ∀ x ∈ l.take n, zby x := fun x hx => h x (List.mem_of_mem_take hx)
theorem zby_dr {l : List Int32} (h : ∀ x ∈ l, zby x) (n : Nat) : ∀ x ∈ l.drop n, zby x := fun x hx => h x (List.mem_of_mem_drop hx)
theorem zby_app {l m : List Int32} (h : ∀ x ∈ l, zby x) (h2 : ∀ x ∈ m, zby x) : ∀ x ∈ l ++ m, zby x := fun x hx => (List.mem_append.mp hx).elim (h x) (h2 x)
theorem s_Row_copy {σ : zS} {K : zKt} {E : zEt} {a b : Nat} {l m : List Int32} (h : zrw σ a l) (hb : zrw σ b m) (hc : m.length ≤ zN (a + 1)) (hk : ∀ τ, zfm (zrS a) σ τ → zrw τ a m → K none τ) : X_Row_copy true [.ref a, .ref b] σ K E := by
  have k1 := zrow_k h.1
  have k2 := zrow_k hb.1
  have l1 := h.len
  have l2 := hb.len
  have lb := hb.2.1
  refine b_Row_copy ⟨hb.1, h.1, ?_⟩
  rw [hb.2.2.1]
  refine s_acopy (dp := 0) (sp := 0) hb.2.2.2.1 h.2.2.2.1 (Or.inl k2.1) (by rw [k1.1, k2.1]) hb.2.2.2.2 (by omega) (by omega) hb.2.1 (by omega) (by omega) (by omega) fun τ f r => ?_
  show ∀ σ3 : zS, σ3 = zwI τ a 1 (zI τ b 1) → K none σ3
  rintro σ3 rfl
  have hab : b ≠ a + 1 := fun q => by rw [q] at hb; have := hb.1; omega
  have e1 : zI τ b 1 = nI m.length := by rw [f.I b 1 (fun q => hab q.1)]; exact hb.2.2.1
  rw [e1]
  refine hk _ ((f.mono (fun r i q => Or.inr q.1)).wI (Or.inl ⟨rfl, rfl⟩)) ⟨h.1, hc, by simp [zIwI], ?_, hb.2.2.2.2⟩
  intro i hi
  rw [zIwI, if_neg (by omega), r i (by simpa using hi)]
  simp
theorem s_Row_append {σ : zS} {K : zKt} {E : zEt} {a b : Nat} {l m : List Int32} {p n : Nat} (h : zrw σ a l) (hb : zrw σ b m) (hp : p + n ≤ m.length) (hc : l.length + n ≤ zN (a + 1)) (hk : ∀ τ, zfm (zrS a) σ τ → zrw τ a (l ++ (m.drop p).take n) → K none τ) : X_Row_append true [.ref a, .ref b, .int (nI p), .int (nI n)] σ K E := by
  have k1 := zrow_k h.1
  have k2 := zrow_k hb.1
  have l1 := h.len
  have l2 := hb.len
  have lb := hb.2.1
  refine b_Row_append ⟨hb.1, h.1, ?_⟩
  rw [h.2.2.1]
  refine s_acopy hb.2.2.2.1 h.2.2.2.1 (Or.inl k2.1) (by rw [k1.1, k2.1]) hb.2.2.2.2 hp (Nat.le_refl _) hb.2.1 hc (by omega) (by omega) fun τ f r => ?_
  show ∀ σ3 : zS, σ3 = zwI τ a 1 (zI τ a 1 + nI n) → K none σ3
  rintro σ3 rfl
  have e1 : zI τ a 1 = nI l.length := by rw [f.I a 1 (fun q => by omega)]; exact h.2.2.1
  rw [e1, nI_add]
  rw [List.take_length] at r
  have e2 : ((m.drop p).take n).length = n := by simp; omega
  refine hk _ ((f.mono (fun r i q => Or.inr q.1)).wI (Or.inl ⟨rfl, rfl⟩)) ⟨h.1, by rw [List.length_append, e2]; omega, by simp [zIwI, e2], ?_, zby_app h.2.2.2.2 (zby_sub (zby_dr hb.2.2.2.2 p) n)⟩
  intro i hi
  rw [zIwI, if_neg (by omega)]
  exact r i hi

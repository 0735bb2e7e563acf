/-! PART 40: reading, as a plain function; the class' source and what comes out -/
/-- place (in bits), whether something was read, what came out -/
abbrev zRst : Type := Nat × Bool × List Int32
/-- rule, place, what came out -/
abbrev zFlt : Type := Int32 × Nat × List Int32
abbrev zRes (α : Type) : Type := Sum zFlt (α × zRst)
def zRun {α : Type} (m : zRes α) (kf : zFlt → Prop) (kv : α → zRst → Prop) : Prop := match m with
  | .inl f => kf f
  | .inr q => kv q.1 q.2
def zbd {α β : Type} (m : zRes α) (k : α → zRst → zRes β) : zRes β := match m with
  | .inl f => .inl f
  | .inr q => k q.1 q.2
theorem zRun_bd {α β : Type} {m : zRes α} {k : α → zRst → zRes β} {kf : zFlt → Prop} {kv : β → zRst → Prop} : zRun (zbd m k) kf kv ↔ zRun m kf (fun v s => zRun (k v s) kf kv) := by
  cases m <;> exact Iff.rfl
theorem zRun_m {α : Type} {m : zRes α} {kf kf' : zFlt → Prop} {kv kv' : α → zRst → Prop} (h : zRun m kf kv) (h1 : ∀ f, kf f → kf' f) (h2 : ∀ v s, kv v s → kv' v s) : zRun m kf' kv' := by
  cases m with
  | inl f => exact h1 f h
  | inr q => exact h2 q.1 q.2 h
def zru {α : Type} (v : α) (st : zRst) : zRes α := .inr (v, st)
/-- where a fault is told -/
def zplc (f : Nat) (st : zRst) : Nat := if st.2.1 = true then (st.1 + 7) / 8 - 1 else f
def rFlt {α : Type} (f : Nat) (rule : Int32) (st : zRst) : zRes α := .inl (rule, zplc f st, st.2.2)
def rOct (l : List Int32) (e : Nat) (st : zRst) : zRes Int32 := if (st.1 + 7) / 8 < e then .inr (zgt l ((st.1 + 7) / 8), 8 * ((st.1 + 7) / 8 + 1), true, st.2.2) else .inl (1, e, st.2.2)
/-- a bit of an octet -/
def zbL (x : Int32) (k : Nat) : Int32 := zir x (nI k) &&& 1
def zbH (x : Int32) (k : Nat) : Int32 := zir x (nI (7 - k)) &&& 1
def rBitL (l : List Int32) (e : Nat) (st : zRst) : zRes Int32 := if st.1 / 8 < e then .inr (zbL (l.getD (st.1 / 8) 0) (st.1 % 8), st.1 + 1, true, st.2.2) else .inl (1, e, st.2.2)
def rBitH (l : List Int32) (e : Nat) (st : zRst) : zRes Int32 := if st.1 / 8 < e then .inr (zbH (l.getD (st.1 / 8) 0) (st.1 % 8), st.1 + 1, true, st.2.2) else .inl (1, e, st.2.2)
def rCome (f : Nat) (v : Int32) (st : zRst) : zRes Unit := if st.2.2.length = 12000 then rFlt f 13 st else .inr ((), st.1, st.2.1, st.2.2 ++ [zib v])
def rEnds (e : Nat) (st : zRst) : zRes Unit := if (st.1 + 7) / 8 < e then .inl (14, (st.1 + 7) / 8, st.2.2) else .inr ((), st)
/-- n octets, the lowest first -/
def rLow (l : List Int32) (e : Nat) : Nat → Nat → Int64 → zRst → zRes Int64
  | 0, _, v, st => zru v st
  | n + 1, k, v, st => zbd (rOct l e st) fun x st => rLow l e n (k + 1) (v ||| zll x.toInt64 (8 * nI k)) st
def rHigh (l : List Int32) (e : Nat) : Nat → Int64 → zRst → zRes Int64
  | 0, v, st => zru v st
  | n + 1, v, st => zbd (rOct l e st) fun x st => rHigh l e n (zll v 8 ||| x.toInt64) st
def rBitsL (l : List Int32) (e : Nat) : Nat → Nat → Int32 → zRst → zRes Int32
  | 0, _, v, st => zru v st
  | n + 1, k, v, st => zbd (rBitL l e st) fun x st => rBitsL l e n (k + 1) (v ||| zil x (nI k)) st
def rBitsH (l : List Int32) (e : Nat) : Nat → Int64 → zRst → zRes Int64
  | 0, v, st => zru v st
  | n + 1, v, st => zbd (rBitH l e st) fun x st => rBitsH l e n (zll v 1 ||| x.toInt64) st
/-- octets of what came out are copied -/
def rCopy (f d : Nat) : Nat → zRst → zRes Unit
  | 0, st => zru () st
  | n + 1, st => zbd (rCome f (st.2.2.getD (st.2.2.length - d) 0) st) fun _ st => rCopy f d n st
/-- memory is the same but at S and at the one new cell -/
def zfx (S : Nat → Nat → Prop) (σ τ : zS) : Prop := zn τ = zn σ + 1 ∧ ∀ r i, r ≠ zn σ → ¬ S r i → zI τ r i = zI σ r i ∧ zL τ r i = zL σ r i ∧ zR τ r i = zR σ r i
theorem zfx.of {S : Nat → Nat → Prop} {σ τ υ : zS} (h1 : zfm S σ τ) (h2 : zfx S τ υ) : zfx S σ υ := by
  refine ⟨by rw [h2.1, h1.1], fun r i hr hs => ?_⟩
  obtain ⟨a, b, c⟩ := h2.2 r i (by rw [h1.1]; exact hr) hs
  obtain ⟨a', b', c'⟩ := h1.2 r i hs
  exact ⟨a.trans a', b.trans b', c.trans c'⟩
theorem zfx.I {S : Nat → Nat → Prop} {σ τ : zS} (h : zfx S σ τ) (r i : Nat) (hr : r ≠ zn σ) (hs : ¬ S r i) : zI τ r i = zI σ r i := (h.2 r i hr hs).1
/-- there is room for faults -/
def zrmF (σ : zS) : Prop := 1202 ≤ zn σ ∧ zn σ < zCap
theorem zbig_c : (List.range 14).all (fun i => zK (1202 + i) == 30) = true := by decide +kernel
theorem zKbig (r : Nat) (h : 1202 ≤ r) : zK r = 30 := by
  by_cases q : 1216 ≤ r
  · exact zKd r q
  · have := List.all_eq_true.mp zbig_c (r - 1202) (List.mem_range.mpr (by omega))
    rw [show 1202 + (r - 1202) = r by omega] at this
    simpa using this
theorem zK_lt {r k : Nat} (h : zK r = k) (hk : k ≠ 30) : r < 1202 := by
  refine Nat.lt_of_not_le fun q => hk ?_
  rw [← h, zKbig r q]
/-- a fault is made -/
theorem s_Fault {S : Nat → Nat → Prop} {σ : zS} {K : zKt} {E : zEt} {r p : Int32} (hr : zrmF σ) (hk : ∀ τ, zfx S σ τ → zI τ (zn σ) 0 = r → zI τ (zn σ) 1 = p → K none τ) : X_Fault_init true [.ref (zn σ), .int r, .int p] (znw σ) K E := by
  refine b_Fault_init (fun P hP => hP ?_)
  have k30 := zKbig (zn σ) hr.1
  refine ⟨k30, Nat.lt_succ_self _, (by rw [zR_nw, if_pos rfl] : zR (znw σ) (zn σ) 2 = 0), k30, Nat.lt_succ_self _, ?_⟩
  rintro σ3 rfl
  refine ⟨Nat.lt_succ_self _, ?_⟩
  rintro σ4 rfl
  refine hk _ ⟨rfl, fun q i hq _ => ?_⟩ (by simp [zIwI]) (by simp [zIwI])
  simp [zIwI, zI_nw, zL_wI, zL_nw, zR_wI, zR_nw, hq]
def zsr (σ : zS) (s R f e : Nat) (l : List Int32) (hi : Bool) (st : zRst) : Prop := zK s = 3 ∧ zR σ s 0 = R ∧ zI σ s 1 = nI f ∧ zI σ s 3 = nI e ∧ zI σ s 2 = nI ((st.1 + 7) / 8) ∧ zI σ s 4 = zBo st.2.1 ∧ zI σ s 6 = nI ((8 - st.1 % 8) % 8) ∧ (st.1 % 8 ≠ 0 → zI σ s 5 = (if hi = true then zgt l (st.1 / 8) else zir (zgt l (st.1 / 8)) (nI (st.1 % 8)))) ∧ st.1 ≤ 8 * e ∧ f ≤ 100000 ∧ (st.2.1 = true → 0 < st.1) ∧ (st.2.1 = false → st.1 = 8 * f)
/-- the places that are written while something is opened lie in S -/
def zHd (S : Nat → Nat → Prop) (s R W : Nat) : Prop := S s 2 ∧ S s 4 ∧ S s 5 ∧ S s 6 ∧ S W 1 ∧ (∀ i, S (W + 1) i) ∧ R ≠ W
def zHk (S : Nat → Nat → Prop) (σ0 : zS) (s u R W f e : Nat) (l : List Int32) (hi : Bool) (st : zRst) (σ : zS) : Prop :=
  zfm S σ0 σ ∧ zsr σ s R f e l hi st ∧ zrw σ R l ∧ e ≤ l.length ∧ (zK u = 4 ∧ zR σ u 0 = W ∧ zR σ u 1 = s) ∧ zrw σ W st.2.2 ∧ zN (W + 1) = 12000 ∧ zrmF σ ∧ zHd S s R W
/-- what a throw must answer to -/
def zHf (S : Nat → Nat → Prop) (σ0 : zS) (W : Nat) (E : zEt) (f : zFlt) : Prop := ∀ τ, zfx S σ0 τ → zI τ (zn σ0) 0 = f.1 → zI τ (zn σ0) 1 = nI f.2.1 → zrw τ W f.2.2 → E (zn σ0) τ
section HS
variable {S : Nat → Nat → Prop} {σ0 σ : zS} {s u R W f e : Nat} {l : List Int32} {hi : Bool} {st : zRst} {K : zKt} {E : zEt}
/-- one step of the source's own fields -/
theorem zHk.w (h : zHk S σ0 s u R W f e l hi st σ) {τ : zS} {st' : zRst} {hi' : Bool} (hf : zfm (fun r i => r = s ∧ (i = 2 ∨ i = 4 ∨ i = 5 ∨ i = 6)) σ τ) (ho : st'.2.2 = st.2.2) (hs : zsr τ s R f e l hi' st') : zHk S σ0 s u R W f e l hi' st' τ := by
  obtain ⟨h1, h2, h3, h4, h5, h6, h7, h8, h9⟩ := h
  have kR := (zrow_k h3.1).1
  have kW := (zrow_k h6.1).1
  have ks := h2.1
  have e1 : s ≠ R := fun q => by rw [q, h3.1] at ks; cases ks
  have e2 : s ≠ R + 1 := fun q => by rw [q, kR] at ks; cases ks
  have e3 : s ≠ W := fun q => by rw [q, h6.1] at ks; cases ks
  have e4 : s ≠ W + 1 := fun q => by rw [q, kW] at ks; cases ks
  have e5 : s ≠ u := fun q => by rw [q, h5.1] at ks; cases ks
  refine ⟨h1.trans (hf.mono fun r i q => ?_), hs, h3.fm hf (by omega) (by omega), h4, ⟨h5.1, by rw [hf.R _ _ (by omega)]; exact h5.2.1, by rw [hf.R _ _ (by omega)]; exact h5.2.2⟩, by rw [ho]; exact h6.fm hf (by omega) (by omega), h7, by unfold zrmF; rw [hf.1]; exact h8, h9⟩
  obtain ⟨q1, q2 | q2 | q2 | q2⟩ := q
  · rw [q1, q2]; exact h9.1
  · rw [q1, q2]; exact h9.2.1
  · rw [q1, q2]; exact h9.2.2.1
  · rw [q1, q2]; exact h9.2.2.2.1
/-- a fault that is made here -/
theorem zHk.flt (h : zHk S σ0 s u R W f e l hi st σ) {r : Int32} {p : Nat} (hf : zHf S σ0 W E (r, p, st.2.2)) {τ : zS} (hx : zfx S σ τ) (h1 : zI τ (zn σ) 0 = r) (h2 : zI τ (zn σ) 1 = nI p) (hW : zrw τ W st.2.2) : E (zn σ) τ := by
  have e : zn σ = zn σ0 := h.1.1
  rw [e] at h1 h2 ⊢
  exact hf τ (zfx.of h.1 hx) h1 h2 hW
theorem zrw.fx {σ τ : zS} {a : Nat} {o : List Int32} (h : zrw σ a o) (hx : zfx (fun _ _ => False) σ τ) (hr : 1202 ≤ zn σ) : zrw τ a o := by
  have k := (zrow_k h.1).1
  have l1 := zK_lt h.1 (by decide)
  have l2 := zK_lt k (by decide)
  exact ⟨h.1, h.2.1, by rw [hx.I _ _ (by omega) (by simp)]; exact h.2.2.1, fun i hi => by rw [hx.I _ _ (by omega) (by simp)]; exact h.2.2.2.1 i hi, h.2.2.2.2⟩
theorem s_octet (h : zHk S σ0 s u R W f e l hi st σ) (hk : zRun (rOct l e st) (zHf S σ0 W E) (fun v st' => ∀ τ, zHk S σ0 s u R W f e l hi st' τ → K (some (.int v)) τ)) : X_Source_octet true [.ref s] σ K E := by
  have h0 := h
  obtain ⟨h1, ⟨g1, g2, g3, g4, g5, g6, g7, g8, g9, g10⟩, h3, h4, h5, h6, h7, h8, h9⟩ := h
  have hl := h3.len
  unfold rOct at hk
  refine b_Source_octet ⟨g1, ?_⟩
  rw [g5, g4, nI_eq (by omega) (by omega)]
  refine ⟨fun q => ?_, fun q => ?_⟩
  · have hlt : (st.1 + 7) / 8 < e := by omega
    rw [if_pos hlt] at hk
    rintro σ1 rfl σ2 rfl σ3 rfl
    have ea : zI (zwI (zwI σ s 4 1) s 6 0) s 2 = nI ((st.1 + 7) / 8) := by simp [zIwI]; exact g5
    have er : zR (zwI (zwI σ s 4 1) s 6 0) s 0 = R := g2
    rw [ea, er]
    have hf : zfm (fun r i => r = s ∧ (i = 2 ∨ i = 4 ∨ i = 5 ∨ i = 6)) σ (zwI (zwI (zwI σ s 4 1) s 6 0) s 2 (nI ((st.1 + 7) / 8) + 1)) := by
      refine (((zfm.refl _ σ).wI ?_).wI ?_).wI ?_ <;> omega
    have hn : zHk S σ0 s u R W f e l hi (8 * ((st.1 + 7) / 8 + 1), true, st.2.2) (zwI (zwI (zwI σ s 4 1) s 6 0) s 2 (nI ((st.1 + 7) / 8) + 1)) := by
      refine h0.w hf rfl ⟨g1, g2, by simp [zIwI]; exact g3, by simp [zIwI]; exact g4, ?_, by simp [zIwI, zBo], ?_, fun q => ?_, ?_, ?_⟩
      · simp [zIwI, nI_1]; congr 1; omega
      · simp [zIwI]; rfl
      · exact absurd (by show 8 * ((st.1 + 7) / 8 + 1) % 8 = 0; omega) q
      · show 8 * ((st.1 + 7) / 8 + 1) ≤ 8 * e; omega
      · exact ⟨g10.1, fun _ => by show 0 < 8 * ((st.1 + 7) / 8 + 1); omega, fun q => by cases q⟩
    refine ⟨h3.1, s_Row_get hn.2.2.1 (by omega) ?_⟩
    exact hk _ hn
  · rw [if_neg (by omega)] at hk
    refine ⟨zKbig _ h8.1, h8.2, ?_⟩
    rintro σ7 rfl
    have es : zI (znw σ) s 3 = nI e := by
      rw [zI_nw, if_neg (by have := zK_lt g1 (by decide); have := h8.1; omega)]; exact g4
    rw [es]
    refine ⟨by have := h8.1; omega, s_Fault (S := fun _ _ => False) h8 fun τ hx q1 q2 => ⟨zKbig _ h8.1, by rw [hx.1]; omega, ?_⟩⟩
    have hW := h6.fx hx h8.1
    exact h0.flt hk ⟨hx.1, fun r i a b => hx.2 r i a (by simp)⟩ q1 q2 hW
theorem s_place (h : zHk S σ0 s u R W f e l hi st σ) {τ : zS} (hn : 1202 ≤ zn σ) (ht : ∀ i, zI τ s i = zI σ s i) (hk : K (some (.int (nI (zplc f st)))) τ) : X_Source_place true [.ref s] τ K E := by
  obtain ⟨h1, ⟨g1, g2, g3, g4, g5, g6, g7, g8, g9, g10⟩, h3, h4, h5, h6, h7, h8, h9⟩ := h
  refine b_Source_place ⟨g1, ?_⟩
  unfold zplc at hk
  rw [ht, ht, ht, g6, g3, g5]
  cases hr : st.2.1
  · rw [hr] at hk
    exact q0e hk
  · rw [hr, if_pos rfl] at hk
    refine q1e ?_
    have := g10.2.1 hr
    rw [show (1 : Int32) = nI 1 from rfl, nI_sub (by omega)]
    exact hk
/-- a fault by its rule: made, to be thrown -/
theorem s_fault (h : zHk S σ0 s u R W f e l hi st σ) {r : Int32} (hk : zHf S σ0 W E (r, zplc f st, st.2.2)) : X_Source_fault true [.ref s, .int r] σ (zkr fun x τ => zK x = 30 ∧ x < zn τ ∧ E x τ) E := by
  have h0 := h
  obtain ⟨h1, ⟨g1, g2, g3, g4, g5, g6, g7, g8, g9, g10⟩, h3, h4, h5, h6, h7, h8, h9⟩ := h
  have hs := zK_lt g1 (by decide)
  refine b_Source_fault ⟨zKbig _ h8.1, h8.2, ?_⟩
  rintro σ1 rfl
  refine ⟨g1, s_place h0 h8.1 (fun i => by rw [zI_nw, if_neg (by have := h8.1; omega)]) ⟨by have := h8.1; omega, ?_⟩⟩
  refine s_Fault (S := fun _ _ => False) h8 fun τ hx q1 q2 => ?_
  show zK (zn σ) = 30 ∧ zn σ < zn τ ∧ E (zn σ) τ
  exact ⟨zKbig _ h8.1, by rw [hx.1]; omega, h0.flt hk ⟨hx.1, fun r i a b => hx.2 r i a (by simp)⟩ q1 q2 (h6.fx hx h8.1)⟩
theorem s_come (h : zHk S σ0 s u R W f e l hi st σ) {b : Int32} (hk : zRun (rCome f b st) (zHf S σ0 W E) (fun _ st' => ∀ τ, zHk S σ0 s u R W f e l hi st' τ → K none τ)) : X_Out_come true [.ref u, .int b] σ K E := by
  have h0 := h
  obtain ⟨h1, h2, h3, h4, h5, h6, h7, h8, h9⟩ := h
  have hl := h6.len
  unfold rCome at hk
  refine b_Out_come ⟨h5.1, ?_⟩
  rw [h5.2.1, h5.2.2, h6.2.2.1, show (12000 : Int32) = nI 12000 from rfl, nI_eq (by omega) (by omega)]
  refine ⟨h6.1, fun q => ?_, fun q => ⟨h2.1, ?_⟩⟩
  · rw [if_neg q] at hk
    have hc := h6.2.1
    refine s_Row_add h6 (by omega) fun τ hf hr => hk τ ?_
    have kR := (zrow_k h3.1).1
    have kW := (zrow_k h6.1).1
    have ks := h2.1
    have e1 : R ≠ W := h9.2.2.2.2.2.2
    have e2 : R ≠ W + 1 := fun q => by have := h3.1; rw [q, kW] at this; cases this
    have e3 : R + 1 ≠ W := fun q => by have := h6.1; rw [← q, kR] at this; cases this
    have e4 : s ≠ W := fun q => by rw [q, h6.1] at ks; cases ks
    have e5 : s ≠ W + 1 := fun q => by rw [q, kW] at ks; cases ks
    have e6 : u ≠ W := fun q => by have := h5.1; rw [q, h6.1] at this; cases this
    have e7 : u ≠ W + 1 := fun q => by have := h5.1; rw [q, kW] at this; cases this
    obtain ⟨g1, g2, g3, g4, g5, g6, g7, g8, g9, g10⟩ := h2
    refine ⟨h1.trans (hf.mono fun r i q => ?_), ⟨g1, by rw [hf.R _ _ (by omega)]; exact g2, by rw [hf.I _ _ (by omega)]; exact g3, by rw [hf.I _ _ (by omega)]; exact g4, by rw [hf.I _ _ (by omega)]; exact g5, by rw [hf.I _ _ (by omega)]; exact g6, by rw [hf.I _ _ (by omega)]; exact g7, fun q => by rw [hf.I _ _ (by omega)]; exact g8 q, g9, g10⟩, h3.fm hf (by omega) (by omega), h4, ⟨h5.1, by rw [hf.R _ _ (by omega)]; exact h5.2.1, by rw [hf.R _ _ (by omega)]; exact h5.2.2⟩, hr, h7, by unfold zrmF; rw [hf.1]; exact h8, h9⟩
    rcases q with q | q
    · rw [q.1, q.2]; exact h9.2.2.2.2.1
    · rw [q]; exact h9.2.2.2.2.2.1 i
  · rw [if_pos q] at hk
    exact s_fault h0 hk
end HS

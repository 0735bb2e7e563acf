/-! PART 38: what is asked of entries -/
theorem zBo_or (a b : Bool) : zBo a ||| zBo b = zBo (a || b) := by cases a <;> cases b <;> decide
theorem zBo_01 (a : Bool) : zBo a = 0 ∨ zBo a = 1 := by cases a <;> simp [zBo]
theorem zBo_0 {a : Bool} : zBo a = 0 ↔ a = false := by cases a <;> simp [zBo]
def zuns (n : List Int32) : Nat → Nat → Nat → Bool → Bool
  | 0, _, _, b => b
  | f + 1, k, p, b => if k < n.length ∧ n.getD k 0 ≠ 47 then zuns n f (k + 1) p (b || (decide (n.getD k 0 = 92) || decide (n.getD k 0 = 58))) else zuns n f (k + 1) (k + 1) (b || decide (k - p = 2 ∧ n.getD p 0 = 46 ∧ n.getD (p + 1) 0 = 46))
def zunsafe (n : List Int32) : Bool := zuns n (n.length + 1) 0 0 (decide (n.getD 0 0 = 47))
theorem zgc {x c : Int32} (hx : zby x) (hc : zby c) (h2 : c &&& 255 = c) : (x &&& 255 = c) ↔ x = c := by
  rw [← h2, zbeq hx hc, h2]
theorem s_isUnsafe {σ : zS} {K : zKt} {E : zEt} {a : Nat} {n : List Int32} (ha : zK a = 24) (h : zrw σ (a + 1) n) (h1 : 1 ≤ n.length) (hl : n.length ≤ 100) (hk : K (some (.int (zBo (zunsafe n)))) σ) : X_Entry_isUnsafe true [.ref a] σ K E := by
  have c47 : ∀ i, i < n.length → ((n.getD i 0 &&& 255 = 47) ↔ n.getD i 0 = 47) := fun i hi => zgc (zby_get h.2.2.2.2 hi) (by unfold zby; decide) (by decide)
  have c92 : ∀ i, i < n.length → ((n.getD i 0 &&& 255 = 92) ↔ n.getD i 0 = 92) := fun i hi => zgc (zby_get h.2.2.2.2 hi) (by unfold zby; decide) (by decide)
  have c58 : ∀ i, i < n.length → ((n.getD i 0 &&& 255 = 58) ↔ n.getD i 0 = 58) := fun i hi => zgc (zby_get h.2.2.2.2 hi) (by unfold zby; decide) (by decide)
  have c46 : ∀ i, i < n.length → ((n.getD i 0 &&& 255 = 46) ↔ n.getD i 0 = 46) := fun i hi => zgc (zby_get h.2.2.2.2 hi) (by unfold zby; decide) (by decide)
  have key : ∀ f k p b, k + f = n.length + 1 → p ≤ k → zuns n f k p b = zunsafe n → L_Entry_isUnsafe_23 a (zBo b) (nI p) (nI k) σ K E := by
    intro f
    induction f with
    | zero =>
      intro k p b hf hp he
      refine b_Entry_isUnsafe_23 ⟨ha, h.1, ?_⟩
      rw [h.2.2.1]
      refine ⟨fun _ => ⟨zBo_01 b, ?_⟩, fun q => absurd (nI_lt (by omega) (by omega)) q⟩
      rw [← he] at hk
      exact hk
    | succ f ih =>
      intro k p b hf hp he
      rw [zuns] at he
      -- after the octet is judged
      have fin1 : ¬ (k < n.length ∧ n.getD k 0 ≠ 47) → L_Entry_isUnsafe_102 a (nI p) (nI k) 1 0 (zBo b) σ K E := by
        intro q
        rw [if_neg q] at he
        refine b_Entry_isUnsafe_102 (q1n ?_)
        have eo : (zBo b ||| 0) ||| 0 = zBo (b || false) := by cases b <;> decide
        have e1 : (zBo b ||| 0) ||| 1 = zBo (b || true) := by cases b <;> decide
        rw [nI_sub hp, nI_1, nI_1, eo, e1, show (2 : Int32) = nI 2 from rfl, nI_eq (by omega) (by omega)]
        have go : ∀ c : Bool, c = decide (k - p = 2 ∧ n.getD p 0 = 46 ∧ n.getD (p + 1) 0 = 46) → L_Entry_isUnsafe_23 a (zBo (b || c)) (nI (k + 1)) (nI (k + 1)) σ K E := by
          intro c hc
          rw [← hc] at he
          exact ih (k + 1) (k + 1) _ (by omega) (Nat.le_refl _) he
        refine ⟨fun q2 => go false (by simp [q2]), fun q2 => ⟨ha, h.1, s_Row_get h (by omega) ?_⟩⟩
        refine ⟨fun q3 => go false ?_, fun q3 => ⟨h.1, s_Row_get h (by omega) ⟨fun q4 => go false ?_, fun q4 => go true ?_⟩⟩⟩
        · rw [c46 _ (by omega)] at q3; exact (decide_eq_false (fun z => q3 z.2.1)).symm
        · rw [c46 _ (by omega)] at q4; exact (decide_eq_false (fun z => q4 z.2.2)).symm
        · rw [c46 _ (by omega)] at q3 q4; exact (decide_eq_true ⟨q2, q3, q4⟩).symm
      have h63 : ¬ (k < n.length ∧ n.getD k 0 ≠ 47) → L_Entry_isUnsafe_58 a (zBo b) (nI p) (nI k) σ K E := fun q => b_Entry_isUnsafe_58 (b_Entry_isUnsafe_63 (q1n (b_Entry_isUnsafe_101 (fin1 q))))
      refine b_Entry_isUnsafe_23 ⟨ha, h.1, ?_⟩
      rw [h.2.2.1, nI_eq (by omega) (by omega)]
      refine ⟨fun q => absurd q (nI_nlt (by omega) (by omega)), fun _ => ⟨fun q => h63 (by omega), fun q => s_Row_get h (by omega) ⟨fun q2 => ?_, fun q2 => h63 ?_⟩⟩⟩
      · rw [c47 _ (by omega)] at q2
        rw [if_pos ⟨by omega, q2⟩] at he
        have go : ∀ c : Bool, c = (decide (n.getD k 0 = 92) || decide (n.getD k 0 = 58)) → L_Entry_isUnsafe_102 a (nI p) (nI k) 0 (zBo c) (zBo b) σ K E := by
          intro c hc
          rw [← hc] at he
          refine b_Entry_isUnsafe_102 (q0n ?_)
          rw [zBo_or, nI_1]
          exact ih (k + 1) p _ (by omega) (by omega) he
        refine b_Entry_isUnsafe_63 (q0n ⟨ha, h.1, s_Row_get h (by omega) ⟨fun q3 => b_Entry_isUnsafe_97 (go true ?_), fun q3 => ⟨h.1, s_Row_get h (by omega) ⟨fun q4 => b_Entry_isUnsafe_101 (go false ?_), fun q4 => b_Entry_isUnsafe_97 (go true ?_)⟩⟩⟩⟩)
        · rw [c92 _ (by omega)] at q3; rw [decide_eq_true q3]; rfl
        · rw [c92 _ (by omega)] at q3; rw [c58 _ (by omega)] at q4; rw [decide_eq_false q3, decide_eq_false q4]; rfl
        · rw [c58 _ (by omega)] at q4; rw [decide_eq_true q4, Bool.or_true]
      · rw [c47 _ (by omega)] at q2; exact fun z => z.2 q2
  refine b_Entry_isUnsafe ⟨ha, h.1, s_Row_get (i := 0) h (by omega) ⟨fun q => ?_, fun q => ?_⟩⟩
  · rw [c47 _ (by omega)] at q
    exact key (n.length + 1) 0 0 false (by omega) (by omega) (by unfold zunsafe; rw [decide_eq_false q])
  · rw [c47 _ (by omega)] at q
    exact key (n.length + 1) 0 0 true (by omega) (by omega) (by unfold zunsafe; rw [decide_eq_true q])
theorem z100k (k i : Nat) : (100 * nI k) + nI i = nI (100 * k + i) := by rw [show (100 : Int32) = nI 100 from rfl, nI_mul, nI_add]
theorem z100 (k : Nat) : (100 * nI k) = nI (100 * k) := by rw [show (100 : Int32) = nI 100 from rfl, nI_mul]
theorem z6000 (k : Nat) : (6000 * nI k) = nI (6000 * k) := by rw [show (6000 : Int32) = nI 6000 from rfl, nI_mul]
theorem m_isUnsafe {σ : zS} {K : zKt} {E : zEt} {k0 : Nat} {n : List Int32} (hk0 : k0 < 16) (h : ∀ i, i < n.length → zI σ 1168 (100 * k0 + i) = n.getD i 0) (hs : zI σ 1169 k0 = nI n.length) (h1 : 1 ≤ n.length) (hl : n.length ≤ 100) (hk : K (some (.int (zBo (zunsafe n)))) σ) : X_Model_isUnsafe true [.ref 1116, .int (nI k0)] σ K E := by
  have hin : ∀ i, i < n.length → vp_in (nI (100 * k0 + i)) (zN 1168) := fun i hi => by rw [zn_1168]; exact vp_in_nI (by omega) (by omega)
  have hrd : ∀ i, i < n.length → zI σ 1168 (nI (100 * k0 + i)).toNatClampNeg = n.getD i 0 := fun i hi => by rw [nI_clamp (by omega)]; exact h i hi
  have key : ∀ f k p b, k + f = n.length + 1 → p ≤ k → zuns n f k p b = zunsafe n → L_Model_isUnsafe_36 1116 (nI (100 * k0)) (nI n.length) (zBo b) (nI p) (nI k) σ K E := by
    intro f
    induction f with
    | zero =>
      intro k p b hf hp he
      refine b_Model_isUnsafe_36 ⟨fun _ => ⟨zBo_01 b, ?_⟩, fun q => absurd (nI_lt (by omega) (by omega)) q⟩
      rw [← he] at hk
      exact hk
    | succ f ih =>
      intro k p b hf hp he
      rw [zuns] at he
      have fin : ¬ (k < n.length ∧ n.getD k 0 ≠ 47) → L_Model_isUnsafe_105 1116 (nI (100 * k0)) (nI n.length) (zBo b) (nI p) (nI k) σ K E := by
        intro q
        rw [if_neg q] at he
        have go : ∀ c : Bool, c = (b || decide (k - p = 2 ∧ n.getD p 0 = 46 ∧ n.getD (p + 1) 0 = 46)) → L_Model_isUnsafe_36 1116 (nI (100 * k0)) (nI n.length) (zBo c) (nI (k + 1)) (nI (k + 1)) σ K E := by
          intro c hc
          rw [← hc] at he
          exact ih (k + 1) (k + 1) _ (by omega) (Nat.le_refl _) he
        refine b_Model_isUnsafe_105 ?_
        rw [zBo_0, nI_1, nI_sub hp, nI_add, nI_1, show (2 : Int32) = nI 2 from rfl, nI_eq (by omega) (by omega)]
        refine ⟨fun q2 => go true ?_, fun q2 => ⟨fun q3 => go false ?_, fun q3 => ?_⟩⟩
        · rw [show b = true by cases b; exact absurd rfl q2; rfl]; rfl
        · rw [q2, decide_eq_false (fun z => q3 z.1)]; rfl
        · have p1 : p < n.length := by omega
          have p2 : p + 1 < n.length := by omega
          rw [hrd p p1, Nat.add_assoc, hrd (p + 1) p2]
          refine ⟨hin p p1, fun q4 => go false ?_, fun q4 => ⟨hin (p + 1) p2, fun q5 => go false ?_, fun q5 => go true ?_⟩⟩
          · rw [q2, decide_eq_false (fun z => q4 z.2.1)]; rfl
          · rw [q2, decide_eq_false (fun z => q5 z.2.2)]; rfl
          · rw [decide_eq_true ⟨q3, q4, q5⟩, Bool.or_true]
      refine b_Model_isUnsafe_36 ⟨fun q => absurd q (nI_nlt (by omega) (by omega)), fun _ => ⟨fun q => fin ?_, fun q => ?_⟩⟩
      · have := (nI_leI (by omega) (by omega)).mp q
        omega
      · have kn : k < n.length := by
          have := mt (nI_le (a := n.length) (b := k) · (by omega)) q
          omega
        rw [nI_add, hrd k kn, nI_1, zBo_0]
        refine ⟨hin k kn, fun q2 => fin (fun z => z.2 q2), fun q2 => ?_⟩
        rw [if_pos ⟨kn, q2⟩] at he
        have go : ∀ c : Bool, c = (b || (decide (n.getD k 0 = 92) || decide (n.getD k 0 = 58))) → L_Model_isUnsafe_36 1116 (nI (100 * k0)) (nI n.length) (zBo c) (nI p) (nI (k + 1)) σ K E := by
          intro c hc
          rw [← hc] at he
          exact ih (k + 1) p _ (by omega) (by omega) he
        refine ⟨fun q3 => go true ?_, fun q3 => ⟨hin k kn, fun q4 => go true ?_, fun q4 => ⟨hin k kn, fun q5 => go false ?_, fun q5 => go true ?_⟩⟩⟩
        · rw [show b = true by cases b; exact absurd rfl q3; rfl]; rfl
        · rw [decide_eq_true q4]; simp
        · rw [q3, decide_eq_false q4, decide_eq_false q5]; rfl
        · rw [decide_eq_true q5]; simp
  refine b_Model_isUnsafe ?_
  rw [nI_clamp (by omega), hs]
  refine ⟨by rw [zn_1169]; exact vp_in_nI hk0 (by omega), ?_⟩
  rintro x1 rfl
  rw [z100]
  have e0 := hrd 0 (by omega)
  rw [Nat.add_zero] at e0
  rw [e0]
  refine ⟨hin 0 (by omega), fun q => ?_, fun q => ?_⟩
  · exact key (n.length + 1) 0 0 false (by omega) (by omega) (by unfold zunsafe; rw [decide_eq_false q])
  · exact key (n.length + 1) 0 0 true (by omega) (by omega) (by unfold zunsafe; rw [decide_eq_true q])
-- told, nameAt, extract, wipe
def zent (es : List zEn) (e : Int32) : Option zEn := if 0 ≤ e.toInt then es[e.toInt.toNat]? else none
theorem zent_i {es : List zEn} {e : Int32} {x : zEn} (h : zent es e = some x) (hl : es.length ≤ 16) : ∃ k, k < es.length ∧ e = nI k ∧ es[k]? = some x := by
  unfold zent at h
  by_cases q : 0 ≤ e.toInt
  · rw [if_pos q] at h
    have h2 := (List.getElem?_eq_some_iff.mp h).1
    refine ⟨e.toInt.toNat, h2, ?_, h⟩
    apply Int32.toInt_inj.mp
    rw [nI_toInt (by omega)]; omega
  · rw [if_neg q] at h; cases h
theorem zent_n {es : List zEn} {k : Nat} (hk : k < 2 ^ 31) : zent es (nI k) = es[k]? := by
  unfold zent
  rw [if_pos (by rw [nI_toInt hk]; omega), nI_n hk]
/-- the class' asking whether there is such an entry -/
theorem s_entIn {σ : zS} {K : zKt} {E : zEt} {es : List zEn} {e : Int32} (h : zHe σ 199 es) (hn : zent es e = none → K (some (.int 0)) σ) (hs : ∀ k x, k < es.length → e = nI k → es[k]? = some x → zent es e = some x → K (some (.int 1)) σ) : X_House_isIn true [.long e.toInt64, .long 0, .long (((zI σ 199 1) - 1).toInt64)] σ K E := by
  have e0 : (0 : Int64).toInt = 0 := by decide
  have hl := h.2.1
  refine s_isIn (fun q => hn ?_) (fun q1 q2 => ?_)
  · rw [h.1, zto64, zto64, e0, zsm1 (by omega)] at q
    unfold zent
    by_cases q3 : 0 ≤ e.toInt
    · rw [if_pos q3]; exact List.getElem?_eq_none (by omega)
    · rw [if_neg q3]
  · rw [zto64, e0] at q1
    rw [h.1, zto64, zto64, zsm1 (by omega)] at q2
    obtain ⟨m, rfl, m1, m2⟩ := zvn (x := e) (a := 0) (b := 16) q1 (by omega) (by omega)
    rw [nI_toInt (by omega)] at q2
    have hm : m < es.length := by omega
    have hx : es[m]? = some es[m] := List.getElem?_eq_getElem hm
    exact hs m _ hm rfl hx ((zent_n (by omega)).trans hx)
theorem s_noEntry {σ : zS} {K : zKt} {E : zEt} {es : List zEn} {e : Int32} (h : zMe' σ es) (hn : zent es e = none → K (some (.int 1)) σ) (hs : ∀ k x, k < es.length → e = nI k → es[k]? = some x → zent es e = some x → K (some (.int 0)) σ) : X_Model_noEntry true [.ref 1116, .int e] σ K E := by
  have hl := h.2.1
  refine b_Model_noEntry ?_
  rw [h.1, zlt0, Int32.lt_iff_toInt_lt, nI_toInt (by omega)]
  refine ⟨fun q => hn ?_, fun q => ⟨fun q2 => ?_, fun q2 => hn ?_⟩⟩
  · unfold zent; rw [if_neg (by omega)]
  · obtain ⟨m, rfl, m1, m2⟩ := zvn (x := e) (a := 0) (b := 16) (by omega) (by omega) (by omega)
    rw [nI_toInt (by omega)] at q2
    have hm : m < es.length := by omega
    have hx : es[m]? = some es[m] := List.getElem?_eq_getElem hm
    exact hs m _ hm rfl hx ((zent_n (by omega)).trans hx)
  · unfold zent
    rw [if_pos (by omega)]; exact List.getElem?_eq_none (by omega)
def ztold (es : List zEn) (e w : Int32) : Int32 := match zent es e with
  | some x => if w.toInt = 0 then nI x.2.1.length else if w.toInt = 1 then x.2.2.1 else if w.toInt = 2 then x.2.2.2 else if w.toInt = 3 then nI x.1.length else if w.toInt = 4 then zBo (zunsafe x.1) else -2
  | none => -1
theorem zk24 (k : Nat) (hk : k < 16) : zK (199 + 2 + 5 * k) = 24 ∧ zK (281 + 2 + 5 * k) = 24 := by
  have : ∀ k, k < 16 → zK (199 + 2 + 5 * k) = 24 ∧ zK (281 + 2 + 5 * k) = 24 := by decide +kernel
  exact this k hk
theorem h_told {σ : zS} {K : zKt} {E : zEt} {es : List zEn} {e w : Int32} (h : zHe σ 199 es) (hnm : ∀ x ∈ es, 1 ≤ x.1.length ∧ x.1.length ≤ 100) (hk : K (some (.int (ztold es e w))) σ) : X_House_told true [.ref 10, .int e, .int w] σ K E := by
  unfold ztold at hk
  have hl := h.2.1
  refine b_House_told (s_entIn h (fun q => q0n ?_) (fun k x hk1 ek hx q => q1n ?_))
  · rw [q] at hk; exact hk
  · rw [q] at hk
    simp only at hk
    obtain ⟨a, n, t, c, d, g⟩ := h.2.2 k (by omega)
    obtain ⟨g1, g2, g3, g4⟩ := g x hx
    have ka := (zk24 k (by omega)).1
    have hnx := hnm x (List.mem_of_getElem? hx)
    rw [ek, nI_clamp (by omega), a]
    refine ⟨by rw [zn_200]; exact vp_in_nI (by omega) (by omega), ?_⟩
    rw [show 199 + 2 + 5 * k + 3 = 199 + 5 + 5 * k by omega, show 199 + 2 + 5 * k + 1 = 199 + 3 + 5 * k by omega, c.2.2.1, d.2.2.1, ← g1, ← g2, g3, g4]
    refine ⟨fun q => ⟨ka, d.1, ?_⟩, fun q => ⟨ka, ?_⟩, fun q => ⟨ka, ?_⟩, fun q => ⟨ka, c.1, ?_⟩, fun q => ⟨ka, s_isUnsafe (n := x.1) ka ?_ hnx.1 hnx.2 ?_⟩, fun q => ?_⟩
    · rw [if_pos q] at hk; exact hk
    · rw [if_neg (by omega), if_pos q] at hk; exact hk
    · rw [if_neg (by omega), if_neg (by omega), if_pos q] at hk; exact hk
    · rw [if_neg (by omega), if_neg (by omega), if_neg (by omega), if_pos q] at hk; exact hk
    · rw [show 199 + 2 + 5 * k + 1 = 199 + 3 + 5 * k by omega, g1]; exact c
    · rw [if_neg (by omega), if_neg (by omega), if_neg (by omega), if_neg (by omega), if_pos q] at hk
      cases hz : zunsafe x.1
      · rw [hz] at hk; exact q0e hk
      · rw [hz] at hk; exact q1e hk
    · rw [if_neg (by omega), if_neg (by omega), if_neg (by omega), if_neg (by omega), if_neg (by omega)] at hk; exact hk
theorem m_told {σ : zS} {K : zKt} {E : zEt} {es : List zEn} {e w : Int32} (h : zMe' σ es) (hk : ∀ τ, zfm zcS σ τ → K (some (.int (ztold es e w))) τ) : X_Model_told true [.ref 1116, .int e, .int w] σ K E := by
  unfold ztold at hk
  refine b_Model_told ?_
  rintro σ1 rfl
  replace hk := hk _ (zcS_w σ)
  have h1 := h.fm (zcS_w σ) (by omega) (by omega)
  generalize zwI σ 1116 0 0 = σ1 at h1 hk
  have hl := h1.2.1
  refine s_noEntry h1 (fun q => q1e ?_) (fun k x hk1 ek hx q => q0e ?_)
  · rw [q] at hk; exact hk
  · rw [q] at hk
    simp only at hk
    obtain ⟨⟨a1, a2, a3, a4, a5⟩, b, c, d1, d2, d3, d4⟩ := h1.2.2 k x hx
    rw [ek, nI_clamp (by omega), a1, b, c, d1]
    refine ⟨fun q => ⟨by rw [zn_1173]; exact vp_in_nI (by omega) (by omega), ?_⟩, fun q => ⟨by rw [zn_1170]; exact vp_in_nI (by omega) (by omega), ?_⟩, fun q => ⟨by rw [zn_1171]; exact vp_in_nI (by omega) (by omega), ?_⟩, fun q => ⟨by rw [zn_1169]; exact vp_in_nI (by omega) (by omega), ?_⟩, fun q => m_isUnsafe (by omega) a4 a1 a2 a3 ?_, fun q => ?_⟩
    · rw [if_pos q] at hk; exact hk
    · rw [if_neg (by omega), if_pos q] at hk; exact hk
    · rw [if_neg (by omega), if_neg (by omega), if_pos q] at hk; exact hk
    · rw [if_neg (by omega), if_neg (by omega), if_neg (by omega), if_pos q] at hk; exact hk
    · rw [if_neg (by omega), if_neg (by omega), if_neg (by omega), if_neg (by omega), if_pos q] at hk
      cases hz : zunsafe x.1
      · rw [hz] at hk; exact q0e hk
      · rw [hz] at hk; exact q1e hk
    · rw [if_neg (by omega), if_neg (by omega), if_neg (by omega), if_neg (by omega), if_neg (by omega)] at hk; exact hk
def znAt (es : List zEn) (e i : Int32) : Int32 := match zent es e with
  | some x => zoct x.1 i
  | none => -1
theorem h_nameAt {σ : zS} {K : zKt} {E : zEt} {es : List zEn} {e i : Int32} (h : zHe σ 199 es) (hk : K (some (.int (znAt es e i))) σ) : X_House_nameAt true [.ref 10, .int e, .int i] σ K E := by
  unfold znAt at hk
  have hl := h.2.1
  refine b_House_nameAt (s_entIn h (fun q => q0n ?_) (fun k x hk1 ek hx q => q1n ?_))
  · rw [q] at hk; exact hk
  · rw [q] at hk
    simp only [zoct] at hk
    obtain ⟨a, n, t, c, d, g⟩ := h.2.2 k (by omega)
    obtain ⟨g1, g2, g3, g4⟩ := g x hx
    have ka := (zk24 k (by omega)).1
    have hc := c.len
    rw [ek, nI_clamp (by omega), a, show 199 + 2 + 5 * k + 1 = 199 + 3 + 5 * k by omega, c.2.2.1]
    rw [g1] at hk
    have e0 : (0 : Int64).toInt = 0 := by decide
    refine ⟨by rw [zn_200]; exact vp_in_nI (by omega) (by omega), ka, c.1, s_isIn (fun q => b_House_nameAt_47 (q0e ?_)) (fun q1 q2 => b_House_nameAt_47 (q1e ⟨c.1, ?_⟩))⟩
    · rw [zto64, zto64, e0, zsm1 (by omega)] at q
      rw [if_neg (by omega)] at hk
      exact hk
    · rw [zto64, e0] at q1
      rw [zto64, zto64, zsm1 (by omega)] at q2
      obtain ⟨m, rfl, m1, m2⟩ := zvn (x := i) (a := 0) (b := n.length) q1 (by omega) (by omega)
      rw [nI_toInt (by omega)] at q2
      rw [if_pos (by rw [nI_toInt (by omega)]; omega), nI_n (by omega)] at hk
      exact s_Row_get c (by omega) hk
theorem m_nameAt {σ : zS} {K : zKt} {E : zEt} {es : List zEn} {e i : Int32} (h : zMe' σ es) (hk : ∀ τ, zfm zcS σ τ → K (some (.int (znAt es e i))) τ) : X_Model_nameAt true [.ref 1116, .int e, .int i] σ K E := by
  unfold znAt at hk
  refine b_Model_nameAt ?_
  rintro σ1 rfl
  replace hk := hk _ (zcS_w σ)
  have h1 := h.fm (zcS_w σ) (by omega) (by omega)
  generalize zwI σ 1116 0 0 = σ1 at h1 hk
  have hl := h1.2.1
  refine s_noEntry h1 (fun q => q1n ?_) (fun k x hk1 ek hx q => q0n ?_)
  · rw [q] at hk; exact hk
  · rw [q] at hk
    simp only [zoct] at hk
    obtain ⟨⟨a1, a2, a3, a4, a5⟩, -⟩ := h1.2.2 k x hx
    rw [ek, nI_clamp (by omega), a1, zlt0, Int32.lt_iff_toInt_lt, nI_toInt (by omega)]
    refine ⟨fun q => ?_, fun q => ⟨by rw [zn_1169]; exact vp_in_nI (by omega) (by omega), fun q2 => ?_, fun q2 => ?_⟩⟩
    · rw [if_neg (by omega)] at hk; exact hk
    · obtain ⟨m, rfl, m1, m2⟩ := zvn (x := i) (a := 0) (b := x.1.length) (by omega) (by omega) (by omega)
      rw [nI_toInt (by omega)] at q2
      rw [if_pos (by rw [nI_toInt (by omega)]; omega), nI_n (by omega)] at hk
      rw [z100k, nI_clamp (by omega), a4 m (by omega)]
      exact ⟨by rw [zn_1168]; exact vp_in_nI (by omega) (by omega), hk⟩
    · rw [if_neg (by omega)] at hk; exact hk
def zextr (S : zSt') (es : List zEn) (e : Int32) : Int32 × zSt' := match zent es e with
  | some x => (match zspG S 12 0 with
    | some k => (nI (k + 1), zput S k x.2.1)
    | none => (-4, S))
  | none => (-1, S)
theorem h_extract {σ : zS} {K : zKt} {E : zEt} {S : zSt'} {es : List zEn} {e : Int32} (h : zHe σ 199 es) (hS : zHs σ S) (hk : ∀ τ, zfm zHsS σ τ → zHs τ (zextr S es e).2 → K (some (.int (zextr S es e).1)) τ) : X_House_extract true [.ref 10, .int e] σ K E := by
  unfold zextr at hk
  have hl := h.2.1
  refine b_House_extract (s_entIn h (fun q => q0n ?_) (fun k x hk1 ek hx q => q1n (s_spare hS (fun q2 => ?_) (fun j q2 hj _ => ?_))))
  · rw [q] at hk; exact hk σ (zfm.refl _ _) hS
  · rw [q, q2] at hk
    exact ⟨fun q3 => absurd q3 (by decide), fun _ => hk σ (zfm.refl _ _) hS⟩
  · rw [q, q2] at hk
    obtain ⟨a, n, t, c, d, g⟩ := h.2.2 k (by omega)
    obtain ⟨g1, g2, g3, g4⟩ := g x hx
    have ka := (zk24 k (by omega)).1
    refine ⟨fun _ => ?_, fun q3 => absurd (nI_pos' (by omega)) q3⟩
    rw [ek, nI_clamp (by omega), a, show 199 + 2 + 5 * k + 3 = 199 + 5 + 5 * k by omega]
    have hN : zN (199 + 5 + 5 * k + 1) = 6000 := by
      have : ∀ k, k < 16 → zN (199 + 5 + 5 * k + 1) = 6000 := by decide +kernel
      exact this k (by omega)
    have hd := d.2.1
    simp only [g2] at hk
    exact ⟨by rw [zn_200]; exact vp_in_nI (by omega) (by omega), ka, s_keep hS hj d (by omega) (by omega) hk⟩
theorem m_extract {σ : zS} {K : zKt} {E : zEt} {S : zSt'} {es : List zEn} {e : Int32} (h : zMe' σ es) (hS : zMs σ S) (hk : ∀ τ, zfm (fun r i => (r = 1116 ∧ i = 0) ∨ r = 1118 ∨ r = 1119 ∨ r = 1120) σ τ → zMs τ (zextr S es e).2 → K (some (.int (zextr S es e).1)) τ) : X_Model_extract true [.ref 1116, .int e] σ K E := by
  unfold zextr at hk
  refine b_Model_extract ?_
  rintro σ1 rfl
  have f1 : zfm (fun r i => (r = 1116 ∧ i = 0) ∨ r = 1118 ∨ r = 1119 ∨ r = 1120) σ (zwI σ 1116 0 0) := (zfm.refl _ σ).wI (by omega)
  have h1 := h.fm (zcS_w σ) (by omega) (by omega)
  have hS1 := hS.fm (zcS_w σ) (by omega)
  generalize zwI σ 1116 0 0 = σ1 at h1 hS1 f1
  have hl := h1.2.1
  refine s_noEntry h1 (fun q => q1e ?_) (fun k x hk1 ek hx q => q0e (s_freeStream hS1 (fun q2 => ?_) (fun j q2 hj _ => ?_)))
  · rw [q] at hk; exact hk σ1 f1 hS1
  · rw [q, q2] at hk
    exact ⟨fun q3 => absurd q3 (by decide), fun _ => hk σ1 f1 hS1⟩
  · rw [q, q2] at hk
    obtain ⟨-, b, c, d1, d2, d3, d4⟩ := h1.2.2 k x hx
    refine ⟨fun _ => ?_, fun q3 => absurd (nI_pos' (by omega)) q3⟩
    rw [ek, nI_clamp (by omega), d1, z6000]
    exact ⟨by rw [zn_1173]; exact vp_in_nI (by omega) (by omega), s_newStream hS1 q2 (by decide +kernel) (by rw [show zN 1172 = 96000 from by decide +kernel]; decide) (by decide) d3 (by rw [show zN 1172 = 96000 from by decide +kernel]; omega) (by omega) d4 fun τ f s => hk τ (f1.trans (f.mono fun r i q => Or.inr q)) s⟩
theorem h_wipe {σ : zS} {K : zKt} {E : zEt} {es : List zEn} (h : zHe σ 199 es) (hk : ∀ τ, zfm (fun r i => r = 199 ∧ i = 1) σ τ → zHe τ 199 [] → K (some (.int (nI es.length))) τ) : X_House_wipe true [.ref 10] σ K E := by
  refine b_House_wipe ?_
  rintro σ1 rfl
  rw [h.1]
  have f : zfm (fun r i => r = 199 ∧ i = 1) σ (zwI σ 199 1 0) := (zfm.refl _ σ).wI ⟨rfl, rfl⟩
  refine hk _ f ⟨by simp [zIwI]; rfl, by simp, fun k hk => ?_⟩
  obtain ⟨a, n, t, c, d, g⟩ := h.2.2 k hk
  exact ⟨a, n, t, c.fm f (by omega) (by omega), d.fm f (by omega) (by omega), fun e he => by simp at he⟩
theorem m_wipe {σ : zS} {K : zKt} {E : zEt} {es : List zEn} (h : zMe' σ es) (hk : ∀ τ, zfm (fun r i => r = 1116 ∧ (i = 0 ∨ i = 88)) σ τ → zMe' τ [] → K (some (.int (nI es.length))) τ) : X_Model_wipe true [.ref 1116] σ K E := by
  refine b_Model_wipe ?_
  rintro σ1 rfl σ2 rfl
  have e : zI (zwI σ 1116 0 0) 1116 88 = nI es.length := by simp [zIwI]; exact h.1
  rw [e]
  exact hk _ (((zfm.refl _ σ).wI (by omega)).wI (by omega)) ⟨by simp [zIwI]; rfl, by simp, fun k e he => by simp at he⟩

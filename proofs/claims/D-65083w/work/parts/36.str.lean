/-! PART 36: streams -/
abbrev zSt' : Type := Nat → Option (List Int32)
def zBo (b : Bool) : Int32 := if b = true then 1 else 0
def zHs (σ : zS) (S : zSt') : Prop := ∀ k, k < 12 → zR σ 13 k = 1092 + 2 * k ∧ zI σ 14 k = zBo (S k).isSome ∧ ∃ l, zrw σ (1092 + 2 * k) l ∧ ∀ m, S k = some m → m = l
def zMs (σ : zS) (S : zSt') : Prop := ∀ k, k < 12 → zI σ 1120 (k + 1) = zBo (S k).isSome ∧ ∀ l, S k = some l → zI σ 1119 (k + 1) = nI l.length ∧ l.length ≤ 12000 ∧ (∀ i, i < l.length → zI σ 1118 (12000 * (k + 1) + i) = l.getD i 0) ∧ ∀ x ∈ l, zby x
theorem zHs.fm {σ τ : zS} {S : zSt'} {P : Nat → Nat → Prop} (h : zHs σ S) (hf : zfm P σ τ) (h1 : ∀ r i, r = 13 ∨ r = 14 ∨ (1092 ≤ r ∧ r < 1116) → ¬ P r i) : zHs τ S := by
  intro k hk
  obtain ⟨a, b, l, c, d⟩ := h k hk
  exact ⟨by rw [hf.R _ _ (h1 _ _ (by omega))]; exact a, by rw [hf.I _ _ (h1 _ _ (by omega))]; exact b, l, c.fm hf (h1 _ _ (by omega)) (fun i => h1 _ _ (by omega)), d⟩
theorem zMs.fm {σ τ : zS} {S : zSt'} {P : Nat → Nat → Prop} (h : zMs σ S) (hf : zfm P σ τ) (h1 : ∀ r i, r = 1118 ∨ r = 1119 ∨ r = 1120 → ¬ P r i) : zMs τ S := by
  intro k hk
  obtain ⟨a, b⟩ := h k hk
  refine ⟨by rw [hf.I _ _ (h1 _ _ (by omega))]; exact a, fun l hl => ?_⟩
  obtain ⟨c, d, e, f⟩ := b l hl
  exact ⟨by rw [hf.I _ _ (h1 _ _ (by omega))]; exact c, d, fun i hi => by rw [hf.I _ _ (h1 _ _ (by omega))]; exact e i hi, f⟩
def zlook (S : zSt') (s : Int32) : Option (List Int32) := if 1 ≤ s.toInt ∧ s.toInt ≤ 12 then S (s.toInt.toNat - 1) else none
theorem zlook_i {S : zSt'} {s : Int32} {l : List Int32} (h : zlook S s = some l) : ∃ k, k < 12 ∧ s = nI (k + 1) ∧ S k = some l := by
  unfold zlook at h
  by_cases q : 1 ≤ s.toInt ∧ s.toInt ≤ 12
  · rw [if_pos q] at h
    obtain ⟨n, rfl, n1, n2⟩ := zvn (a := 1) (b := 12) q.1 q.2 (by decide)
    rw [nI_n (by omega)] at h
    exact ⟨n - 1, by omega, by congr 1; omega, h⟩
  · rw [if_neg q] at h; cases h
theorem zlook_s {S : zSt'} {k : Nat} (hk : k < 12) : zlook S (nI (k + 1)) = S k := by
  unfold zlook
  rw [if_pos (by rw [nI_toInt (by omega)]; omega), nI_n (by omega)]; rfl
theorem s_stream {σ : zS} {K : zKt} {E : zEt} {S : zSt'} {s : Int32} (h : zHs σ S) (hn : zlook S s = none → K (some (.ref 0)) σ) (hs : ∀ k l, k < 12 → s = nI (k + 1) → S k = some l → zlook S s = some l → zrw σ (1092 + 2 * k) l → K (some (.ref (1092 + 2 * k))) σ) : X_House_stream true [.ref 10, .int s] σ K E := by
  have e1 : (1 : Int64).toInt = 1 := by decide
  have e2 : (12 : Int64).toInt = 12 := by decide
  refine b_House_stream (s_isIn (fun q => q0e (hn ?_)) (fun q1 q2 => q1e ?_))
  · rw [zto64, e1, e2] at q
    unfold zlook
    rw [if_neg (by omega)]
  · rw [zto64, e1] at q1
    rw [zto64, e2] at q2
    obtain ⟨n, rfl, n1, n2⟩ := zvn (a := 1) (b := 12) q1 q2 (by decide)
    obtain ⟨k, rfl⟩ : ∃ k, n = k + 1 := ⟨n - 1, by omega⟩
    rw [nI_pred, nI_clamp (by omega)]
    obtain ⟨a, b, l, c, d⟩ := h k (by omega)
    have e := zlook_s (S := S) (k := k) (by omega)
    refine ⟨by rw [zn_14]; exact vp_in_nI (by omega) (by omega), ?_⟩
    rw [b]
    cases hS : S k with
    | none => exact q0e (hn (e.trans hS))
    | some m =>
      refine q1e ⟨by rw [zn_13]; exact vp_in_nI (by omega) (by omega), ?_⟩
      rw [a]
      have := d m hS
      subst this
      exact hs k m (by omega) rfl hS (e.trans hS) c
theorem s_noStream {σ : zS} {K : zKt} {E : zEt} {S : zSt'} {s : Int32} (h : zMs σ S) (hn : zlook S s = none → K (some (.int 1)) σ) (hs : ∀ k l, k < 12 → s = nI (k + 1) → S k = some l → zlook S s = some l → K (some (.int 0)) σ) : X_Model_noStream true [.ref 1116, .int s] σ K E := by
  have e1 : (1 : Int32).toInt = 1 := by decide
  have e2 : (12 : Int32).toInt = 12 := by decide
  refine b_Model_noStream (s_in (fun q => q0e (hn ?_)) (fun q1 q2 => q1e ?_))
  · rw [e1, e2] at q
    unfold zlook
    rw [if_neg (by omega)]
  · rw [e1] at q1
    rw [e2] at q2
    obtain ⟨n, rfl, n1, n2⟩ := zvn (a := 1) (b := 12) q1 q2 (by decide)
    obtain ⟨k, rfl⟩ : ∃ k, n = k + 1 := ⟨n - 1, by omega⟩
    rw [nI_clamp (by omega)]
    obtain ⟨a, b⟩ := h k (by omega)
    have e := zlook_s (S := S) (k := k) (by omega)
    refine ⟨by rw [zn_1120]; exact vp_in_nI (by omega) (by omega), ?_⟩
    rw [a]
    cases hS : S k with
    | none => exact q0n (hn (e.trans hS))
    | some m => exact q1n (hs k m (by omega) rfl hS (e.trans hS))
theorem q0r {A B : Prop} (h : B) : (¬ (0 : Nat) = 0 → A) ∧ ((0 : Nat) = 0 → B) := ⟨fun q => absurd rfl q, fun _ => h⟩
theorem q0s {A B : Prop} (h : A) : ((0 : Nat) = 0 → A) ∧ (¬ (0 : Nat) = 0 → B) := ⟨fun _ => h, fun q => absurd rfl q⟩
theorem qkr {A B : Prop} {k : Nat} (h : A) : (¬ 1092 + 2 * k = 0 → A) ∧ (1092 + 2 * k = 0 → B) := ⟨fun _ => h, fun q => by omega⟩
theorem qks {A B : Prop} {k : Nat} (h : B) : (1092 + 2 * k = 0 → A) ∧ (¬ 1092 + 2 * k = 0 → B) := ⟨fun q => by omega, fun _ => h⟩
-- length
def zlen (S : zSt') (s : Int32) : Int32 := match zlook S s with
  | some l => nI l.length
  | none => -1
theorem h_length {σ : zS} {K : zKt} {E : zEt} {S : zSt'} {s : Int32} (h : zHs σ S) (hk : K (some (.int (zlen S s))) σ) : X_House_length true [.ref 10, .int s] σ K E := by
  unfold zlen at hk
  refine b_House_length (s_stream h (fun q => q0r ?_) (fun k l _ _ _ q r => qkr ⟨r.1, ?_⟩))
  · rw [q] at hk; exact hk
  · rw [q] at hk; rw [r.2.2.1]; exact hk
abbrev zcS : Nat → Nat → Prop := fun r i => r = 1116 ∧ i = 0
theorem zcS_w (σ : zS) : zfm zcS σ (zwI σ 1116 0 0) := (zfm.refl _ σ).wI ⟨rfl, rfl⟩
theorem m_length {σ : zS} {K : zKt} {E : zEt} {S : zSt'} {s : Int32} (h : zMs σ S) (hk : ∀ τ, zfm zcS σ τ → K (some (.int (zlen S s))) τ) : X_Model_length true [.ref 1116, .int s] σ K E := by
  unfold zlen at hk
  refine b_Model_length ?_
  rintro σ1 rfl
  have hk := hk _ (zcS_w σ)
  have h1 := h.fm (zcS_w σ) (by omega)
  generalize zwI σ 1116 0 0 = σ1 at h1 hk
  refine s_noStream h1 (fun q => q1e ?_) (fun k l hk1 e hS q => q0e ⟨?_, ?_⟩)
  · rw [q] at hk; exact hk
  · rw [e, zn_1119]; exact vp_in_nI (by omega) (by omega)
  · rw [q] at hk
    rw [e, nI_clamp (by omega), ((h1 k hk1).2 l hS).1]
    exact hk
-- at
def zatS (S : zSt') (s i : Int32) : Int32 := match zlook S s with
  | some l => zoct l i
  | none => -1
theorem h_at {σ : zS} {K : zKt} {E : zEt} {S : zSt'} {s i : Int32} (h : zHs σ S) (hk : K (some (.int (zatS S s i))) σ) : X_House_at true [.ref 10, .int s, .int i] σ K E := by
  unfold zatS at hk
  refine b_House_at (s_stream h (fun q => q0s ?_) (fun k l _ _ _ q r => qks ⟨r.1, ?_⟩))
  · rw [q] at hk; exact hk
  · rw [q] at hk
    have hl := r.len
    have e0 : (0 : Int64).toInt = 0 := by decide
    simp only [zoct] at hk
    refine s_isIn (fun q => q0n ?_) (fun q1 q2 => q1n ?_)
    · rw [r.2.2.1, zto64, zto64, e0, zsm1 (by omega)] at q
      rw [if_neg (by omega)] at hk
      exact hk
    · rw [zto64, e0] at q1
      rw [r.2.2.1, zto64, zto64, zsm1 (by omega)] at q2
      obtain ⟨m, rfl, m1, m2⟩ := zvn (x := i) (a := 0) (b := l.length) q1 (by omega) (by omega)
      rw [nI_toInt (by omega)] at q2
      rw [if_pos (by rw [nI_toInt (by omega)]; omega), nI_n (by omega)] at hk
      exact s_Row_get r (by omega) hk
theorem nI_mul (a b : Nat) : nI a * nI b = nI (a * b) := (Int32.ofNat_mul a b).symm
theorem z12k (k i : Nat) : (12000 * nI k) + nI i = nI (12000 * k + i) := by
  rw [show (12000 : Int32) = nI 12000 from rfl, nI_mul, nI_add]
theorem m_at {σ : zS} {K : zKt} {E : zEt} {S : zSt'} {s i : Int32} (h : zMs σ S) (hk : ∀ τ, zfm zcS σ τ → K (some (.int (zatS S s i))) τ) : X_Model_at true [.ref 1116, .int s, .int i] σ K E := by
  unfold zatS at hk
  refine b_Model_at ?_
  rintro σ1 rfl
  have hk := hk _ (zcS_w σ)
  have h1 := h.fm (zcS_w σ) (by omega)
  generalize zwI σ 1116 0 0 = σ1 at h1 hk
  refine s_noStream h1 (fun q => q1n ?_) (fun k l hk1 e hS q => q0n ?_)
  · rw [q] at hk; exact hk
  · rw [q] at hk
    obtain ⟨g1, g2, g3, g4⟩ := (h1 k hk1).2 l hS
    simp only [zoct] at hk
    rw [e, nI_clamp (by omega), g1, zlt0, Int32.lt_iff_toInt_lt, nI_toInt (by omega)]
    refine ⟨fun q => ?_, fun q => ⟨by rw [zn_1119]; exact vp_in_nI (by omega) (by omega), fun q2 => ?_, fun q2 => ?_⟩⟩
    · rw [if_neg (by omega)] at hk; exact hk
    · obtain ⟨m, rfl, m1, m2⟩ := zvn (x := i) (a := 0) (b := l.length) (by omega) (by omega) (by omega)
      rw [nI_toInt (by omega)] at q2
      rw [if_pos (by rw [nI_toInt (by omega)]; omega), nI_n (by omega)] at hk
      rw [z12k, nI_clamp (by omega), g3 m (by omega)]
      exact ⟨by rw [zn_1118]; exact vp_in_nI (by omega) (by omega), hk⟩
    · rw [if_neg (by omega)] at hk; exact hk
-- load
def zload (S : zSt') (t : List Int32) (s : Int32) : Int32 × List Int32 := match zlook S s with
  | some l => if l.length ≤ 6000 then (nI l.length, l) else (-4, t)
  | none => (-1, t)
theorem h_load {σ : zS} {K : zKt} {E : zEt} {S : zSt'} {t : List Int32} {s : Int32} (h : zHs σ S) (ht : zrw σ 11 t) (hk : ∀ τ, zfm (zrS 11) σ τ → zrw τ 11 (zload S t s).2 → K (some (.int (zload S t s).1)) τ) : X_House_load true [.ref 10, .int s] σ K E := by
  unfold zload at hk
  refine b_House_load (s_stream h (fun q => q0r ?_) (fun k l _ _ _ q r => qkr ⟨r.1, ?_⟩))
  · rw [q] at hk; exact hk σ (zfm.refl _ _) ht
  · rw [q] at hk
    have hl := r.len
    simp only at hk
    rw [r.2.2.1, show (6000 : Int32) = nI 6000 from rfl, nI_leI (by omega) (by omega)]
    refine ⟨fun q2 => ?_, fun q2 => ?_⟩
    · rw [if_pos q2] at hk
      refine s_Row_copy ht r (by rw [zn_12]; exact q2) fun τ f r2 => ?_
      show K (some (.int (zI τ 11 1))) τ
      rw [r2.2.2.1]
      exact hk τ f r2
    · rw [if_neg q2] at hk
      exact hk σ (zfm.refl _ _) ht
theorem zbv_B {r : Nat} {x : Int32} (h : zK r = 101) (hx : zby x) : zbv r x = x := by
  unfold zbv
  rw [if_neg (by omega), znar]
  exact zib_by hx
theorem zby_get {l : List Int32} (h : ∀ x ∈ l, zby x) {i : Nat} (hi : i < l.length) : zby (l.getD i 0) := by
  rw [List.getD_eq_getElem?_getD, List.getElem?_eq_getElem hi]
  exact h _ (List.getElem_mem _)
theorem m_load {σ : zS} {K : zKt} {E : zEt} {S : zSt'} {t : List Int32} {s : Int32} (h : zMs σ S) (ht : zMt σ t) (hk : ∀ τ, zfm zmS σ τ → zMt τ (zload S t s).2 → K (some (.int (zload S t s).1)) τ) : X_Model_load true [.ref 1116, .int s] σ K E := by
  unfold zload at hk
  refine b_Model_load ?_
  rintro σ1 rfl
  have h1 := h.fm (zcS_w σ) (by omega)
  have ht1 := zcode ht
  have f1 : zfm zmS σ (zwI σ 1116 0 0) := (zfm.refl _ σ).wI (by omega)
  generalize zwI σ 1116 0 0 = σ1 at h1 ht1 f1
  refine s_noStream h1 (fun q => q1e ?_) (fun k l hk1 e hS q => q0e ?_)
  · rw [q] at hk; exact hk σ1 f1 ht1
  · rw [q] at hk
    obtain ⟨g1, g2, g3, g4⟩ := (h1 k hk1).2 l hS
    simp only at hk
    rw [e, nI_clamp (by omega), g1, show (6000 : Int32) = nI 6000 from rfl, nI_leI (by omega) (by omega)]
    refine ⟨by rw [zn_1119]; exact vp_in_nI (by omega) (by omega), fun q2 => ⟨by rw [zn_1119]; exact vp_in_nI (by omega) (by omega), ?_⟩, fun q2 => ?_⟩
    · rw [if_pos q2] at hk
      rintro σ5 rfl
      have key : ∀ j i τ, i + j = l.length → zfm zmS σ τ → zI τ 1116 2 = nI l.length → zar τ 1117 (l.take i) → L_Model_load_42 1116 (nI (k + 1)) (nI i) τ K E := by
        intro j
        induction j with
        | zero =>
          intro i τ hj hf hz hr
          refine b_Model_load_42 ?_
          rw [hz]
          refine ⟨fun _ => ?_, fun q => absurd (nI_le (by omega) (by omega)) q⟩
          rw [List.take_of_length_le (by omega)] at hr
          exact hk τ hf ⟨hz, q2, hr⟩
        | succ j ih =>
          intro i τ hj hf hz hr
          refine b_Model_load_42 ?_
          rw [hz]
          refine ⟨fun q => absurd q (nI_ge (by omega) (by omega)), fun _ => ?_⟩
          have e5 : zI τ 1118 (12000 * (k + 1) + i) = l.getD i 0 := by
            rw [hf.I _ _ (by omega), ← f1.I _ _ (by omega), g3 i (by omega)]
          rw [z12k, nI_clamp (by omega), nI_clamp (by omega), e5, zbv_B zk_1117 (zby_get g4 (by omega))]
          refine ⟨by rw [zn_1118]; exact vp_in_nI (by omega) (by omega), by rw [zn_1117]; exact vp_in_nI (by omega) (by omega), ?_⟩
          rintro σ8 rfl
          rw [nI_1]
          refine ih (i + 1) _ (by omega) (hf.wI (Or.inr rfl)) (by simp [zIwI]; exact hz) ?_
          rw [List.take_succ_eq_append_getElem (by omega), show l[i] = l.getD i 0 from by rw [List.getD_eq_getElem?_getD, List.getElem?_eq_getElem (by omega)]; rfl]
          have e6 : (l.take i).length = i := by simp; omega
          exact hr.push (τ := zwI τ 1117 i (l.getD i 0)) (v := l.getD i 0) (fun q hq => by rw [e6] at hq; simp [zIwI, show q ≠ i by omega]) (by rw [e6]; simp [zIwI])
      refine key l.length 0 _ (by omega) (f1.wI (by omega)) (by simp [zIwI]) ?_
      intro i hi
      simp at hi
    · rw [if_neg q2] at hk
      exact hk σ1 f1 ht1
-- drop
def zclr (S : zSt') (n : Nat) : zSt' := fun k => if k = n then none else S k
def zdrop (S : zSt') (s : Int32) : Int32 × zSt' := match zlook S s with
  | some l => (nI l.length, zclr S (s.toInt.toNat - 1))
  | none => (-1, S)
theorem zbv_z {r : Nat} (h : zK r = 103) (b : Bool) : zbv r (zBo b) = zBo b := by
  unfold zbv
  rw [if_pos h]
  cases b <;> decide
theorem h_drop {σ : zS} {K : zKt} {E : zEt} {S : zSt'} {s : Int32} (h : zHs σ S) (hk : ∀ τ, zfm (fun r _ => r = 14) σ τ → zHs τ (zdrop S s).2 → K (some (.int (zdrop S s).1)) τ) : X_House_drop true [.ref 10, .int s] σ K E := by
  unfold zdrop at hk
  refine b_House_drop (s_stream h (fun q => q0r ?_) (fun k l hk1 e hS q r => qkr ?_))
  · rw [q] at hk; exact hk σ (zfm.refl _ _) h
  · rw [q] at hk
    simp only at hk
    rw [e, nI_n (by omega)] at hk
    rw [e, nI_pred, nI_clamp (by omega)]
    refine ⟨by rw [zn_14]; exact vp_in_nI (by omega) (by omega), ?_⟩
    rintro σ4 rfl
    have e3 : zbv 14 0 = 0 := zbv_z zk_14 false
    rw [e3]
    have f : zfm (fun r _ => r = 14) σ (zwI σ 14 k 0) := (zfm.refl _ σ).wI rfl
    refine ⟨r.1, ?_⟩
    rw [f.I _ _ (by omega), r.2.2.1]
    refine hk _ f fun j hj => ?_
    obtain ⟨a, b, m, c, d⟩ := h j hj
    refine ⟨a, ?_, m, c.fm f (by omega) (by omega), fun m2 hm => ?_⟩
    · by_cases q : j = k
      · simp [zIwI, q, zclr, zBo]
      · simp [zIwI, q, zclr, b]
    · unfold zclr at hm
      by_cases q : j = k
      · simp [q] at hm
      · simp [q] at hm; exact d m2 hm
theorem m_drop {σ : zS} {K : zKt} {E : zEt} {S : zSt'} {s : Int32} (h : zMs σ S) (hk : ∀ τ, zfm (fun r i => (r = 1116 ∧ i = 0) ∨ r = 1120) σ τ → zMs τ (zdrop S s).2 → K (some (.int (zdrop S s).1)) τ) : X_Model_drop true [.ref 1116, .int s] σ K E := by
  unfold zdrop at hk
  refine b_Model_drop ?_
  rintro σ1 rfl
  have h1 := h.fm (zcS_w σ) (by omega)
  have f1 : zfm (fun r i => (r = 1116 ∧ i = 0) ∨ r = 1120) σ (zwI σ 1116 0 0) := (zfm.refl _ σ).wI (by omega)
  generalize zwI σ 1116 0 0 = σ1 at h1 f1
  refine s_noStream h1 (fun q => q1e ?_) (fun k l hk1 e hS q => q0e ?_)
  · rw [q] at hk; exact hk σ1 f1 h1
  · rw [q] at hk
    simp only at hk
    rw [e, nI_n (by omega)] at hk
    rw [e, nI_clamp (by omega)]
    refine ⟨by rw [zn_1120]; exact vp_in_nI (by omega) (by omega), ?_⟩
    rintro σ5 rfl
    have e3 : zbv 1120 0 = 0 := zbv_z zk_1120 false
    rw [e3]
    refine ⟨by rw [zn_1119]; exact vp_in_nI (by omega) (by omega), ?_⟩
    rw [show zI (zwI σ1 1120 (k + 1) 0) 1119 (k + 1) = nI l.length from by simp [zIwI]; exact ((h1 k hk1).2 l hS).1]
    refine hk _ (f1.wI (Or.inr rfl)) fun j hj => ?_
    obtain ⟨a, b⟩ := h1 j hj
    refine ⟨?_, fun m hm => ?_⟩
    · by_cases q : j = k
      · simp [zIwI, q, zclr, zBo]
      · simp [zIwI, q, zclr, a]
    · unfold zclr at hm
      by_cases q : j = k
      · simp [q] at hm
      · simp [q] at hm
        obtain ⟨c1, c2, c3, c4⟩ := b m hm
        exact ⟨by simp [zIwI]; exact c1, c2, fun i hi => by simp [zIwI]; exact c3 i hi, c4⟩
-- differ
def zcp : List Int32 → List Int32 → Nat
  | x :: l, y :: m => if x = y then zcp l m + 1 else 0
  | _, _ => 0
def zdfr (l m : List Int32) : Int32 := if zcp l m = l.length ∧ zcp l m = m.length then -1 else nI (zcp l m)
theorem zcp_le : ∀ (l m : List Int32), zcp l m ≤ l.length ∧ zcp l m ≤ m.length
  | [], m => by simp [zcp]
  | x :: l, [] => by simp [zcp]
  | x :: l, y :: m => by
    have := zcp_le l m
    unfold zcp
    split <;> simp <;> omega
theorem zdr_c {l : List Int32} {i : Nat} (h : i < l.length) : l.drop i = l.getD i 0 :: l.drop (i + 1) := by
  rw [List.drop_eq_getElem_cons h, List.getD_eq_getElem?_getD, List.getElem?_eq_getElem h]; rfl
theorem zcp_s {l m : List Int32} {i : Nat} (h1 : i < l.length) (h2 : i < m.length) : zcp (l.drop i) (m.drop i) = if l.getD i 0 = m.getD i 0 then zcp (l.drop (i + 1)) (m.drop (i + 1)) + 1 else 0 := by
  rw [zdr_c h1, zdr_c h2]; rfl
theorem zcp_e {l m : List Int32} {i : Nat} (h : l.length ≤ i ∨ m.length ≤ i) : zcp (l.drop i) (m.drop i) = 0 := by
  rcases h with h | h
  · rw [List.drop_eq_nil_of_le h]; rfl
  · rw [List.drop_eq_nil_of_le h]; cases l.drop i <;> rfl
theorem zbeq {x y : Int32} (hx : zby x) (hy : zby y) : (x &&& 255 = y &&& 255) ↔ x = y := by
  refine ⟨fun h => ?_, fun h => by rw [h]⟩
  have := congrArg zib h
  rw [zib_m, zib_m, zib_by hx, zib_by hy] at this
  exact this
def zdifS (S : zSt') (s t : Int32) : Int32 := match zlook S s, zlook S t with
  | some l, some m => zdfr l m
  | _, _ => -1
theorem s_min {σ : zS} {K : zKt} {E : zEt} {a b : Nat} (ha : a < 2 ^ 31) (hb : b < 2 ^ 31) (hk : K (some (.int (nI (min a b)))) σ) : X_Math_min0 true [.int (nI a), .int (nI b)] σ K E := by
  refine b_Math_min0 ?_
  rw [nI_ltI hb ha]
  refine ⟨fun q => ?_, fun q => ?_⟩
  · rw [Nat.min_eq_right (by omega)] at hk; exact hk
  · rw [Nat.min_eq_left (by omega)] at hk; exact hk
theorem h_differ {σ : zS} {K : zKt} {E : zEt} {S : zSt'} {s t : Int32} (h : zHs σ S) (hk : K (some (.int (zdifS S s t))) σ) : X_House_differ true [.ref 10, .int s, .int t] σ K E := by
  unfold zdifS at hk
  refine b_House_differ (s_stream h (fun q => ?_) (fun k l _ _ _ q r => ?_))
  · rw [q] at hk
    exact s_stream h (fun _ => q0s hk) (fun _ _ _ _ _ _ _ => q0s hk)
  · rw [q] at hk
    refine s_stream h (fun q2 => qks (q0r ?_)) (fun k2 m _ _ _ q2 r2 => qks (qkr ⟨r.1, r2.1, ?_⟩))
    · rw [q2] at hk; exact hk
    · rw [q2] at hk
      simp only [zdfr] at hk
      have l1 := r.len
      have l2 := r2.len
      rw [r.2.2.1, r2.2.2.1]
      refine s_min (by omega) (by omega) ?_
      have hle := zcp_le l m
      have fin : L_House_differ_70 (1092 + 2 * k) (1092 + 2 * k2) (nI (min l.length m.length)) (nI (zcp l m)) σ K E := by
        refine b_House_differ_70 ?_
        rw [r.2.2.1, r2.2.2.1, nI_eq (by omega) (by omega), nI_eq (by omega) (by omega)]
        refine ⟨fun q => ?_, fun q => ⟨r.1, r2.1, fun q3 => ?_, fun q3 => ?_⟩⟩
        · rw [if_neg (by omega)] at hk; exact hk
        · rw [if_neg (by omega)] at hk; exact hk
        · rw [if_pos (by omega)] at hk; exact hk
      have key : ∀ j i, i + j = min l.length m.length → zcp l m = i + zcp (l.drop i) (m.drop i) → L_House_differ_41 (1092 + 2 * k) (1092 + 2 * k2) (nI (min l.length m.length)) (nI i) σ K E := by
        intro j
        induction j with
        | zero =>
          intro i hj he
          rw [zcp_e (by omega)] at he
          refine b_House_differ_41 ⟨fun _ => ?_, fun q => absurd (nI_le (by omega) (by omega)) q⟩
          rw [show i = zcp l m by omega]; exact fin
        | succ j ih =>
          intro i hj he
          refine b_House_differ_41 ⟨fun q => absurd q (nI_ge (by omega) (by omega)), fun _ => ⟨r.1, s_Row_get r (by omega) ⟨r2.1, s_Row_get r2 (by omega) ?_⟩⟩⟩
          show (¬ (zgt l i = zgt m i) → _) ∧ ((zgt l i = zgt m i) → _)
          rw [zbeq (zby_get r.2.2.2.2 (by omega)) (zby_get r2.2.2.2.2 (by omega)), nI_1]
          rw [zcp_s (by omega) (by omega)] at he
          refine ⟨fun q => ?_, fun q => ?_⟩
          · rw [if_neg q] at he
            rw [show i = zcp l m by omega]; exact fin
          · rw [if_pos q] at he
            exact ih (i + 1) (by omega) (by omega)
      exact key (min l.length m.length) 0 (by omega) (by simp)
theorem m_differ {σ : zS} {K : zKt} {E : zEt} {S : zSt'} {s t : Int32} (h : zMs σ S) (hk : ∀ τ, zfm zcS σ τ → K (some (.int (zdifS S s t))) τ) : X_Model_differ true [.ref 1116, .int s, .int t] σ K E := by
  unfold zdifS at hk
  refine b_Model_differ ?_
  rintro σ1 rfl
  replace hk := hk _ (zcS_w σ)
  have h1 := h.fm (zcS_w σ) (by omega)
  generalize zwI σ 1116 0 0 = σ1 at h1 hk
  refine s_noStream h1 (fun q => q1n ?_) (fun k l hk1 e hS q => q0n (s_noStream h1 (fun q2 => q1e ?_) (fun k2 m hk2 e2 hS2 q2 => q0e ?_)))
  · rw [q] at hk; exact hk
  · rw [q, q2] at hk; exact hk
  · rw [q, q2] at hk
    obtain ⟨g1, g2, g3, g4⟩ := (h1 k hk1).2 l hS
    obtain ⟨p1, p2, p3, p4⟩ := (h1 k2 hk2).2 m hS2
    simp only [zdfr] at hk
    have hle := zcp_le l m
    subst e e2
    have fin : L_Model_differ_78 1116 (nI (k + 1)) (nI (k2 + 1)) (nI (zcp l m)) σ1 K E := by
      refine b_Model_differ_78 ?_
      rw [nI_clamp (by omega), nI_clamp (by omega), g1, p1, nI_eq (by omega) (by omega), nI_eq (by omega) (by omega)]
      refine ⟨by rw [zn_1119]; exact vp_in_nI (by omega) (by omega), fun q => ?_, fun q => ⟨by rw [zn_1119]; exact vp_in_nI (by omega) (by omega), fun q3 => ?_, fun q3 => ?_⟩⟩
      · rw [if_neg (by omega)] at hk; exact hk
      · rw [if_neg (by omega)] at hk; exact hk
      · rw [if_pos (by omega)] at hk; exact hk
    have key : ∀ j i, i + j = min l.length m.length → zcp l m = i + zcp (l.drop i) (m.drop i) → L_Model_differ_25 1116 (nI (k + 1)) (nI (k2 + 1)) (nI i) σ1 K E := by
      intro j
      induction j with
      | zero =>
        intro i hj he
        rw [zcp_e (by omega)] at he
        have fin2 : L_Model_differ_78 1116 (nI (k + 1)) (nI (k2 + 1)) (nI i) σ1 K E := by rw [show i = zcp l m by omega]; exact fin
        refine b_Model_differ_25 ?_
        rw [nI_clamp (by omega), nI_clamp (by omega), g1, p1, nI_leI (by omega) (by omega), nI_leI (by omega) (by omega)]
        exact ⟨by rw [zn_1119]; exact vp_in_nI (by omega) (by omega), fun _ => fin2, fun q => ⟨by rw [zn_1119]; exact vp_in_nI (by omega) (by omega), fun _ => fin2, fun q2 => by omega⟩⟩
      | succ j ih =>
        intro i hj he
        refine b_Model_differ_25 ?_
        rw [nI_clamp (show k + 1 < 2 ^ 31 by omega), nI_clamp (show k2 + 1 < 2 ^ 31 by omega), g1, p1, nI_leI (by omega) (by omega), nI_leI (by omega) (by omega), z12k, z12k, nI_clamp (by omega), nI_clamp (by omega), g3 i (by omega), p3 i (by omega), nI_1]
        rw [zcp_s (by omega) (by omega)] at he
        refine ⟨by rw [zn_1119]; exact vp_in_nI (by omega) (by omega), fun q => by omega, fun q => ⟨by rw [zn_1119]; exact vp_in_nI (by omega) (by omega), fun q2 => by omega, fun q2 => ⟨by rw [zn_1118]; exact vp_in_nI (by omega) (by omega), by rw [zn_1118]; exact vp_in_nI (by omega) (by omega), fun q3 => ?_, fun q3 => ?_⟩⟩⟩
        · rw [if_neg q3] at he
          rw [show i = zcp l m by omega]; exact fin
        · rw [if_pos q3] at he
          exact ih (i + 1) (by omega) (by omega)
    exact key (min l.length m.length) 0 (by omega) (by simp)
-- the first that is free
def zspare (S : zSt') : Option Nat := (List.range 12).find? (fun k => (S k).isNone)
def zspG (S : zSt') : Nat → Nat → Option Nat
  | 0, _ => none
  | n + 1, k => if (S k).isNone then some k else zspG S n (k + 1)
theorem zspG_i {S : zSt'} : ∀ {n k j : Nat}, zspG S n k = some j → k ≤ j ∧ j < k + n ∧ S j = none
  | 0, k, j, h => by cases h
  | n + 1, k, j, h => by
    unfold zspG at h
    split at h
    · cases h; exact ⟨Nat.le_refl _, by omega, by rwa [Option.isNone_iff_eq_none] at *⟩
    · have := zspG_i h
      exact ⟨by omega, by omega, this.2.2⟩
theorem s_spare {σ : zS} {K : zKt} {E : zEt} {S : zSt'} (h : zHs σ S) (hn : zspG S 12 0 = none → K (some (.int (-1))) σ) (hs : ∀ k, zspG S 12 0 = some k → k < 12 → S k = none → K (some (.int (nI k))) σ) : X_House_spare true [.ref 10] σ K E := by
  have key : ∀ n k, k + n = 12 → zspG S n k = zspG S 12 0 → L_House_spare_2 10 (nI k) σ K E := by
    intro n
    induction n with
    | zero =>
      intro k hk he
      have : k = 12 := by omega
      subst this
      exact b_House_spare_2 ⟨fun _ => ⟨fun q => absurd rfl q, fun _ => hn he.symm⟩, fun q => absurd (by decide) q⟩
    | succ n ih =>
      intro k hk he
      obtain ⟨a, b, -⟩ := h k (by omega)
      refine b_House_spare_2 ⟨fun q => absurd q (nI_ge (b := 12) (by omega) (by decide)), fun _ => ⟨by rw [zn_14]; exact vp_in_nI (by omega) (by omega), ?_⟩⟩
      rw [nI_clamp (by omega), b, nI_1]
      unfold zspG at he
      cases hS : S k with
      | none =>
        rw [hS] at he
        refine q0e ⟨fun _ => hs k he.symm (by omega) hS, fun q => ?_⟩
        exact absurd ((nI_eq (b := 12) (by omega) (by decide)).mp q) (by omega)
      | some m =>
        rw [hS] at he
        exact q1e (ih (k + 1) (by omega) he)
  exact b_House_spare (key 12 0 (by omega) rfl)
theorem s_freeStream {σ : zS} {K : zKt} {E : zEt} {S : zSt'} (h : zMs σ S) (hn : zspG S 12 0 = none → K (some (.int (-4))) σ) (hs : ∀ k, zspG S 12 0 = some k → k < 12 → S k = none → K (some (.int (nI (k + 1)))) σ) : X_Model_freeStream true [.ref 1116] σ K E := by
  have key : ∀ n k, k + n = 12 → zspG S n k = zspG S 12 0 → L_Model_freeStream_2 1116 (nI (k + 1)) σ K E := by
    intro n
    induction n with
    | zero =>
      intro k hk he
      have : k = 12 := by omega
      subst this
      exact b_Model_freeStream_2 ⟨fun _ => ⟨fun _ => hn he.symm, fun q => absurd (by decide) q⟩, fun q => absurd (by decide) q⟩
    | succ n ih =>
      intro k hk he
      obtain ⟨a, b⟩ := h k (by omega)
      have n13 : ¬ (13 : Int32) ≤ nI (k + 1) := nI_ge (b := 13) (by omega) (by decide)
      refine b_Model_freeStream_2 ⟨fun q => absurd q n13, fun _ => ⟨by rw [zn_1120]; exact vp_in_nI (by omega) (by omega), ?_⟩⟩
      rw [nI_clamp (by omega), a, nI_1]
      unfold zspG at he
      cases hS : S k with
      | none =>
        rw [hS] at he
        exact q0e ⟨fun q => absurd q n13, fun _ => hs k he.symm (by omega) hS⟩
      | some m =>
        rw [hS] at he
        exact q1e (ih (k + 1) (by omega) he)
  exact b_Model_freeStream (key 12 0 (by omega) rfl)
def zput (S : zSt') (n : Nat) (l : List Int32) : zSt' := fun k => if k = n then some l else S k
abbrev zHsS : Nat → Nat → Prop := fun r _ => r = 14 ∨ (1092 ≤ r ∧ r < 1116)
theorem s_keep {σ : zS} {K : zKt} {E : zEt} {S : zSt'} {k a : Nat} {l : List Int32} (h : zHs σ S) (hk : k < 12) (hl : zrw σ a l) (hc : l.length ≤ 12000) (ha : a < 1092 ∨ 1116 ≤ a) (hK : ∀ τ, zfm zHsS σ τ → zHs τ (zput S k l) → K (some (.int (nI (k + 1)))) τ) : X_House_keep true [.ref 10, .int (nI k), .ref a] σ K E := by
  have a14 : a ≠ 14 ∧ a + 1 ≠ 14 ∧ a + 1 ≠ 1092 := by
    refine ⟨fun q => ?_, fun q => ?_, fun q => ?_⟩
    · have := hl.1; rw [q, zk_14] at this; cases this
    · have := (zrow_k hl.1).1; rw [q, zk_14] at this; cases this
    · have := (zrow_k hl.1).1
      rw [q, show zK 1092 = 2 from by decide +kernel] at this; cases this
  refine b_House_keep ?_
  rw [nI_clamp (by omega)]
  refine ⟨by rw [zn_14]; exact vp_in_nI hk (by omega), ?_⟩
  rintro σ1 rfl
  have e3 : zbv 14 1 = 1 := zbv_z zk_14 true
  rw [e3]
  have f : zfm zHsS σ (zwI σ 14 k 1) := (zfm.refl _ σ).wI (Or.inl rfl)
  obtain ⟨b1, b2, m, b3, b4⟩ := h k hk
  have er : zR (zwI σ 14 k 1) 13 k = 1092 + 2 * k := b1
  rw [er]
  have hm : zrw (zwI σ 14 k 1) (1092 + 2 * k) m := b3.fm ((zfm.refl (fun r _ => r = 14) σ).wI rfl) (by omega) (by omega)
  have hl1 : zrw (zwI σ 14 k 1) a l := hl.fm ((zfm.refl (fun r _ => r = 14) σ).wI rfl) (by omega) (by omega)
  have hN : zN (1092 + 2 * k + 1) = 12000 := by
    have : ∀ k, k < 12 → zN (1092 + 2 * k + 1) = 12000 := by decide +kernel
    exact this k hk
  refine ⟨by rw [zn_13]; exact vp_in_nI hk (by omega), hm.1, s_Row_copy hm hl1 (by rw [hN]; exact hc) fun τ g r => ?_⟩
  show K (some (.int (nI k + 1))) τ
  rw [nI_1]
  refine hK τ (f.trans (g.mono fun r i q => by omega)) fun j hj => ?_
  obtain ⟨d1, d2, m2, d3, d4⟩ := h j hj
  refine ⟨by rw [g.R _ _ (by omega)]; exact d1, ?_, ?_⟩
  · rw [g.I _ _ (by omega)]
    by_cases q : j = k
    · simp [zIwI, q, zput, zBo]
    · simp [zIwI, q, zput, d2]
  · by_cases q : j = k
    · subst q
      exact ⟨l, r, fun m9 h9 => by simp [zput] at h9; exact h9.symm⟩
    · refine ⟨m2, (d3.fm ((zfm.refl (fun r _ => r = 14) σ).wI rfl) (by omega) (by omega)).fm g (by omega) (by omega), fun m9 h9 => ?_⟩
      simp [zput, q] at h9; exact d4 m9 h9
abbrev zMsS : Nat → Nat → Prop := fun r _ => r = 1118 ∨ r = 1119 ∨ r = 1120
theorem s_newStream {σ : zS} {K : zKt} {E : zEt} {S : zSt'} {k a p : Nat} {l : List Int32} (h : zMs σ S) (hsp : zspG S 12 0 = some k) (hka : zK a = 101) (hN : zN a < 2 ^ 30) (ha : a ≠ 1118 ∧ a ≠ 1119 ∧ a ≠ 1120) (hr : ∀ i, i < l.length → zI σ a (p + i) = l.getD i 0) (hlN : p + l.length ≤ zN a) (hl : l.length ≤ 12000) (hby : ∀ x ∈ l, zby x)
    (hK : ∀ τ, zfm zMsS σ τ → zMs τ (zput S k l) → K (some (.int (nI (k + 1)))) τ) : X_Model_newStream true [.ref 1116, .ref a, .int (nI p), .int (nI l.length)] σ K E := by
  refine b_Model_newStream (s_freeStream h (fun q => by rw [hsp] at q; cases q) fun k2 q hk _ => ?_)
  have : k2 = k := by rw [hsp] at q; cases q; rfl
  subst this
  show vp_in (nI (k2 + 1)) (zN 1120) ∧ _
  rw [nI_clamp (by omega)]
  refine ⟨by rw [zn_1120]; exact vp_in_nI (by omega) (by omega), ?_⟩
  rintro σ4 rfl
  rw [show zbv 1120 1 = 1 from zbv_z zk_1120 true]
  refine ⟨by rw [zn_1119]; exact vp_in_nI (by omega) (by omega), ?_⟩
  rintro σ5 rfl
  have key : ∀ j i τ, i + j = l.length → zfm zMsS σ τ → (∀ q, q ≠ k2 + 1 → zI τ 1120 q = zI σ 1120 q ∧ zI τ 1119 q = zI σ 1119 q) → zI τ 1120 (k2 + 1) = 1 → zI τ 1119 (k2 + 1) = nI l.length → (∀ q, (∀ u, u < i → q ≠ 12000 * (k2 + 1) + u) → zI τ 1118 q = zI σ 1118 q) → (∀ u, u < i → zI τ 1118 (12000 * (k2 + 1) + u) = l.getD u 0) → L_Model_newStream_25 1116 a (nI p) (nI l.length) (nI (k2 + 1)) (nI i) τ K E := by
    intro j
    induction j with
    | zero =>
      intro i τ hj hf h1 h2 h3 h4 h5
      have : i = l.length := by omega
      subst this
      refine b_Model_newStream_25 ⟨fun _ => hK τ hf fun q hq => ?_, fun q => absurd (nI_le (Nat.le_refl _) (by omega)) q⟩
      obtain ⟨c1, c2⟩ := h q hq
      by_cases e : q = k2
      · subst e
        refine ⟨by rw [h2]; simp [zput, zBo], fun m hm => ?_⟩
        simp [zput] at hm
        subst hm
        exact ⟨h3, hl, h5, hby⟩
      · refine ⟨by rw [(h1 _ (by omega)).1]; simp [zput, e, c1], fun m hm => ?_⟩
        simp [zput, e] at hm
        obtain ⟨d1, d2, d3, d4⟩ := c2 m hm
        exact ⟨by rw [(h1 _ (by omega)).2]; exact d1, d2, fun i hi => by rw [h4 _ (by intro u hu; omega)]; exact d3 i hi, d4⟩
    | succ j ih =>
      intro i τ hj hf h1 h2 h3 h4 h5
      have e5 : zI τ a (p + i) = l.getD i 0 := by rw [hf.I _ _ (by omega)]; exact hr i (by omega)
      refine b_Model_newStream_25 ⟨fun q => absurd q (nI_ge (by omega) (by omega)), fun _ => ?_⟩
      rw [z12k, nI_add, nI_clamp (by omega), nI_clamp (by omega), e5, zbv_B (by decide +kernel) (zby_get hby (by omega)), nI_1]
      refine ⟨hka, vp_in_nI (by omega) (by omega), by rw [zn_1118]; exact vp_in_nI (by omega) (by omega), ?_⟩
      rintro σ6 rfl
      refine ih (i + 1) _ (by omega) (hf.wI (Or.inl rfl)) (fun q hq => by simp [zIwI]; exact h1 q hq) (by simp [zIwI]; exact h2) (by simp [zIwI]; exact h3) (fun q hq => ?_) (fun u hu => ?_)
      · have := hq i (by omega)
        simp [zIwI, this]
        exact h4 q fun u hu => hq u (by omega)
      · by_cases e : u = i
        · subst e; simp [zIwI]
        · simp [zIwI, e]; exact h5 u (by omega)
  refine key l.length 0 _ (by omega) (((zfm.refl _ σ).wI (Or.inr (Or.inr rfl))).wI (Or.inr (Or.inl rfl))) (fun q hq => by simp [zIwI, hq]) (by simp [zIwI, zBo]) (by simp [zIwI]) (fun q _ => by simp [zIwI]) (fun u hu => by omega)

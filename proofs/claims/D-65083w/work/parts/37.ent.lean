/-! PART 37: names and entries -/
abbrev zEn : Type := List Int32 × List Int32 × Int32 × Int32
/-- entries of the class in the object at b (199 or 281) -/
def zHe (σ : zS) (b : Nat) (es : List zEn) : Prop := zI σ b 1 = nI es.length ∧ es.length ≤ 16 ∧ ∀ k, k < 16 → zR σ (b + 1) k = b + 2 + 5 * k ∧ ∃ n t, zrw σ (b + 3 + 5 * k) n ∧ zrw σ (b + 5 + 5 * k) t ∧ ∀ e, es[k]? = some e → e.1 = n ∧ e.2.1 = t ∧ zI σ (b + 2 + 5 * k) 2 = e.2.2.1 ∧ zI σ (b + 2 + 5 * k) 3 = e.2.2.2
/-- entries of the reference: count, names, their sizes, modes, times, texts, their sizes -/
def zMeA (σ : zS) (rn rs rm rt rx ry : Nat) (es : List zEn) : Prop := ∀ k e, es[k]? = some e → (zI σ rs k = nI e.1.length ∧ 1 ≤ e.1.length ∧ e.1.length ≤ 100 ∧ (∀ i, i < e.1.length → zI σ rn (100 * k + i) = e.1.getD i 0) ∧ ∀ x ∈ e.1, zby x) ∧ zI σ rm k = e.2.2.1 ∧ zI σ rt k = e.2.2.2 ∧
  zI σ ry k = nI e.2.1.length ∧ e.2.1.length ≤ 6000 ∧ (∀ i, i < e.2.1.length → zI σ rx (6000 * k + i) = e.2.1.getD i 0) ∧ ∀ x ∈ e.2.1, zby x
def zMe' (σ : zS) (es : List zEn) : Prop := zI σ 1116 88 = nI es.length ∧ es.length ≤ 16 ∧ zMeA σ 1168 1169 1170 1171 1172 1173 es
theorem zHe.fm {σ τ : zS} {b : Nat} {es : List zEn} {P : Nat → Nat → Prop} (h : zHe σ b es) (hf : zfm P σ τ) (h1 : ∀ r i, b ≤ r ∧ r < b + 82 → ¬ P r i) : zHe τ b es := by
  refine ⟨by rw [hf.I _ _ (h1 _ _ (by omega))]; exact h.1, h.2.1, fun k hk => ?_⟩
  obtain ⟨a, n, t, c, d, e⟩ := h.2.2 k hk
  refine ⟨by rw [hf.R _ _ (h1 _ _ (by omega))]; exact a, n, t, c.fm hf (h1 _ _ (by omega)) (fun i => h1 _ _ (by omega)), d.fm hf (h1 _ _ (by omega)) (fun i => h1 _ _ (by omega)), fun u hu => ?_⟩
  obtain ⟨e1, e2, e3, e4⟩ := e u hu
  exact ⟨e1, e2, by rw [hf.I _ _ (h1 _ _ (by omega))]; exact e3, by rw [hf.I _ _ (h1 _ _ (by omega))]; exact e4⟩
theorem zMeA.fm {σ τ : zS} {rn rs rm rt rx ry : Nat} {es : List zEn} {P : Nat → Nat → Prop} (h : zMeA σ rn rs rm rt rx ry es) (hf : zfm P σ τ) (h1 : ∀ r i, r = rn ∨ r = rs ∨ r = rm ∨ r = rt ∨ r = rx ∨ r = ry → ¬ P r i) : zMeA τ rn rs rm rt rx ry es := by
  intro k e he
  obtain ⟨⟨a1, a2, a3, a4, a5⟩, b, c, d1, d2, d3, d4⟩ := h k e he
  have g := fun r i q => hf.I r i (h1 r i q)
  exact ⟨⟨by rw [g _ _ (by simp)]; exact a1, a2, a3, fun i hi => by rw [g _ _ (by simp)]; exact a4 i hi, a5⟩, by rw [g _ _ (by simp)]; exact b, by rw [g _ _ (by simp)]; exact c, by rw [g _ _ (by simp)]; exact d1, d2, fun i hi => by rw [g _ _ (by simp)]; exact d3 i hi, d4⟩
theorem zMe'.fm {σ τ : zS} {es : List zEn} {P : Nat → Nat → Prop} (h : zMe' σ es) (hf : zfm P σ τ) (h0 : ¬ P 1116 88) (h1 : ∀ r i, 1168 ≤ r ∧ r ≤ 1173 → ¬ P r i) : zMe' τ es :=
  ⟨by rw [hf.I _ _ h0]; exact h.1, h.2.1, h.2.2.fm hf fun r i q => h1 r i (by omega)⟩
/-- the name at hand -/
def zMh (σ : zS) (h : List Int32) : Prop := zI σ 1116 103 = nI h.length ∧ h.length ≤ 100 ∧ zar σ 1180 h
def znz (v : Int64) : Nat → Nat → Bool
  | 0, _ => true
  | n + 1, k => if zlr v (8 * nI k) &&& 255 = 0 then false else znz v n (k + 1)
def zname (h : List Int32) (v : Int64) (n : Int32) : Int32 × List Int32 := if n.toInt = 0 then (0, []) else if 1 ≤ n.toInt ∧ n.toInt ≤ 8 ∧ znz v n.toInt.toNat 0 = false then (-2, h) else zfeed 100 h v n
theorem zeq0 {x : Int32} : x = 0 ↔ x.toInt = 0 := ⟨fun q => by rw [q]; decide, fun q => Int32.toInt_inj.mp (by rw [q]; decide)⟩
theorem h_name {σ : zS} {K : zKt} {E : zEt} {h : List Int32} {v : Int64} {n : Int32} (hh : zrw σ 363 h) (hk : ∀ τ, zfm (zrS 363) σ τ → zrw τ 363 (zname h v n).2 → K (some (.int (zname h v n).1)) τ) : X_House_name true [.ref 10, .long v, .int n] σ K E := by
  have hl := hh.len
  unfold zname at hk
  refine b_House_name ?_
  rw [zeq0]
  refine ⟨fun q => ?_, fun q => ?_⟩
  · rw [if_neg q] at hk
    have e1 : (1 : Int64).toInt = 1 := by decide
    have e8 : (8 : Int64).toInt = 8 := by decide
    refine s_isIn (fun q2 => q0n ?_) (fun q1 q2 => q1n ?_)
    · rw [zto64, e1, e8] at q2
      rw [if_neg (by omega), zfeed, if_neg (by omega)] at hk
      exact hk σ (zfm.refl _ _) hh
    · rw [zto64, e1] at q1
      rw [zto64, e8] at q2
      obtain ⟨m, rfl, m1, m2⟩ := zvn (a := 1) (b := 8) q1 q2 (by decide)
      rw [nI_n (by omega)] at hk
      have key : ∀ j k, k + j = m → znz v j k = znz v m 0 → L_House_name_32 10 v (nI m) (nI k) σ K E := by
        intro j
        induction j with
        | zero =>
          intro k hj he
          refine b_House_name_32 ⟨fun _ => s_append (m := 100) hh (by rw [show zN (363 + 1) = 100 from by decide +kernel]; exact Nat.le_refl _) ?_, fun q => absurd (nI_le (by omega) (by omega)) q⟩
          rw [← he] at hk
          rw [if_neg (by simp [znz])] at hk
          exact hk
        | succ j ih =>
          intro k hj he
          refine b_House_name_32 ⟨fun q => absurd q (nI_ge (by omega) (by omega)), fun _ => ?_⟩
          rw [znz] at he
          rw [nI_1]
          refine ⟨fun q => ?_, fun q => ?_⟩
          · rw [if_neg q] at he
            exact ih (k + 1) (by omega) he
          · rw [if_pos q] at he
            rw [if_pos ⟨q1, q2, he.symm⟩] at hk
            exact hk σ (zfm.refl _ _) hh
      exact key m 0 (by omega) rfl
  · rw [if_pos q] at hk
    rintro σ5 rfl
    exact hk _ ((zfm.refl _ σ).wI (Or.inl ⟨rfl, rfl⟩)) (zrw_take (n := 0) hh (Nat.zero_le _))
abbrev zhS : Nat → Nat → Prop := fun r i => (r = 1116 ∧ (i = 0 ∨ i = 103)) ∨ r = 1180
theorem m_name {σ : zS} {K : zKt} {E : zEt} {h : List Int32} {v : Int64} {n : Int32} (hh : zMh σ h) (hk : ∀ τ, zfm zhS σ τ → zMh τ (zname h v n).2 → K (some (.int (zname h v n).1)) τ) : X_Model_name true [.ref 1116, .long v, .int n] σ K E := by
  unfold zname at hk
  refine b_Model_name ?_
  rintro σ1 rfl
  have f1 : zfm zhS σ (zwI σ 1116 0 0) := (zfm.refl _ σ).wI (by omega)
  have h1 : zMh (zwI σ 1116 0 0) h := ⟨by simp [zIwI]; exact hh.1, hh.2.1, fun i hi => by simp [zIwI]; exact hh.2.2 i hi⟩
  generalize zwI σ 1116 0 0 = σ1 at h1 f1
  have hl := h1.2.1
  have e0 : (0 : Int32).toInt = 0 := by decide
  have e8 : (8 : Int32).toInt = 8 := by decide
  refine s_in (fun q => q0n ?_) (fun q1 q2 => q1n ?_)
  · rw [e0, e8] at q
    rw [if_neg (by omega), if_neg (by omega), zfeed, if_neg (by omega)] at hk
    exact hk σ1 f1 h1
  · rw [e0] at q1
    rw [e8] at q2
    rw [zeq0]
    refine ⟨fun q => ?_, fun q => ?_⟩
    · rw [if_neg q] at hk
      obtain ⟨m, rfl, m1, m2⟩ := zvn (x := n) (a := 1) (b := 8) (by omega) q2 (by decide)
      rw [nI_n (by omega)] at hk
      have feed : znz v m 0 = true → (((zI σ1 1116 103 + nI m) ≤ 100 → L_Model_name_82 1116 v (nI m - 1) σ1 K E) ∧ (¬ (zI σ1 1116 103 + nI m) ≤ 100 → K (some (.int (-4))) σ1)) := by
        intro hz
        rw [if_neg (by rw [hz]; simp), zfeed, if_pos (by rw [nI_toInt (by omega)]; omega), nI_n (by omega)] at hk
        have key : ∀ k τ w, k + w.length ≤ 8 → h.length + w.length + k ≤ 100 → zfm zhS σ τ → zMh τ (h ++ w) → (∀ υ, zfm zhS σ υ → zMh υ (h ++ (w ++ zhighL v k)) → K (some (.int (nI (h.length + (w.length + k))))) υ) → L_Model_name_82 1116 v (nI k + (-1)) τ K E := by
          intro k
          induction k with
          | zero =>
            intro τ w hj hj2 hf hr hm
            refine b_Model_name_82 ⟨fun _ => ?_, fun q => absurd (by decide) q⟩
            have := hm τ hf (by simpa [zhighL] using hr)
            rw [hr.1, List.length_append]
            exact this
          | succ k ih =>
            intro τ w hj hj2 hf hr hm
            rw [nI_m1]
            refine b_Model_name_82 ⟨fun q => absurd q (nI_pos (by omega)), fun _ => ?_⟩
            rw [hr.1, nI_clamp (by simp; omega)]
            refine ⟨by rw [zn_1180]; exact vp_in_nI (by simp; omega) (by omega), ?_⟩
            rintro σ7 rfl σ8 rfl
            rw [zbv_b zk_1180]
            refine ih _ (w ++ [zbt v k]) (by simp; omega) (by simp; omega) ((hf.wI (Or.inr rfl)).wI (by omega)) ⟨?_, by simp; omega, ?_⟩ ?_
            · simp [zIwI, hr.1, nI_1]; congr 1
            · rw [← List.append_assoc]
              refine hr.2.2.push (fun i hi => ?_) ?_
              · simp only [List.length_append] at hi
                simp [zIwI, show i ≠ h.length + w.length by omega]
              · simp [zIwI, zbt]
            · intro υ u1 u2
              rw [List.append_assoc] at u2
              have := hm υ u1 u2
              simp only [List.length_append, List.length_singleton] at this ⊢
              rw [show w.length + 1 + k = w.length + (k + 1) by omega]
              exact this
        rw [h1.1, nI_add, show (100 : Int32) = nI 100 from rfl, nI_leI (by omega) (by omega)]
        refine ⟨fun q => ?_, fun q => ?_⟩
        · rw [if_pos q] at hk
          rw [Int32.sub_eq_add_neg]
          refine key m σ1 [] (by simp; omega) (by simp; omega) f1 (by simpa using h1) fun υ u1 u2 => ?_
          simp only [List.nil_append, List.length_nil, Nat.zero_add] at u2 ⊢
          exact hk υ u1 u2
        · rw [if_neg q] at hk
          exact hk σ1 f1 h1
      have key : ∀ j k, k + j = m → znz v j k = znz v m 0 → L_Model_name_32 1116 v (nI m) (nI k) σ1 K E := by
        intro j
        induction j with
        | zero =>
          intro k hj he
          exact b_Model_name_32 ⟨fun _ => feed (by rw [← he]; rfl), fun q => absurd (nI_le (by omega) (by omega)) q⟩
        | succ j ih =>
          intro k hj he
          refine b_Model_name_32 ⟨fun q => absurd q (nI_ge (by omega) (by omega)), fun _ => ?_⟩
          rw [znz] at he
          rw [nI_1]
          refine ⟨fun q => ?_, fun q => ?_⟩
          · rw [if_neg q] at he
            exact ih (k + 1) (by omega) he
          · rw [if_pos q] at he
            rw [if_pos ⟨by rw [nI_toInt (by omega)]; omega, q2, he.symm⟩] at hk
            exact hk σ1 f1 h1
      exact key m 0 (by omega) rfl
    · rw [if_pos q] at hk
      rintro σ5 rfl
      exact hk _ (f1.wI (by omega)) ⟨by simp [zIwI]; rfl, by simp, fun i hi => by simp at hi⟩

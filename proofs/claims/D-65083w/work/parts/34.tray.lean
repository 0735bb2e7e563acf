/-! PART 34: the tray -/
section Q
variable {A B : Prop}
theorem q0n (h : B) : (¬ (0 : Int32) = 0 → A) ∧ ((0 : Int32) = 0 → B) := ⟨fun q => absurd rfl q, fun _ => h⟩
theorem q0e (h : A) : ((0 : Int32) = 0 → A) ∧ (¬ (0 : Int32) = 0 → B) := ⟨fun _ => h, fun q => absurd rfl q⟩
theorem q1n (h : A) : (¬ (1 : Int32) = 0 → A) ∧ ((1 : Int32) = 0 → B) := ⟨fun _ => h, fun q => absurd q (by decide)⟩
theorem q1e (h : B) : ((1 : Int32) = 0 → A) ∧ (¬ (1 : Int32) = 0 → B) := ⟨fun q => absurd q (by decide), fun _ => h⟩
end Q
theorem zvn {x : Int32} {a b : Nat} (h1 : (a : Int) ≤ x.toInt) (h2 : x.toInt ≤ b) (hb : b < 2 ^ 31) : ∃ n, x = nI n ∧ a ≤ n ∧ n ≤ b := by
  refine ⟨x.toInt.toNat, ?_, by omega, by omega⟩
  apply Int32.toInt_inj.mp
  rw [nI_toInt (by omega)]; omega
theorem zlt64 (x y : Int32) : x.toInt64 < y.toInt64 ↔ x.toInt < y.toInt := by rw [Int64.lt_iff_toInt_lt, Int32.toInt_toInt64, Int32.toInt_toInt64]
theorem zle64 (x y : Int32) : x.toInt64 ≤ y.toInt64 ↔ x.toInt ≤ y.toInt := by rw [Int64.le_iff_toInt_le, Int32.toInt_toInt64, Int32.toInt_toInt64]
theorem s_isIn {σ : zS} {K : zKt} {E : zEt} {a lo hi : Int64} (h1 : a.toInt < lo.toInt ∨ hi.toInt < a.toInt → K (some (.int 0)) σ) (h2 : lo.toInt ≤ a.toInt → a.toInt ≤ hi.toInt → K (some (.int 1)) σ) : X_House_isIn true [.long a, .long lo, .long hi] σ K E := by
  refine b_House_isIn ⟨fun q => h1 (Or.inl (Int64.lt_iff_toInt_lt.mp q)), fun q => ⟨fun q2 => h1 (Or.inr (Int64.lt_iff_toInt_lt.mp q2)), fun q2 => ?_⟩⟩
  rw [Int64.lt_iff_toInt_lt] at q q2
  exact h2 (by omega) (by omega)
theorem s_in {σ : zS} {K : zKt} {E : zEt} {a lo hi : Int32} (h1 : a.toInt < lo.toInt ∨ hi.toInt < a.toInt → K (some (.int 0)) σ) (h2 : lo.toInt ≤ a.toInt → a.toInt ≤ hi.toInt → K (some (.int 1)) σ) : X_Model_in true [.int a, .int lo, .int hi] σ K E := by
  refine b_Model_in ⟨fun q => h1 (Or.inl (Int32.lt_iff_toInt_lt.mp q)), fun q => ⟨fun q2 => h1 (Or.inr (Int32.lt_iff_toInt_lt.mp q2)), fun q2 => ?_⟩⟩
  rw [Int32.lt_iff_toInt_lt] at q q2
  exact h2 (by omega) (by omega)
theorem zto64 (x : Int32) : x.toInt64.toInt = x.toInt := Int32.toInt_toInt64 x
abbrev zmS : Nat → Nat → Prop := fun r i => (r = 1116 ∧ (i = 0 ∨ i = 2)) ∨ r = 1117
/-- the tray of the reference -/
def zMt (σ : zS) (t : List Int32) : Prop := zI σ 1116 2 = nI t.length ∧ t.length ≤ 6000 ∧ zar σ 1117 t
theorem zMt.fm {σ τ : zS} {t : List Int32} {S : Nat → Nat → Prop} (h : zMt σ t) (hf : zfm S σ τ) (h1 : ¬ S 1116 2) (h2 : ∀ i, ¬ S 1117 i) : zMt τ t :=
  ⟨by rw [hf.I _ _ h1]; exact h.1, h.2.1, h.2.2.fm hf fun i _ => h2 i⟩
def zfeed (m : Nat) (t : List Int32) (v : Int64) (n : Int32) : Int32 × List Int32 := if 1 ≤ n.toInt ∧ n.toInt ≤ 8 then (if t.length + n.toInt.toNat ≤ m then (nI (t.length + n.toInt.toNat), t ++ zhighL v n.toInt.toNat) else (-4, t)) else (-2, t)
theorem nI_n {n : Nat} (h : n < 2 ^ 31) : (nI n).toInt.toNat = n := by rw [nI_toInt h]; rfl
theorem s_append {σ : zS} {K : zKt} {E : zEt} {a m : Nat} {t : List Int32} {v : Int64} {n : Int32} (h : zrw σ a t) (hm : m ≤ zN (a + 1)) (hk : ∀ τ, zfm (zrS a) σ τ → zrw τ a (zfeed m t v n).2 → K (some (.int (zfeed m t v n).1)) τ) : X_House_append true [.ref a, .long v, .int n, .int (nI m)] σ K E := by
  have k0 := zrow_k h.1
  have hl := h.len
  unfold zfeed at hk
  refine b_House_append (s_isIn (fun q => q0n ?_) (fun q1 q2 => q1n ⟨h.1, ?_⟩))
  · rw [zto64] at q
    have e1 : (1 : Int64).toInt = 1 := by decide
    have e8 : (8 : Int64).toInt = 8 := by decide
    rw [e1, e8] at q
    rw [if_neg (by omega)] at hk
    exact hk σ (zfm.refl _ _) h
  · rw [zto64] at q1 q2
    have e1 : (1 : Int64).toInt = 1 := by decide
    have e8 : (8 : Int64).toInt = 8 := by decide
    rw [e1] at q1
    rw [e8] at q2
    obtain ⟨k, rfl, k1, k2⟩ := zvn (a := 1) (b := 8) q1 q2 (by decide)
    rw [if_pos ⟨q1, q2⟩, nI_n (by omega)] at hk
    rw [h.2.2.1, nI_add, nI_leI (by omega) (by omega)]
    refine ⟨fun q => ?_, fun q => ?_⟩
    · rw [if_pos q] at hk
      refine s_Row_high h (by omega) fun τ f r => ?_
      show K (some (.int (zI τ a 1))) τ
      rw [r.2.2.1, List.length_append, zhighL_len]
      exact hk τ f r
    · rw [if_neg q] at hk
      exact hk σ (zfm.refl _ _) h
theorem h_feed {σ : zS} {K : zKt} {E : zEt} {t : List Int32} {v : Int64} {n : Int32} (h : zrw σ 11 t) (hk : ∀ τ, zfm (zrS 11) σ τ → zrw τ 11 (zfeed 6000 t v n).2 → K (some (.int (zfeed 6000 t v n).1)) τ) : X_House_feed true [.ref 10, .long v, .int n] σ K E :=
  b_House_feed (s_append (m := 6000) h (by rw [zn_12]; exact Nat.le_refl _) hk)
theorem zcode {σ : zS} {t : List Int32} (h : zMt σ t) : zMt (zwI σ 1116 0 0) t := h.fm ((zfm.refl (fun r i => r = 1116 ∧ i = 0) σ).wI ⟨rfl, rfl⟩) (by omega) (by omega)
theorem m_feed {σ : zS} {K : zKt} {E : zEt} {t : List Int32} {v : Int64} {n : Int32} (h : zMt σ t) (hk : ∀ τ, zfm zmS σ τ → zMt τ (zfeed 6000 t v n).2 → K (some (.int (zfeed 6000 t v n).1)) τ) : X_Model_feed true [.ref 1116, .long v, .int n] σ K E := by
  unfold zfeed at hk
  refine b_Model_feed ?_
  rintro σ1 rfl
  have h1 := zcode h
  have f1 : zfm zmS σ (zwI σ 1116 0 0) := (zfm.refl _ σ).wI (by omega)
  generalize zwI σ 1116 0 0 = σ1 at h1 f1
  have e1 : (1 : Int32).toInt = 1 := by decide
  have e8 : (8 : Int32).toInt = 8 := by decide
  refine s_in (fun q => q0n ?_) (fun q1 q2 => q1n ?_)
  · rw [e1, e8] at q
    rw [if_neg (by omega)] at hk
    exact hk σ1 f1 h1
  · rw [e1] at q1
    rw [e8] at q2
    obtain ⟨k, rfl, k1, k2⟩ := zvn (a := 1) (b := 8) q1 q2 (by decide)
    rw [if_pos ⟨q1, q2⟩, nI_n (by omega)] at hk
    have hl := h1.2.1
    have key : ∀ k τ m, k + m.length ≤ 8 → t.length + m.length + k ≤ 6000 → zfm zmS σ τ → zMt τ (t ++ m) → (∀ υ, zfm zmS σ υ → zMt υ (t ++ (m ++ zhighL v k)) → K (some (.int (nI (t.length + (m.length + k))))) υ) → L_Model_feed_38 1116 v (nI k + (-1)) τ K E := by
      intro k
      induction k with
      | zero =>
        intro τ m hj hj2 hf hr hm
        refine b_Model_feed_38 ⟨fun _ => ?_, fun q => absurd (by decide) q⟩
        have := hm τ hf (by simpa [zhighL] using hr)
        rw [hr.1, List.length_append]
        exact this
      | succ k ih =>
        intro τ m hj hj2 hf hr hm
        rw [nI_m1]
        refine b_Model_feed_38 ⟨fun q => absurd q (nI_pos (by omega)), fun _ => ?_⟩
        rw [hr.1, nI_clamp (by simp; omega)]
        refine ⟨by rw [zn_1117]; exact vp_in_nI (by simp; omega) (by omega), ?_⟩
        rintro σ7 rfl σ8 rfl
        rw [zbv_b zk_1117]
        refine ih _ (m ++ [zbt v k]) (by simp; omega) (by simp; omega) ((hf.wI (Or.inr rfl)).wI (by omega)) ⟨?_, by simp; omega, ?_⟩ ?_
        · simp [zIwI, hr.1, nI_1]; congr 1
        · rw [← List.append_assoc]
          refine hr.2.2.push (fun i hi => ?_) ?_
          · simp only [List.length_append] at hi
            simp [zIwI, show i ≠ t.length + m.length by omega]
          · simp [zIwI, zbt]
        · intro υ u1 u2
          rw [List.append_assoc] at u2
          have := hm υ u1 u2
          simp only [List.length_append, List.length_singleton] at this ⊢
          rw [show m.length + 1 + k = m.length + (k + 1) by omega]
          exact this
    rw [h1.1, nI_add, show (6000 : Int32) = nI 6000 from rfl, nI_leI (by omega) (by omega)]
    refine ⟨fun q => ?_, fun q => ?_⟩
    · rw [if_pos q] at hk
      rw [Int32.sub_eq_add_neg]
      refine key k σ1 [] (by simp; omega) (by simp; omega) f1 (by simpa using h1) fun υ u1 u2 => ?_
      simp only [List.nil_append, List.length_nil, Nat.zero_add] at u2 ⊢
      exact hk υ u1 u2
    · rw [if_neg q] at hk
      exact hk σ1 f1 h1

/-! PART 35: fill, cut, alter, octet, sum -/
theorem zib_m (x : Int32) : zib (x &&& 255) = zib x := by
  unfold zib
  congr 1
  apply Int8.toBitVec_inj.mp
  refine BitVec.eq_of_getLsbD_eq fun i hi => ?_
  rw [Int32.toBitVec_toInt8, Int32.toBitVec_toInt8, Int32.toBitVec_and]
  rw [BitVec.getLsbD_signExtend, BitVec.getLsbD_signExtend, if_pos (by omega), if_pos (by omega), BitVec.getLsbD_and, zm255 i (by omega)]
  simp [hi]
def zdrw (k : Int) (r : Int32) (t : List Int32) : Int32 :=
  if k = 1 then zib (97 + zrm r 4) else if k = 2 ∧ 17 ≤ t.length ∧ ¬ 240 ≤ r then zib (t.getD (t.length - 17) 0) else if k = 3 ∧ 1 ≤ t.length ∧ ¬ 230 ≤ r then zib (t.getD (t.length - 1) 0) else zib r
def zfilL (k : Int) : Nat → Int32 → List Int32 → List Int32
  | 0, _, t => t
  | n + 1, z, t => zfilL k n (z * 1664525 + 1013904223) (t ++ [zdrw k (ziu (z * 1664525 + 1013904223) 24) t])
theorem zfilL_len (k : Int) (n : Nat) : ∀ z t, (zfilL k n z t).length = t.length + n := by
  induction n with
  | zero => intro z t; rfl
  | succ n ih => intro z t; rw [zfilL, ih]; simp; omega
def zfill (t : List Int32) (k n z : Int32) : Int32 × List Int32 := if 0 ≤ k.toInt ∧ k.toInt ≤ 3 ∧ 0 ≤ n.toInt then (if t.length + n.toInt.toNat ≤ 6000 then (nI (t.length + n.toInt.toNat), zfilL k.toInt n.toInt.toNat z t) else (-4, t)) else (-2, t)
theorem nI_ltl {n m : Nat} (hn : n < 2 ^ 31) (hm : m < 2 ^ 31) : nI n < nI m ↔ n < m := nI_ltI hn hm
theorem s_drawn {σ : zS} {K : zKt} {E : zEt} {t : List Int32} {k r : Int32} (h : zrw σ 11 t) (hk : ∀ x, zib x = zdrw k.toInt r t → K (some (.int x)) σ) : X_House_drawn true [.ref 10, .int k, .int r] σ K E := by
  have hl := h.len
  have hx : ∀ x, (zib x = zdrw k.toInt r t) → K (some (.int x)) σ := hk
  refine b_House_drawn ?_
  rw [h.2.2.1, show (17 : Int32) = nI 17 from rfl, show (1 : Int32) = nI 1 from rfl, nI_ltI (by omega) (by omega), nI_ltI (by omega) (by omega)]
  unfold zdrw at hx
  refine ⟨fun q => hx _ (by simp [q]), fun q => ⟨fun q2 => hx _ ?_, fun q2 => ⟨fun q3 => hx _ ?_, fun q3 => ?_⟩⟩, fun q => ⟨fun q2 => hx _ ?_, fun q2 => ⟨fun q3 => hx _ ?_, fun q3 => ?_⟩⟩, fun q => hx _ ?_⟩
  · rw [if_neg (by omega), if_neg (by omega), if_neg (by omega)]
  · rw [if_neg (by omega), if_neg (fun q4 => q4.2.2 q3), if_neg (by omega)]
  · rw [nI_sub (by omega)]
    refine s_Row_get h (by omega) (hx _ ?_)
    rw [if_neg (by omega), if_pos ⟨q, by omega, q3⟩, zib_m]
  · rw [if_neg (by omega), if_neg (by omega), if_neg (by omega)]
  · rw [if_neg (by omega), if_neg (by omega), if_neg (fun q4 => q4.2.2 q3)]
  · rw [nI_sub (by omega)]
    refine s_Row_get h (by omega) (hx _ ?_)
    rw [if_neg (by omega), if_neg (by omega), if_pos ⟨q, by omega, q3⟩, zib_m]
  · rw [if_neg (by omega), if_neg (by omega), if_neg (by omega)]
theorem h_fill {σ : zS} {K : zKt} {E : zEt} {t : List Int32} {k n z : Int32} (h : zrw σ 11 t) (hk : ∀ τ, zfm (zrS 11) σ τ → zrw τ 11 (zfill t k n z).2 → K (some (.int (zfill t k n z).1)) τ) : X_House_fill true [.ref 10, .int k, .int n, .int z] σ K E := by
  have hl := h.len
  have hc := h.2.1
  rw [zn_12] at hc
  unfold zfill at hk
  have e0 : (0 : Int64).toInt = 0 := by decide
  have e3 : (3 : Int64).toInt = 3 := by decide
  refine b_House_fill (s_isIn (fun q => q0e ?_) (fun q1 q2 => q1e ⟨fun q3 => ?_, fun q3 => ?_⟩))
  · rw [zto64, e0, e3] at q
    rw [if_neg (by omega)] at hk
    exact hk σ (zfm.refl _ _) h
  · rw [zto64, e0] at q1
    rw [zto64, e3] at q2
    have q3' : 0 ≤ n.toInt := by simpa using Int32.le_iff_toInt_le.mp q3
    have hn2 := Int32.toInt_lt n
    obtain ⟨m, rfl, m1, m2⟩ := zvn (x := n) (a := 0) (b := 2147483647) q3' (by omega) (by decide)
    rw [if_pos ⟨q1, q2, q3'⟩, nI_n (by omega)] at hk
    have e6 : ((nI t.length).toInt64 + (nI m).toInt64 ≤ 6000) ↔ t.length + m ≤ 6000 := by
      rw [Int64.le_iff_toInt_le, Int64.toInt_add, zto64, zto64, nI_toInt (by omega), nI_toInt (by omega), Int.bmod_eq_of_le (by omega) (by omega), show (6000 : Int64).toInt = 6000 from by decide]
      omega
    rw [h.2.2.1, e6]
    refine ⟨fun q => ?_, fun q => ?_⟩
    · rw [if_pos q] at hk
      have key : ∀ z0, z0 = z → ∀ j i τ z u, i + j = m → zfm (zrS 11) σ τ → zrw τ 11 u → u.length = t.length + i → zfilL k.toInt j z u = zfilL k.toInt m z0 t → L_House_fill_46 10 k (nI m) z (nI i) τ K E := by
        intro z0 ez j
        subst ez
        induction j with
        | zero =>
          intro i τ z u hj hf hr hu he
          refine b_House_fill_46 ⟨fun _ => ?_, fun q => absurd (nI_le (by omega) (by omega)) q⟩
          rw [hr.2.2.1]
          have := hk τ hf (by rw [← he]; exact hr)
          rw [hu, show i = m by omega]
          exact this
        | succ j ih =>
          intro i τ z u hj hf hr hu he
          refine b_House_fill_46 ⟨fun q => absurd q (nI_ge (by omega) (by omega)), fun _ => ?_⟩
          rintro x7 rfl
          refine s_drawn hr fun x hx => s_Row_add hr (by rw [zn_12]; omega) fun υ f r => ?_
          show L_House_fill_46 10 k (nI m) _ (nI i + 1) υ K E
          rw [nI_1]
          rw [hx] at r
          exact ih (i + 1) υ _ _ (by omega) (hf.trans f) r (by simp; omega) he
      exact key z rfl m 0 σ z t (by omega) (zfm.refl _ _) h rfl rfl
    · rw [if_neg q] at hk
      exact hk σ (zfm.refl _ _) h
  · have q3' : n.toInt < 0 := by
      have := mt Int32.le_iff_toInt_le.mpr q3
      simp at this; omega
    rw [if_neg (by omega)] at hk
    exact hk σ (zfm.refl _ _) h
theorem zpush_m {σ : zS} {t : List Int32} {b : Int32} (h : zMt σ t) (hl : t.length < 6000) : zMt (zwI (zwI σ 1117 t.length (zib b)) 1116 2 (nI (t.length + 1))) (t ++ [zib b]) := by
  refine ⟨by simp [zIwI], by simp; omega, h.2.2.push (fun i hi => ?_) ?_⟩
  · simp [zIwI, show i ≠ t.length by omega]
  · simp [zIwI]
theorem m_fill {σ : zS} {K : zKt} {E : zEt} {t : List Int32} {k n z : Int32} (h : zMt σ t) (hk : ∀ τ, zfm zmS σ τ → zMt τ (zfill t k n z).2 → K (some (.int (zfill t k n z).1)) τ) : X_Model_fill true [.ref 1116, .int k, .int n, .int z] σ K E := by
  unfold zfill at hk
  refine b_Model_fill ?_
  rintro σ1 rfl
  have h1 := zcode h
  have f1 : zfm zmS σ (zwI σ 1116 0 0) := (zfm.refl _ σ).wI (by omega)
  generalize zwI σ 1116 0 0 = σ1 at h1 f1
  have hl := h1.2.1
  have e0 : (0 : Int32).toInt = 0 := by decide
  have e3 : (3 : Int32).toInt = 3 := by decide
  refine s_in (fun q => q0e ?_) (fun q1 q2 => q1e ⟨fun q3 => ?_, fun q3 => ?_⟩)
  · rw [e0, e3] at q
    rw [if_neg (by omega)] at hk
    exact hk σ1 f1 h1
  · rw [e0] at q1
    rw [e3] at q2
    have q3' : 0 ≤ n.toInt := by simpa using Int32.le_iff_toInt_le.mp q3
    have hn2 := Int32.toInt_lt n
    obtain ⟨m, rfl, m1, m2⟩ := zvn (x := n) (a := 0) (b := 2147483647) q3' (by omega) (by decide)
    rw [if_pos ⟨q1, q2, q3'⟩, nI_n (by omega)] at hk
    rw [h1.1, show (6000 : Int32) = nI 6000 from rfl, nI_sub hl, nI_leI (by omega) (by omega)]
    refine ⟨fun q => ?_, fun q => ?_⟩
    · rw [if_pos (by omega)] at hk
      have hlow : ∀ a : Int, 0 ≤ a → a ≤ 3 → ∀ x : Int32, x.toInt = a → (x = nI a.toNat) := by
        intro a a1 a2 x hx
        apply Int32.toInt_inj.mp
        rw [nI_toInt (by omega)]; omega
      have key : ∀ z0, z0 = z → ∀ j i τ z u, i + j = m → zfm zmS σ τ → zMt τ u → u.length = t.length + i → zfilL k.toInt j z u = zfilL k.toInt m z0 t → L_Model_fill_42 1116 k (nI m) z (nI i) τ K E := by
        intro z0 ez j
        subst ez
        induction j with
        | zero =>
          intro i τ z u hj hf hr hu he
          refine b_Model_fill_42 ⟨fun _ => ?_, fun q => absurd (nI_le (by omega) (by omega)) q⟩
          rw [hr.1]
          have := hk τ hf (by rw [← he]; exact hr)
          rw [hu, show i = m by omega]
          exact this
        | succ j ih =>
          intro i τ z u hj hf hr hu he
          refine b_Model_fill_42 ⟨fun q => absurd q (nI_ge (by omega) (by omega)), fun _ => ?_⟩
          rintro x7 rfl
          generalize hz : z * 1664525 + 1013904223 = z'
          have fin : ∀ x, zib x = zdrw k.toInt (ziu z' 24) u → L_Model_fill_156 1116 k (nI m) z' (nI i) x τ K E := by
            intro x hx
            refine b_Model_fill_156 ?_
            rw [hr.1, nI_clamp (by omega)]
            refine ⟨by rw [zn_1117]; exact vp_in_nI (by omega) (by omega), ?_⟩
            rintro σ19 rfl σ20 rfl
            rw [zbv_b zk_1117]
            have e9 : zI (zwI τ 1117 u.length (zib x)) 1116 2 + 1 = nI (u.length + 1) := by simp [zIwI, hr.1, nI_1]
            rw [e9, nI_1, hx]
            refine ih (i + 1) _ z' (u ++ [zdrw k.toInt (ziu z' 24) u]) (by omega) ((hf.wI (Or.inr rfl)).wI (by omega)) ?_ (by simp; omega) (by rw [← he, zfilL, hz])
            rw [← hx]
            exact zpush_m hr (by omega)
          unfold zdrw at fin
          have k2 : k = 2 ↔ k.toInt = 2 := ⟨fun q => by rw [q]; decide, fun q => Int32.toInt_inj.mp (by rw [q]; decide)⟩
          have k3 : k = 3 ↔ k.toInt = 3 := ⟨fun q => by rw [q]; decide, fun q => Int32.toInt_inj.mp (by rw [q]; decide)⟩
          have k1 : k = 1 ↔ k.toInt = 1 := ⟨fun q => by rw [q]; decide, fun q => Int32.toInt_inj.mp (by rw [q]; decide)⟩
          have st3 : ∀ x, (k.toInt = 3 → zib x = zib (ziu z' 24)) → (¬ k.toInt = 3 → zib x = zdrw k.toInt (ziu z' 24) u) → L_Model_fill_122 1116 k (nI m) z' (nI i) (ziu z' 24) x τ K E := by
            intro x hx3 hx
            unfold zdrw at hx
            refine b_Model_fill_122 ?_
            rw [k3, hr.1, show (1 : Int32) = nI 1 from rfl, nI_ltI (by omega) (by omega)]
            refine ⟨fun q => fin x (hx q), fun q => ⟨fun q2 => fin x ?_, fun q2 => ⟨fun q3 => fin x ?_, fun q3 => ?_⟩⟩⟩
            · rw [hx3 q, if_neg (by omega), if_neg (by omega), if_neg (by omega)]
            · rw [hx3 q, if_neg (by omega), if_neg (by omega), if_neg (fun q4 => q4.2.2 q3)]
            · rw [nI_sub (by omega), zar_rd hr.2.2 (by omega) (by omega)]
              refine ⟨by rw [zn_1117]; exact vp_in_nI (by omega) (by omega), ?_⟩
              rintro x15 rfl
              exact fin _ (by rw [if_neg (by omega), if_neg (by omega), if_pos ⟨q, by omega, q3⟩])
          have st2 : ∀ x, (k.toInt = 1 → zib x = zib (97 + zrm (ziu z' 24) 4)) → (¬ k.toInt = 1 → zib x = zib (ziu z' 24)) → L_Model_fill_84 1116 k (nI m) z' (nI i) (ziu z' 24) x τ K E := by
            intro x hx1 hx
            have n3 : k.toInt = 3 → zib x = zib (ziu z' 24) := fun q => hx (by omega)
            refine b_Model_fill_84 ?_
            rw [k2, hr.1, show (17 : Int32) = nI 17 from rfl, nI_ltI (by omega) (by omega)]
            refine ⟨fun q => st3 x n3 fun q9 => ?_, fun q => ⟨fun q2 => st3 x n3 fun q9 => ?_, fun q2 => ⟨fun q3 => st3 x n3 fun q9 => ?_, fun q3 => ?_⟩⟩⟩
            · unfold zdrw
              by_cases c1 : k.toInt = 1
              · rw [if_pos c1]; exact hx1 c1
              · rw [if_neg c1, if_neg (by omega), if_neg (by omega)]; exact hx c1
            · unfold zdrw; rw [if_neg (by omega), if_neg (by omega), if_neg (by omega)]; exact hx (by omega)
            · unfold zdrw; rw [if_neg (by omega), if_neg (fun q4 => q4.2.2 q3), if_neg (by omega)]; exact hx (by omega)
            · rw [nI_sub (by omega), zar_rd hr.2.2 (by omega) (by omega)]
              refine ⟨by rw [zn_1117]; exact vp_in_nI (by omega) (by omega), ?_⟩
              rintro x11 rfl
              refine st3 _ (fun q => by omega) fun q9 => ?_
              unfold zdrw; rw [if_neg (by omega), if_pos ⟨q, by omega, q3⟩]
          rw [k1]
          exact ⟨fun q => st2 _ (fun q2 => absurd q2 q) (fun _ => rfl), fun q => st2 _ (fun _ => rfl) (fun q2 => absurd q q2)⟩
      exact key z rfl m 0 σ1 z t (by omega) f1 h1 rfl rfl
    · rw [if_neg (by omega)] at hk
      exact hk σ1 f1 h1
  · have q3' : n.toInt < 0 := by
      have := mt Int32.le_iff_toInt_le.mpr q3
      simp at this; omega
    rw [if_neg (by omega)] at hk
    exact hk σ1 f1 h1
-- cut
def zcut (t : List Int32) (n : Int32) : Int32 × List Int32 := if 0 ≤ n.toInt ∧ n.toInt ≤ t.length then (nI t.length, t.take n.toInt.toNat) else (-2, t)
theorem zrw_take {σ : zS} {a n : Nat} {l : List Int32} (h : zrw σ a l) (hn : n ≤ l.length) : zrw (zwI σ a 1 (nI n)) a (l.take n) := by
  have hc := h.2.1
  refine ⟨h.1, by simp; omega, by simp [zIwI, Nat.min_eq_left hn], ?_, zby_sub h.2.2.2.2 n⟩
  exact (zar_take h.2.2.2.1).fm ((zfm.refl (fun r i => r = a ∧ i = 1) σ).wI ⟨rfl, rfl⟩) (fun i _ q => by omega)
theorem h_cut {σ : zS} {K : zKt} {E : zEt} {t : List Int32} {n : Int32} (h : zrw σ 11 t) (hk : ∀ τ, zfm (zrS 11) σ τ → zrw τ 11 (zcut t n).2 → K (some (.int (zcut t n).1)) τ) : X_House_cut true [.ref 10, .int n] σ K E := by
  have hl := h.len
  unfold zcut at hk
  have e0 : (0 : Int64).toInt = 0 := by decide
  refine b_House_cut (s_isIn (fun q => q0n ?_) (fun q1 q2 => q1n ?_))
  · rw [h.2.2.1, zto64, zto64, e0, nI_toInt (by omega)] at q
    rw [if_neg (by omega)] at hk
    exact hk σ (zfm.refl _ _) h
  · rw [zto64, e0] at q1
    rw [h.2.2.1, zto64, zto64, nI_toInt (by omega)] at q2
    obtain ⟨m, rfl, m1, m2⟩ := zvn (x := n) (a := 0) (b := t.length) q1 q2 (by omega)
    rw [if_pos ⟨q1, q2⟩, nI_n (by omega)] at hk
    rintro σ4 rfl
    rw [h.2.2.1]
    exact hk _ ((zfm.refl _ σ).wI (Or.inl ⟨rfl, rfl⟩)) (zrw_take h m2)
theorem zlt0 {x : Int32} : x < 0 ↔ x.toInt < 0 := by rw [Int32.lt_iff_toInt_lt]; simp
theorem m_cut {σ : zS} {K : zKt} {E : zEt} {t : List Int32} {n : Int32} (h : zMt σ t) (hk : ∀ τ, zfm zmS σ τ → zMt τ (zcut t n).2 → K (some (.int (zcut t n).1)) τ) : X_Model_cut true [.ref 1116, .int n] σ K E := by
  unfold zcut at hk
  refine b_Model_cut ?_
  rintro σ1 rfl
  have h1 := zcode h
  have f1 : zfm zmS σ (zwI σ 1116 0 0) := (zfm.refl _ σ).wI (by omega)
  generalize zwI σ 1116 0 0 = σ1 at h1 f1
  have hl := h1.2.1
  rw [h1.1, zlt0, Int32.le_iff_toInt_le, nI_toInt (by omega)]
  refine ⟨fun q => ?_, fun q => ⟨fun q2 => ?_, fun q2 => ?_⟩⟩
  · rw [if_neg (by omega)] at hk
    exact hk σ1 f1 h1
  · obtain ⟨m, rfl, m1, m2⟩ := zvn (x := n) (a := 0) (b := t.length) (by omega) q2 (by omega)
    rw [if_pos ⟨by omega, q2⟩, nI_n (by omega)] at hk
    rintro σ4 rfl
    refine hk _ (f1.wI (by omega)) ⟨by simp [zIwI, Nat.min_eq_left m2], by simp; omega, ?_⟩
    exact (zar_take h1.2.2).fm ((zfm.refl (fun r i => r = 1116 ∧ i = 2) σ1).wI ⟨rfl, rfl⟩) (fun i _ q => by omega)
  · rw [if_neg (by omega)] at hk
    exact hk σ1 f1 h1
-- alter, octet
def zalt (t : List Int32) (i v : Int32) : Int32 × List Int32 := if 0 ≤ i.toInt ∧ i.toInt < t.length then (if 0 ≤ v.toInt ∧ v.toInt ≤ 255 then (zgt t i.toInt.toNat, t.set i.toInt.toNat (zib v)) else (-2, t)) else (-1, t)
theorem zar_set {σ τ : zS} {r i : Nat} {l : List Int32} {v : Int32} (h : zar σ r l) (h1 : ∀ j, j < l.length → j ≠ i → zI τ r j = zI σ r j) (h2 : zI τ r i = v) : zar τ r (l.set i v) := by
  intro j hj
  rw [List.length_set] at hj
  by_cases q : j = i
  · subst q; rw [h2, List.getD_eq_getElem?_getD, List.getElem?_set_self hj]; rfl
  · rw [h1 j hj q, h j hj, List.getD_eq_getElem?_getD, List.getD_eq_getElem?_getD, List.getElem?_set_ne (Ne.symm q)]
theorem zby_set {l : List Int32} {i : Nat} {v : Int32} (h : ∀ x ∈ l, zby x) (hv : zby v) : ∀ x ∈ l.set i v, zby x := fun x hx => (List.mem_or_eq_of_mem_set hx).elim (h x) (fun q => q ▸ hv)
theorem zrw_set {σ : zS} {a i : Nat} {l : List Int32} {v : Int32} (h : zrw σ a l) (hv : zby v) : zrw (zwI σ (a + 1) i v) a (l.set i v) := by
  have hc := h.2.1
  refine ⟨h.1, by simp; omega, by simp [zIwI]; exact h.2.2.1, zar_set h.2.2.2.1 (fun j _ q => by simp [zIwI, q]) (by simp [zIwI]), zby_set h.2.2.2.2 hv⟩
theorem h_alter {σ : zS} {K : zKt} {E : zEt} {t : List Int32} {i v : Int32} (h : zrw σ 11 t) (hk : ∀ τ, zfm (zrS 11) σ τ → zrw τ 11 (zalt t i v).2 → K (some (.int (zalt t i v).1)) τ) : X_House_alter true [.ref 10, .int i, .int v] σ K E := by
  have hl := h.len
  have hc := h.2.1
  rw [zn_12] at hc
  unfold zalt at hk
  have e0 : (0 : Int64).toInt = 0 := by decide
  have e5 : (255 : Int64).toInt = 255 := by decide
  have e9 : (nI t.length - 1).toInt = (t.length : Int) - 1 := by
    by_cases q : t.length = 0
    · rw [q]; decide
    · rw [show (1 : Int32) = nI 1 from rfl, nI_sub (by omega), nI_toInt (by omega)]; omega
  refine b_House_alter (s_isIn (fun q => q0n ?_) (fun q1 q2 => q1n (s_isIn (fun q => q0n ?_) (fun q3 q4 => q1n ?_))))
  · rw [h.2.2.1, zto64, zto64, e0, e9] at q
    rw [if_neg (by omega)] at hk
    exact hk σ (zfm.refl _ _) h
  · rw [zto64, e0] at q1
    rw [h.2.2.1, zto64, zto64, e9] at q2
    rw [zto64, e0, e5] at q
    rw [if_pos (by omega), if_neg (by omega)] at hk
    exact hk σ (zfm.refl _ _) h
  · rw [zto64, e0] at q1 q3
    rw [h.2.2.1, zto64, zto64, e9] at q2
    rw [zto64, e5] at q4
    obtain ⟨m, rfl, m1, m2⟩ := zvn (x := i) (a := 0) (b := t.length) q1 (by omega) (by omega)
    rw [nI_toInt (by omega)] at q2
    rw [if_pos (by rw [nI_toInt (by omega)]; omega), if_pos ⟨q3, q4⟩, nI_n (by omega)] at hk
    refine s_Row_get h (by omega) ⟨by rw [zn_12]; exact vp_in_nI (by omega) (by omega), ?_⟩
    rintro σ10 rfl
    rw [nI_clamp (by omega), zbv_b zk_12]
    exact hk _ ((zfm.refl _ σ).wI (Or.inr rfl)) (zrw_set h (zby_ib v))
theorem m_alter {σ : zS} {K : zKt} {E : zEt} {t : List Int32} {i v : Int32} (h : zMt σ t) (hk : ∀ τ, zfm zmS σ τ → zMt τ (zalt t i v).2 → K (some (.int (zalt t i v).1)) τ) : X_Model_alter true [.ref 1116, .int i, .int v] σ K E := by
  unfold zalt at hk
  refine b_Model_alter ?_
  rintro σ1 rfl
  have h1 := zcode h
  have f1 : zfm zmS σ (zwI σ 1116 0 0) := (zfm.refl _ σ).wI (by omega)
  generalize zwI σ 1116 0 0 = σ1 at h1 f1
  have hl := h1.2.1
  have e0 : (0 : Int32).toInt = 0 := by decide
  have e5 : (255 : Int32).toInt = 255 := by decide
  rw [h1.1, zlt0, Int32.lt_iff_toInt_lt, nI_toInt (by omega)]
  refine ⟨fun q => ?_, fun q => ⟨fun q2 => s_in (fun q3 => q0n ?_) (fun q3 q4 => q1n ?_), fun q2 => ?_⟩⟩
  · rw [if_neg (by omega)] at hk
    exact hk σ1 f1 h1
  · rw [e0, e5] at q3
    rw [if_pos (by omega), if_neg (by omega)] at hk
    exact hk σ1 f1 h1
  · rw [e0] at q3
    rw [e5] at q4
    obtain ⟨m, rfl, m1, m2⟩ := zvn (x := i) (a := 0) (b := t.length) (by omega) (by omega) (by omega)
    rw [nI_toInt (by omega)] at q2
    rw [if_pos (by rw [nI_toInt (by omega)]; omega), if_pos ⟨q3, q4⟩, nI_n (by omega)] at hk
    refine ⟨by rw [zn_1117]; exact vp_in_nI (by omega) (by omega), ?_⟩
    rintro x5 rfl
    refine ⟨by rw [zn_1117]; exact vp_in_nI (by omega) (by omega), ?_⟩
    rintro σ6 rfl
    rw [zar_rd h1.2.2 (by omega) (by omega), nI_clamp (by omega), zbv_b zk_1117]
    refine hk _ (f1.wI (Or.inr rfl)) ⟨by simp [zIwI]; exact h1.1, by simp; exact hl, zar_set h1.2.2 (fun j _ q => by simp [zIwI, q]) (by simp [zIwI])⟩
  · rw [if_neg (by omega)] at hk
    exact hk σ1 f1 h1
def zoct (t : List Int32) (i : Int32) : Int32 := if 0 ≤ i.toInt ∧ i.toInt < t.length then zgt t i.toInt.toNat else -1
theorem zsm1 {n : Nat} (h : n < 2 ^ 31) : (nI n - 1).toInt = (n : Int) - 1 := by
  by_cases q : n = 0
  · rw [q]; decide
  · rw [show (1 : Int32) = nI 1 from rfl, nI_sub (by omega), nI_toInt (by omega)]; omega
theorem h_octet {σ : zS} {K : zKt} {E : zEt} {t : List Int32} {i : Int32} (h : zrw σ 11 t) (hk : K (some (.int (zoct t i))) σ) : X_House_octet true [.ref 10, .int i] σ K E := by
  have hl := h.len
  unfold zoct at hk
  have e0 : (0 : Int64).toInt = 0 := by decide
  refine b_House_octet (s_isIn (fun q => q0e ?_) (fun q1 q2 => q1e ?_))
  · rw [h.2.2.1, zto64, zto64, e0, zsm1 (by omega)] at q
    rw [if_neg (by omega)] at hk
    exact hk
  · rw [zto64, e0] at q1
    rw [h.2.2.1, zto64, zto64, zsm1 (by omega)] at q2
    obtain ⟨m, rfl, m1, m2⟩ := zvn (x := i) (a := 0) (b := t.length) q1 (by omega) (by omega)
    rw [nI_toInt (by omega)] at q2
    rw [if_pos (by rw [nI_toInt (by omega)]; omega), nI_n (by omega)] at hk
    exact s_Row_get h (by omega) hk
theorem m_octet {σ : zS} {K : zKt} {E : zEt} {t : List Int32} {i : Int32} (h : zMt σ t) (hk : ∀ τ, zfm zmS σ τ → zMt τ t → K (some (.int (zoct t i))) τ) : X_Model_octet true [.ref 1116, .int i] σ K E := by
  unfold zoct at hk
  refine b_Model_octet ?_
  rintro σ1 rfl
  have h1 := zcode h
  have f1 : zfm zmS σ (zwI σ 1116 0 0) := (zfm.refl _ σ).wI (by omega)
  generalize zwI σ 1116 0 0 = σ1 at h1 f1
  have hl := h1.2.1
  rw [h1.1, zlt0, Int32.lt_iff_toInt_lt, nI_toInt (by omega)]
  have hk := hk σ1 f1 h1
  refine ⟨fun q => ?_, fun q => ⟨fun q2 => ?_, fun q2 => ?_⟩⟩
  · rw [if_neg (by omega)] at hk
    exact hk
  · obtain ⟨m, rfl, m1, m2⟩ := zvn (x := i) (a := 0) (b := t.length) (by omega) (by omega) (by omega)
    rw [nI_toInt (by omega)] at q2
    rw [if_pos (by rw [nI_toInt (by omega)]; omega), nI_n (by omega)] at hk
    refine ⟨by rw [zn_1117]; exact vp_in_nI (by omega) (by omega), ?_⟩
    rw [zar_rd h1.2.2 (by omega) (by omega)]
    exact hk
  · rw [if_neg (by omega)] at hk
    exact hk
-- sum
def zsum (t : List Int32) (k : Int32) : Int64 := if k.toInt = 0 then zadler t else if k.toInt = 1 then zlw (zround t) else if k.toInt = 2 then zlw (zturned t) else if k.toInt = 3 then zlw (zmixed t 0 t.length) else -2
theorem h_sum {σ : zS} {K : zKt} {E : zEt} {t : List Int32} {k : Int32} (h : zrw σ 11 t) (ht : zTab σ 23 24) (hk : K (some (.long (zsum t k))) σ) : X_House_sum true [.ref 10, .int k] σ K E := by
  unfold zsum at hk
  refine b_House_sum ?_
  rw [h.2.2.1]
  refine ⟨fun q => ?_, fun q => ?_, fun q => ?_, fun q => ?_, fun q => ?_⟩
  · rw [if_pos q] at hk
    exact s_Sums_adler (p := 0) h (Nat.le_refl _) (Nat.zero_le _) (by rw [zsub_all]; exact hk)
  · rw [if_neg (by omega), if_pos q] at hk
    exact s_Sums_round (p := 0) h ht (Nat.le_refl _) (Nat.zero_le _) (by rw [zsub_all]; exact hk)
  · rw [if_neg (by omega), if_neg (by omega), if_pos q] at hk
    exact s_Sums_turned (p := 0) h ht (Nat.le_refl _) (Nat.zero_le _) (by rw [zsub_all]; exact hk)
  · rw [if_neg (by omega), if_neg (by omega), if_neg (by omega), if_pos q] at hk
    exact s_Sums_mixed (f := 0) h (Nat.le_refl _) (Nat.zero_le _) hk
  · rw [if_neg (by omega), if_neg (by omega), if_neg (by omega), if_neg (by omega)] at hk
    exact hk
theorem zTab.fm {σ τ : zS} {r t : Nat} {S : Nat → Nat → Prop} (h : zTab σ r t) (hf : zfm S σ τ) (h1 : ∀ i, ¬ S r i) (h2 : ∀ i, ¬ S t i) : zTab τ r t := fun i hi => ⟨by rw [hf.I _ _ (h1 i)]; exact (h i hi).1, by rw [hf.I _ _ (h2 i)]; exact (h i hi).2⟩
theorem m_sum {σ : zS} {K : zKt} {E : zEt} {t : List Int32} {k : Int32} (h : zMt σ t) (ht : zTab σ 1121 1122) (hk : ∀ τ, zfm zmS σ τ → zMt τ t → K (some (.long (zsum t k))) τ) : X_Model_sum true [.ref 1116, .int k] σ K E := by
  unfold zsum at hk
  refine b_Model_sum ?_
  rintro σ1 rfl
  have h1 := zcode h
  have f1 : zfm zmS σ (zwI σ 1116 0 0) := (zfm.refl _ σ).wI (by omega)
  have ht := ht.fm f1 (by omega) (by omega)
  generalize zwI σ 1116 0 0 = σ1 at h1 f1 ht
  have hl := h1.2.1
  have hN : zN 1117 < 2 ^ 30 := by rw [zn_1117]; decide
  have hlN : t.length ≤ zN 1117 := by rw [zn_1117]; exact hl
  have hk := hk σ1 f1 h1
  rw [h1.1]
  refine ⟨fun q => ?_, fun q => ?_, fun q => ?_, fun q => ?_, fun q => ?_⟩
  · rw [if_pos q] at hk
    exact s_Model_adler (p := 0) h1.2.2 zk_1117 hlN hN (by omega) (by rw [Nat.zero_add, zsub_all]; exact hk)
  · rw [if_neg (by omega), if_pos q] at hk
    exact s_Model_round (p := 0) h1.2.2 zk_1117 hlN hN ht (by omega) (by rw [Nat.zero_add, zsub_all]; exact hk)
  · rw [if_neg (by omega), if_neg (by omega), if_pos q] at hk
    exact s_Model_turned (p := 0) h1.2.2 zk_1117 hlN hN ht (by omega) (by rw [Nat.zero_add, zsub_all]; exact hk)
  · rw [if_neg (by omega), if_neg (by omega), if_neg (by omega), if_pos q] at hk
    exact s_Model_mixed (f := 0) h1.2.2 zk_1117 hlN hN (by omega) (by rw [Nat.zero_add]; exact hk)
  · rw [if_neg (by omega), if_neg (by omega), if_neg (by omega), if_neg (by omega)] at hk
    exact hk

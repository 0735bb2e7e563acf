/-! PART 39: an entry is made -/
def zentry (S : zSt') (h : List Int32) (es : List zEn) (s m t : Int32) : Int32 × List Int32 × List zEn := match zlook S s with
  | none => (-1, h, es)
  | some l => if 0 ≤ m.toInt ∧ m.toInt ≤ 511 ∧ 0 ≤ t.toInt ∧ 1 ≤ h.length then (if es.length < 16 ∧ l.length ≤ 6000 then (nI es.length, [], es ++ [(h, l, m, t)]) else (-4, h, es)) else (-2, h, es)
abbrev zeS : Nat → Nat → Prop := fun r i => (r = 363 ∧ i = 1) ∨ (199 ≤ r ∧ r < 281)
theorem zkrow (k : Nat) (hk : k < 16) : zN (199 + 3 + 5 * k + 1) = 100 ∧ zN (199 + 5 + 5 * k + 1) = 6000 ∧ zN (281 + 3 + 5 * k + 1) = 100 ∧ zN (281 + 5 + 5 * k + 1) = 6000 := by
  have : ∀ k, k < 16 → zN (199 + 3 + 5 * k + 1) = 100 ∧ zN (199 + 5 + 5 * k + 1) = 6000 ∧ zN (281 + 3 + 5 * k + 1) = 100 ∧ zN (281 + 5 + 5 * k + 1) = 6000 := by decide +kernel
  exact this k hk
theorem h_entry {σ : zS} {K : zKt} {E : zEt} {S : zSt'} {h : List Int32} {es : List zEn} {s m t : Int32} (hS : zHs σ S) (hh : zrw σ 363 h) (he : zHe σ 199 es) (hk : ∀ τ, zfm zeS σ τ → zrw τ 363 (zentry S h es s m t).2.1 → zHe τ 199 (zentry S h es s m t).2.2 → K (some (.int (zentry S h es s m t).1)) τ) : X_House_entry true [.ref 10, .int s, .int m, .int t] σ K E := by
  unfold zentry at hk
  have hl := he.2.1
  have hhl := hh.2.1
  rw [show zN (363 + 1) = 100 from by decide +kernel] at hhl
  have e0 : (0 : Int64).toInt = 0 := by decide
  have e5 : (511 : Int64).toInt = 511 := by decide
  refine b_House_entry (s_stream hS (fun q => q0r ?_) (fun k l hk1 ek hSk q r => qkr ?_))
  · rw [q] at hk; exact hk σ (zfm.refl _ _) hh he
  · rw [q] at hk
    simp only at hk
    have hrl := r.len
    refine s_isIn (fun q2 => q0e ?_) (fun q1 q2 => q1e ?_)
    · rw [zto64, e0, e5] at q2
      rw [if_neg (by omega)] at hk
      exact hk σ (zfm.refl _ _) hh he
    · rw [zto64, e0] at q1
      rw [zto64, e5] at q2
      rw [zlt0, hh.2.2.1, he.1, r.2.2.1, show (16 : Int32) = nI 16 from rfl, show (6000 : Int32) = nI 6000 from rfl, show (0 : Int32) = nI 0 from rfl, nI_eq (by omega) (by omega), nI_eq (by omega) (by omega), nI_leI (by omega) (by omega)]
      refine ⟨fun q3 => ?_, fun q3 => ⟨fun q4 => ⟨fun q5 => ?_, fun q5 => ⟨r.1, fun q6 => ?_, fun q6 => ?_⟩⟩, fun q4 => ?_⟩⟩
      · rw [if_neg (by omega)] at hk; exact hk σ (zfm.refl _ _) hh he
      · rw [if_pos (by omega), if_neg (by omega)] at hk; exact hk σ (zfm.refl _ _) hh he
      · rw [if_pos (by omega), if_pos (by omega)] at hk
        obtain ⟨a, n, x, c, d, g⟩ := he.2.2 es.length (by omega)
        have ka := (zk24 es.length (by omega)).1
        obtain ⟨N1, N2, -⟩ := zkrow es.length (by omega)
        rw [nI_clamp (by omega), a, show 199 + 2 + 5 * es.length + 1 = 199 + 3 + 5 * es.length by omega, show 199 + 2 + 5 * es.length + 3 = 199 + 5 + 5 * es.length by omega]
        refine ⟨by rw [zn_200]; exact vp_in_nI (by omega) (by omega), ka, c.1, s_Row_copy c hh (by omega) fun τ f1 r1 => ?_⟩
        show ∀ σ9 : zS, σ9 = zwI τ 363 1 (nI 0) → _
        rintro σ9 rfl
        have g1 : zfm (fun r i => (r = 363 ∧ i = 1) ∨ ((r = 199 + 3 + 5 * es.length ∧ i = 1) ∨ r = 199 + 3 + 5 * es.length + 1)) σ (zwI τ 363 1 (nI 0)) := (f1.mono (fun r i q => Or.inr q)).wI (Or.inl ⟨rfl, rfl⟩)
        have hh0 : zrw (zwI τ 363 1 (nI 0)) 363 [] := by
          have h363 : zrw τ 363 h := hh.fm f1 (by omega) (by omega)
          exact zrw_take (n := 0) h363 (Nat.zero_le _)
        have r1' : zrw (zwI τ 363 1 (nI 0)) (199 + 3 + 5 * es.length) h := r1.fm ((zfm.refl (fun r i => r = 363 ∧ i = 1) τ).wI ⟨rfl, rfl⟩) (by omega) (by omega)
        have d' := d.fm g1 (by omega) (by omega)
        have rr := r.fm g1 (by omega) (by omega)
        generalize zwI τ 363 1 (nI 0) = σ9 at g1 hh0 r1' d' rr
        refine ⟨d.1, s_Row_copy d' rr (by omega) fun υ f2 r2 => ?_⟩
        show L_House_entry_116 10 m t (199 + 2 + 5 * es.length) υ K E
        refine b_House_entry_116 ⟨ka, ?_⟩
        rintro σ18 rfl σ19 rfl σ20 rfl
        have ec : zI (zwI (zwI υ (199 + 2 + 5 * es.length) 2 m) (199 + 2 + 5 * es.length) 3 t) 199 1 = nI es.length := by
          simp [zIwI, show (199 : Nat) ≠ 199 + 2 + 5 * es.length by omega]
          rw [f2.I _ _ (by omega), g1.I _ _ (by omega)]; exact he.1
        rw [ec, nI_1]
        have G : zfm zeS σ (zwI (zwI (zwI υ (199 + 2 + 5 * es.length) 2 m) (199 + 2 + 5 * es.length) 3 t) 199 1 (nI (es.length + 1))) := by
          refine ((((g1.mono fun r i q => ?_).trans (f2.mono fun r i q => ?_)).wI ?_).wI ?_).wI ?_ <;> omega
        have W : zfm (fun r i => (r = 199 + 2 + 5 * es.length ∧ (i = 2 ∨ i = 3)) ∨ (r = 199 ∧ i = 1)) υ (zwI (zwI (zwI υ (199 + 2 + 5 * es.length) 2 m) (199 + 2 + 5 * es.length) 3 t) 199 1 (nI (es.length + 1))) := by
          refine (((zfm.refl _ υ).wI ?_).wI ?_).wI ?_ <;> omega
        refine hk _ G ((hh0.fm f2 (by omega) (by omega)).fm W (by omega) (by omega)) ⟨by simp [zIwI], by simp; omega, fun j hj => ?_⟩
        obtain ⟨a2, n2, x2, c2, d2, g2⟩ := he.2.2 j hj
        refine ⟨by rw [W.R _ _ (by omega), f2.R _ _ (by omega), g1.R _ _ (by omega)]; exact a2, ?_⟩
        by_cases q7 : j = es.length
        · subst q7
          refine ⟨h, l, (r1'.fm f2 (by omega) (by omega)).fm W (by omega) (by omega), r2.fm W (by omega) (by omega), fun e9 h9 => ?_⟩
          simp at h9
          subst h9
          exact ⟨rfl, rfl, by simp [zIwI], by simp [zIwI, show ¬ (199 + 2 + 5 * es.length = 199) by omega]⟩
        · refine ⟨n2, x2, ((c2.fm g1 (by omega) (by omega)).fm f2 (by omega) (by omega)).fm W (by omega) (by omega), ((d2.fm g1 (by omega) (by omega)).fm f2 (by omega) (by omega)).fm W (by omega) (by omega), fun e9 h9 => ?_⟩
          by_cases q8 : j < es.length
          · rw [List.getElem?_append_left q8] at h9
            obtain ⟨u1, u2, u3, u4⟩ := g2 e9 h9
            exact ⟨u1, u2, by rw [W.I _ _ (by omega), f2.I _ _ (by omega), g1.I _ _ (by omega)]; exact u3, by rw [W.I _ _ (by omega), f2.I _ _ (by omega), g1.I _ _ (by omega)]; exact u4⟩
          · rw [List.getElem?_eq_none (by simp; omega)] at h9; cases h9
      · rw [if_pos (by omega), if_neg (by omega)] at hk; exact hk σ (zfm.refl _ _) hh he
      · rw [if_neg (by omega)] at hk; exact hk σ (zfm.refl _ _) hh he
abbrev zeM : Nat → Nat → Prop := fun r i => (r = 1116 ∧ (i = 0 ∨ i = 103 ∨ i = 88)) ∨ (1168 ≤ r ∧ r ≤ 1173)
theorem z6000k (k i : Nat) : (6000 * nI k) + nI i = nI (6000 * k + i) := by rw [show (6000 : Int32) = nI 6000 from rfl, nI_mul, nI_add]
theorem m_entry {σ : zS} {K : zKt} {E : zEt} {S : zSt'} {h : List Int32} {es : List zEn} {s m t : Int32} (hS : zMs σ S) (hh : zMh σ h) (hby : ∀ x ∈ h, zby x) (he : zMe' σ es) (hk : ∀ τ, zfm zeM σ τ → zMh τ (zentry S h es s m t).2.1 → zMe' τ (zentry S h es s m t).2.2 → K (some (.int (zentry S h es s m t).1)) τ) : X_Model_entry true [.ref 1116, .int s, .int m, .int t] σ K E := by
  unfold zentry at hk
  refine b_Model_entry ?_
  rintro σ1 rfl
  have f1 : zfm zeM σ (zwI σ 1116 0 0) := (zfm.refl _ σ).wI (by omega)
  have hS1 := hS.fm (zcS_w σ) (by omega)
  have he1 := he.fm (zcS_w σ) (by omega) (by omega)
  have hh1 : zMh (zwI σ 1116 0 0) h := ⟨by simp [zIwI]; exact hh.1, hh.2.1, fun i hi => by simp [zIwI]; exact hh.2.2 i hi⟩
  generalize zwI σ 1116 0 0 = σ1 at hS1 he1 hh1 f1
  have hl := he1.2.1
  have hhl := hh1.2.1
  have e0 : (0 : Int32).toInt = 0 := by decide
  have e5 : (511 : Int32).toInt = 511 := by decide
  refine s_noStream hS1 (fun q => q1e ?_) (fun k l hk1 ek hSk q => q0e ?_)
  · rw [q] at hk; exact hk σ1 f1 hh1 he1
  · rw [q] at hk
    simp only at hk
    obtain ⟨s1, s2, s3, s4⟩ := (hS1 k hk1).2 l hSk
    refine s_in (fun q2 => q0e ?_) (fun q1 q2 => q1e ?_)
    · rw [e0, e5] at q2
      rw [if_neg (by omega)] at hk
      exact hk σ1 f1 hh1 he1
    · rw [e0] at q1
      rw [e5] at q2
      rw [zlt0, hh1.1, he1.1, ek, nI_clamp (show k + 1 < 2 ^ 31 by omega), s1, show (16 : Int32) = nI 16 from rfl, show (6000 : Int32) = nI 6000 from rfl, show (0 : Int32) = nI 0 from rfl, nI_eq (by omega) (by omega), nI_eq (by omega) (by omega), nI_leI (by omega) (by omega)]
      refine ⟨fun q3 => ?_, fun q3 => ⟨fun q4 => ⟨fun q5 => ?_, fun q5 => ⟨by rw [zn_1119]; exact vp_in_nI (by omega) (by omega), fun q6 => ?_, fun q6 => ?_⟩⟩, fun q4 => ?_⟩⟩
      · rw [if_neg (by omega)] at hk; exact hk σ1 f1 hh1 he1
      · rw [if_pos (by omega), if_neg (by omega)] at hk; exact hk σ1 f1 hh1 he1
      · rw [if_pos (by omega), if_pos (by omega)] at hk
        have hle : es.length < 16 := by omega
        -- the texts
        have key2 : ∀ j i τ, i + j = l.length → zfm zeM σ1 τ → zMh τ [] → zI τ 1116 88 = nI es.length → zI τ 1173 es.length = nI l.length → (∀ u, u < i → zI τ 1172 (6000 * es.length + u) = l.getD u 0) → (∀ u, u < 6000 * es.length → zI τ 1172 u = zI σ1 1172 u) → zI τ 1169 es.length = nI h.length → zI τ 1170 es.length = m → zI τ 1171 es.length = t → (∀ u, u < h.length → zI τ 1168 (100 * es.length + u) = h.getD u 0) → (∀ u, u < 100 * es.length → zI τ 1168 u = zI σ1 1168 u) → (∀ u, u < es.length → zI τ 1169 u = zI σ1 1169 u ∧ zI τ 1170 u = zI σ1 1170 u ∧ zI τ 1171 u = zI σ1 1171 u ∧ zI τ 1173 u = zI σ1 1173 u) → L_Model_entry_156 1116 (nI (k + 1)) (nI es.length) (nI i) τ K E := by
          intro j
          induction j with
          | zero =>
            intro i τ hj hf v1 v2 v3 v4 v5 v6 v7 v8 v9 v10 v11
            have hi : i = l.length := by omega
            subst hi
            refine b_Model_entry_156 ?_
            rw [nI_clamp (by omega), v3]
            refine ⟨by rw [zn_1173]; exact vp_in_nI (by omega) (by omega), fun _ => ?_, fun q => absurd (nI_le (Nat.le_refl _) (by omega)) q⟩
            rintro σ21 rfl
            rw [v2, nI_1]
            have W : zfm (fun r i => r = 1116 ∧ i = 88) τ (zwI τ 1116 88 (nI (es.length + 1))) := (zfm.refl _ τ).wI ⟨rfl, rfl⟩
            refine hk _ (f1.trans (hf.wI (by omega))) ⟨by rw [W.I _ _ (by omega)]; exact v1.1, by simp, fun i hi => by simp at hi⟩ ⟨by simp [zIwI], by simp; omega, fun j e hj => ?_⟩
            by_cases q8 : j < es.length
            · rw [List.getElem?_append_left q8] at hj
              obtain ⟨⟨a1, a2, a3, a4, a5⟩, b, c, d1, d2, d3, d4⟩ := he1.2.2 j e hj
              obtain ⟨w1, w2, w3, w4⟩ := v11 j q8
              exact ⟨⟨by rw [W.I _ _ (by omega), w1]; exact a1, a2, a3, fun i hi => by rw [W.I _ _ (by omega), v10 _ (by omega)]; exact a4 i hi, a5⟩, by rw [W.I _ _ (by omega), w2]; exact b, by rw [W.I _ _ (by omega), w3]; exact c, by rw [W.I _ _ (by omega), w4]; exact d1, d2, fun i hi => by rw [W.I _ _ (by omega), v5 _ (by omega)]; exact d3 i hi, d4⟩
            · by_cases q9 : j = es.length
              · subst q9
                simp at hj
                subst hj
                exact ⟨⟨by rw [W.I _ _ (by omega)]; exact v6, by show 1 ≤ h.length; omega, hhl, fun i hi => by rw [W.I _ _ (by omega)]; exact v9 i hi, hby⟩, by rw [W.I _ _ (by omega)]; exact v7, by rw [W.I _ _ (by omega)]; exact v8, by rw [W.I _ _ (by omega)]; exact v3, q6, fun i hi => by rw [W.I _ _ (by omega)]; exact v4 i hi, s4⟩
              · rw [List.getElem?_eq_none (by simp; omega)] at hj; cases hj
          | succ j ih =>
            intro i τ hj hf v1 v2 v3 v4 v5 v6 v7 v8 v9 v10 v11
            refine b_Model_entry_156 ?_
            rw [nI_clamp (show es.length < 2 ^ 31 by omega), v3]
            refine ⟨by rw [zn_1173]; exact vp_in_nI (by omega) (by omega), fun q => absurd q (nI_ge (by omega) (by omega)), fun _ => ?_⟩
            have e5 : zI τ 1118 (12000 * (k + 1) + i) = l.getD i 0 := by rw [hf.I _ _ (by omega)]; exact s3 i (by omega)
            rw [z12k, z6000k, nI_clamp (by omega), nI_clamp (by omega), e5, zbv_B (by decide +kernel) (zby_get s4 (by omega)), nI_1]
            refine ⟨by rw [zn_1118]; exact vp_in_nI (by omega) (by omega), by rw [show zN 1172 = 96000 from by decide +kernel]; exact vp_in_nI (by omega) (by omega), ?_⟩
            rintro σ22 rfl
            have W : zfm (fun r i => r = 1172) τ (zwI τ 1172 (6000 * es.length + i) (l.getD i 0)) := (zfm.refl _ τ).wI rfl
            refine ih (i + 1) _ (by omega) (hf.wI (by omega)) ⟨by rw [W.I _ _ (by omega)]; exact v1.1, v1.2.1, fun u hu => by simp at hu⟩ (by rw [W.I _ _ (by omega)]; exact v2) (by rw [W.I _ _ (by omega)]; exact v3) (fun u hu => ?_) (fun u hu => ?_) (by rw [W.I _ _ (by omega)]; exact v6) (by rw [W.I _ _ (by omega)]; exact v7) (by rw [W.I _ _ (by omega)]; exact v8) (fun u hu => by rw [W.I _ _ (by omega)]; exact v9 u hu) (fun u hu => by rw [W.I _ _ (by omega)]; exact v10 u hu) (fun u hu => by rw [W.I _ _ (by omega), W.I _ _ (by omega), W.I _ _ (by omega), W.I _ _ (by omega)]; exact v11 u hu)
            · rw [zIwI]
              by_cases q : u = i
              · rw [q, if_pos ⟨rfl, rfl⟩]
              · rw [if_neg (by omega)]; exact v4 u (by omega)
            · rw [zIwI, if_neg (by omega)]; exact v5 u hu
        -- the names
        have key1 : ∀ j i τ, i + j = h.length → zfm (fun r _ => r = 1168) σ1 τ → (∀ u, u < i → zI τ 1168 (100 * es.length + u) = h.getD u 0) → (∀ u, u < 100 * es.length → zI τ 1168 u = zI σ1 1168 u) → L_Model_entry_73 1116 (nI (k + 1)) m t (nI es.length) (nI i) τ K E := by
          intro j
          induction j with
          | zero =>
            intro i τ hj hf v9 v10
            have hi : i = h.length := by omega
            subst hi
            refine b_Model_entry_73 ?_
            have e1 : zI τ 1116 103 = nI h.length := by rw [hf.I _ _ (by omega)]; exact hh1.1
            rw [e1, nI_clamp (by omega), nI_clamp (by omega)]
            refine ⟨fun _ => ⟨by rw [zn_1169]; exact vp_in_nI (by omega) (by omega), ?_⟩, fun q => absurd (nI_le (Nat.le_refl _) (by omega)) q⟩
            rintro σ14 rfl σ15 rfl
            refine ⟨by rw [zn_1170]; exact vp_in_nI (by omega) (by omega), ?_⟩
            rintro σ16 rfl
            refine ⟨by rw [zn_1171]; exact vp_in_nI (by omega) (by omega), ?_⟩
            rintro σ17 rfl
            refine ⟨by rw [zn_1119]; exact vp_in_nI (by omega) (by omega), by rw [zn_1173]; exact vp_in_nI (by omega) (by omega), ?_⟩
            rintro σ18 rfl
            have W : zfm (fun r i => (r = 1169 ∧ i = es.length) ∨ (r = 1116 ∧ i = 103) ∨ (r = 1170 ∧ i = es.length) ∨ (r = 1171 ∧ i = es.length)) τ (zwI (zwI (zwI (zwI τ 1169 es.length (nI h.length)) 1116 103 0) 1170 es.length m) 1171 es.length t) := by
              refine ((((zfm.refl _ τ).wI ?_).wI ?_).wI ?_).wI ?_ <;> omega
            have x1 : zI (zwI (zwI (zwI (zwI τ 1169 es.length (nI h.length)) 1116 103 0) 1170 es.length m) 1171 es.length t) 1169 es.length = nI h.length := by simp [zIwI]
            have x2 : zI (zwI (zwI (zwI (zwI τ 1169 es.length (nI h.length)) 1116 103 0) 1170 es.length m) 1171 es.length t) 1170 es.length = m := by simp [zIwI]
            have x3 : zI (zwI (zwI (zwI (zwI τ 1169 es.length (nI h.length)) 1116 103 0) 1170 es.length m) 1171 es.length t) 1171 es.length = t := by simp [zIwI]
            have x4 : zI (zwI (zwI (zwI (zwI τ 1169 es.length (nI h.length)) 1116 103 0) 1170 es.length m) 1171 es.length t) 1116 103 = 0 := by simp [zIwI]
            generalize zwI (zwI (zwI (zwI τ 1169 es.length (nI h.length)) 1116 103 0) 1170 es.length m) 1171 es.length t = υ at W x1 x2 x3 x4
            have x5 : zI υ 1119 (k + 1) = nI l.length := by rw [W.I _ _ (by omega), hf.I _ _ (by omega)]; exact s1
            rw [x5]
            have V : zfm (fun r i => r = 1173 ∧ i = es.length) υ (zwI υ 1173 es.length (nI l.length)) := (zfm.refl _ υ).wI ⟨rfl, rfl⟩
            refine key2 l.length 0 _ (by omega) (((hf.mono (fun r i q => by omega)).trans (W.mono (fun r i q => by omega))).wI (by omega)) ⟨by rw [V.I _ _ (by omega), x4]; rfl, by simp, fun u hu => by simp at hu⟩ (by rw [V.I _ _ (by omega), W.I _ _ (by omega), hf.I _ _ (by omega)]; exact he1.1) (by simp [zIwI]) (fun u hu => by omega) (fun u hu => by rw [V.I _ _ (by omega), W.I _ _ (by omega), hf.I _ _ (by omega)]) (by rw [V.I _ _ (by omega)]; exact x1) (by rw [V.I _ _ (by omega)]; exact x2) (by rw [V.I _ _ (by omega)]; exact x3) (fun u hu => by rw [V.I _ _ (by omega), W.I _ _ (by omega)]; exact v9 u hu) (fun u hu => by rw [V.I _ _ (by omega), W.I _ _ (by omega)]; exact v10 u hu) (fun u hu => ?_)
            rw [V.I _ _ (by omega), V.I _ _ (by omega), V.I _ _ (by omega), V.I _ _ (by omega), W.I _ _ (by omega), W.I _ _ (by omega), W.I _ _ (by omega), W.I _ _ (by omega), hf.I _ _ (by omega), hf.I _ _ (by omega), hf.I _ _ (by omega), hf.I _ _ (by omega)]
            exact ⟨rfl, rfl, rfl, rfl⟩
          | succ j ih =>
            intro i τ hj hf v9 v10
            refine b_Model_entry_73 ?_
            have e1 : zI τ 1116 103 = nI h.length := by rw [hf.I _ _ (by omega)]; exact hh1.1
            have e2 : zI τ 1180 i = h.getD i 0 := by rw [hf.I _ _ (by omega)]; exact hh1.2.2 i (by omega)
            rw [e1]
            refine ⟨fun q => absurd q (nI_ge (by omega) (by omega)), fun _ => ?_⟩
            rw [z100k, nI_clamp (show i < 2 ^ 31 by omega), nI_clamp (by omega), e2, zbv_B (by decide +kernel) (zby_get hby (by omega)), nI_1]
            refine ⟨by rw [zn_1180]; exact vp_in_nI (by omega) (by omega), by rw [zn_1168]; exact vp_in_nI (by omega) (by omega), ?_⟩
            rintro σ19 rfl
            refine ih (i + 1) _ (by omega) (hf.wI rfl) (fun u hu => ?_) (fun u hu => ?_)
            · rw [zIwI]
              by_cases q : u = i
              · rw [q, if_pos ⟨rfl, rfl⟩]
              · rw [if_neg (by omega)]; exact v9 u (by omega)
            · rw [zIwI, if_neg (by omega)]; exact v10 u hu
        exact key1 h.length 0 σ1 (by omega) (zfm.refl _ _) (fun u hu => by omega) (fun u hu => rfl)
      · rw [if_pos (by omega), if_neg (by omega)] at hk; exact hk σ1 f1 hh1 he1
      · rw [if_neg (by omega)] at hk; exact hk σ1 f1 hh1 he1
-- the small ones
theorem h_fault {σ : zS} {K : zKt} {E : zEt} {w r p c : Int32} (h1 : zI σ 10 24 = r) (h2 : zI σ 10 25 = p) (h3 : zI σ 10 26 = c) (hk : K (some (.int (if w = 0 then r else if w = 1 then p else if w = 2 then c else -2))) σ) : X_House_fault true [.ref 10, .int w] σ K E := by
  refine b_House_fault ?_
  rw [h1, h2, h3]
  refine ⟨fun q => ⟨fun q2 => ⟨fun q3 => ?_, fun q3 => ?_⟩, fun q2 => ?_⟩, fun q => ?_⟩
  · rw [if_neg q, if_neg q2, if_neg q3] at hk; exact hk
  · rw [if_neg q, if_neg q2, if_pos q3] at hk; exact hk
  · rw [if_neg q, if_pos q2] at hk; exact hk
  · rw [if_pos q] at hk; exact hk
theorem m_fault {σ : zS} {K : zKt} {E : zEt} {w r p c : Int32} (h1 : zI σ 1116 79 = r) (h2 : zI σ 1116 80 = p) (h3 : zI σ 1116 81 = c) (hk : ∀ τ, zfm zcS σ τ → K (some (.int (if w = 0 then r else if w = 1 then p else if w = 2 then c else -2))) τ) : X_Model_fault true [.ref 1116, .int w] σ K E := by
  refine b_Model_fault ?_
  rintro σ1 rfl
  replace hk := hk _ (zcS_w σ)
  rw [(zcS_w σ).I _ _ (by omega), (zcS_w σ).I _ _ (by omega), (zcS_w σ).I _ _ (by omega), h1, h2, h3]
  refine ⟨fun q => ⟨fun q2 => ⟨fun q3 => ?_, fun q3 => ?_⟩, fun q2 => ?_⟩, fun q => ?_⟩
  · rw [if_neg q, if_neg q2, if_neg q3] at hk; exact hk
  · rw [if_neg q, if_neg q2, if_pos q3] at hk; exact hk
  · rw [if_neg q, if_pos q2] at hk; exact hk
  · rw [if_pos q] at hk; exact hk
theorem h_bits {σ : zS} {K : zKt} {E : zEt} (hk : K (some (.int (if zI σ 10 13 = 0 then 0 else zI σ 10 12))) σ) : X_House_bits true [.ref 10] σ K E := by
  refine b_House_bits ⟨fun q => ?_, fun q => ?_⟩
  · rw [if_pos q] at hk; exact hk
  · rw [if_neg q] at hk; exact hk
theorem m_bits {σ : zS} {K : zKt} {E : zEt} (hk : ∀ τ, zfm zcS σ τ → K (some (.int (zI σ 1116 83))) τ) : X_Model_bits true [.ref 1116] σ K E := by
  refine b_Model_bits ?_
  rintro σ1 rfl
  rw [(zcS_w σ).I _ _ (by omega)]
  exact hk _ (zcS_w σ)

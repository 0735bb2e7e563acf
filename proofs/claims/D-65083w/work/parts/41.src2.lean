/-! PART 41: the class' source: bits, numbers -/
theorem zo8 (x : Int32) : ∃ j, j < 256 ∧ x &&& 255 = nI j := by
  obtain ⟨j, hj, e⟩ := vp_in_of (zand_lt x) (by decide)
  exact ⟨j, hj, e⟩
theorem zirT : ∀ j, j < 256 → ∀ k, k < 8 → zir (zir (nI j) (nI k)) 1 = zir (nI j) (nI (k + 1)) ∧ zir (zib (nI j)) (nI k) &&& 1 = zir (nI j) (nI k) &&& 1 := by decide +kernel
theorem zir1 (x : Int32) {k : Nat} (hk : k < 8) : zir (zir (x &&& 255) (nI k)) 1 = zir (x &&& 255) (nI (k + 1)) := by
  obtain ⟨j, hj, e⟩ := zo8 x
  rw [e]; exact (zirT j hj k hk).1
theorem zirb {x : Int32} (hx : zby x) {k : Nat} (hk : k < 8) : zir (x &&& 255) (nI k) &&& 1 = zir x (nI k) &&& 1 := by
  obtain ⟨j, hj, e⟩ := zo8 x
  have : x = zib (nI j) := by rw [← e, zib_m, zib_by hx]
  rw [e]
  conv => rhs; rw [this]
  exact (zirT j hj k hk).2.symm
section HS
variable {S : Nat → Nat → Prop} {σ0 σ : zS} {s u R W f e : Nat} {l : List Int32} {hi : Bool} {st : zRst} {K : zKt} {E : zEt}
theorem zwsr {σ : zS} {s : Nat} {v w : Int32} : zfm (fun r i => r = s ∧ (i = 2 ∨ i = 4 ∨ i = 5 ∨ i = 6)) σ (zwI (zwI σ s 6 v) s 5 w) := by
  refine ((zfm.refl _ σ).wI ?_).wI ?_ <;> omega
theorem s_lowBit (h : zHk S σ0 s u R W f e l false st σ) (hk : zRun (rBitL l e st) (zHf S σ0 W E) (fun v st' => ∀ τ, zHk S σ0 s u R W f e l false st' τ → K (some (.int v)) τ)) : X_Source_lowBit true [.ref s] σ K E := by
  have h0 := h
  obtain ⟨h1, ⟨g1, g2, g3, g4, g5, g6, g7, g8, g9, g10⟩, h3, h4, h5, h6, h7, h8, h9⟩ := h
  have hl := h3.len
  have hby := h3.2.2.2.2
  unfold rBitL at hk
  refine b_Source_lowBit ⟨g1, ?_⟩
  rw [g7, show (0 : Int32) = nI 0 from rfl, nI_eq (by omega) (by omega)]
  refine ⟨fun q => ?_, fun q => ?_⟩
  · rw [if_pos (by omega)] at hk
    have hlt : st.1 / 8 < l.length := by omega
    have hrd : st.2.1 = true := by
      cases hr : st.2.1
      · have := g10.2.2 hr; omega
      · rfl
    refine b_Source_lowBit_21 ⟨g1, ?_⟩
    rintro σ7 rfl σ8 rfl
    have e5 : zI (zwI σ s 6 (zI σ s 6 - 1)) s 5 = zir (zgt l (st.1 / 8)) (nI (st.1 % 8)) := by simp [zIwI]; exact g8 (by omega)
    rw [e5, zirb (zby_get hby hlt) (by omega), zir1 _ (by omega)]
    refine hk _ (h0.w zwsr rfl ⟨g1, g2, by simp [zIwI]; exact g3, by simp [zIwI]; exact g4, ?_, ?_, ?_, fun q2 => ?_, ?_, ?_⟩)
    · simp [zIwI]; rw [g5]; congr 1; omega
    · simp [zIwI]; rw [g6, hrd]
    · simp [zIwI]; rw [g7, show (1 : Int32) = nI 1 from rfl, nI_sub (by omega)]; congr 1; omega
    · have q2 : (st.1 + 1) % 8 ≠ 0 := q2
      have d1 : (st.1 + 1) / 8 = st.1 / 8 := by omega
      have d2 : (st.1 + 1) % 8 = st.1 % 8 + 1 := by omega
      show zI (zwI _ s 5 _) s 5 = zir (zgt l ((st.1 + 1) / 8)) (nI ((st.1 + 1) % 8))
      rw [zIwI, if_pos ⟨rfl, rfl⟩, d1, d2]
    · show st.1 + 1 ≤ 8 * e; omega
    · exact ⟨g10.1, fun _ => Nat.succ_pos _, fun q => by cases q⟩
  · have hp8 : st.1 % 8 = 0 := by omega
    refine s_octet h0 ?_
    unfold rOct
    rw [show (st.1 + 7) / 8 = st.1 / 8 by omega]
    by_cases c : st.1 / 8 < e
    · rw [if_pos c] at hk ⊢
      intro τ ht
      have hlt : st.1 / 8 < l.length := by omega
      show ∀ σ4 : zS, _ → _
      rintro σ4 rfl σ5 rfl
      have ht0 := ht
      obtain ⟨t1, ⟨r1, r2, r3, r4, r5, r6, r7, r8, r9, r10⟩, t3, -⟩ := ht
      refine b_Source_lowBit_21 ⟨g1, ?_⟩
      rintro σ7 rfl σ8 rfl
      have e5 : zI (zwI (zwI (zwI τ s 5 (zgt l (st.1 / 8))) s 6 8) s 6 (zI (zwI (zwI τ s 5 (zgt l (st.1 / 8))) s 6 8) s 6 - 1)) s 5 = zir (zgt l (st.1 / 8)) (nI 0) := by
        simp [zIwI]
        obtain ⟨j, hj, e⟩ := zo8 (l.getD (st.1 / 8) 0)
        show zgt l (st.1 / 8) = _
        unfold zgt
        rw [e]
        have : ∀ j, j < 256 → nI j = zir (nI j) (nI 0) := by decide +kernel
        exact this j hj
      rw [e5, zirb (zby_get hby hlt) (by omega), zir1 _ (by omega)]
      have hf : zfm (fun r i => r = s ∧ (i = 2 ∨ i = 4 ∨ i = 5 ∨ i = 6)) τ (zwI (zwI (zwI (zwI τ s 5 (zgt l (st.1 / 8))) s 6 8) s 6 (zI (zwI (zwI τ s 5 (zgt l (st.1 / 8))) s 6 8) s 6 - 1)) s 5 (zir (zgt l (st.1 / 8)) (nI (0 + 1)))) := by
        refine ((((zfm.refl _ τ).wI ?_).wI ?_).wI ?_).wI ?_ <;> omega
      have hk := hk (zwI (zwI (zwI (zwI τ s 5 (zgt l (st.1 / 8))) s 6 8) s 6 (zI (zwI (zwI τ s 5 (zgt l (st.1 / 8))) s 6 8) s 6 - 1)) s 5 (zir (zgt l (st.1 / 8)) (nI (0 + 1)))) (ht0.w hf rfl ⟨g1, r2, by simp [zIwI]; exact r3, by simp [zIwI]; exact r4, ?_, ?_, ?_, fun q2 => ?_, ?_, ?_⟩)
      · rw [hp8] at hk; exact hk
      · simp [zIwI]; rw [r5]; congr 1; show (8 * (st.1 / 8 + 1) + 7) / 8 = (st.1 + 1 + 7) / 8; omega
      · simp [zIwI]; exact r6
      · simp [zIwI]; rw [show (st.1 + 1) % 8 = 1 by omega]; decide
      · have d1 : (st.1 + 1) / 8 = st.1 / 8 := by omega
        have d2 : (st.1 + 1) % 8 = 1 := by omega
        show zI (zwI _ s 5 _) s 5 = zir (zgt l ((st.1 + 1) / 8)) (nI ((st.1 + 1) % 8))
        rw [zIwI, if_pos ⟨rfl, rfl⟩, d1, d2]
      · show st.1 + 1 ≤ 8 * e; omega
      · exact ⟨g10.1, fun _ => Nat.succ_pos _, fun q => by cases q⟩
    · rw [if_neg c] at hk ⊢
      exact hk
theorem s_highBit (h : zHk S σ0 s u R W f e l true st σ) (hk : zRun (rBitH l e st) (zHf S σ0 W E) (fun v st' => ∀ τ, zHk S σ0 s u R W f e l true st' τ → K (some (.int v)) τ)) : X_Source_highBit true [.ref s] σ K E := by
  have h0 := h
  obtain ⟨h1, ⟨g1, g2, g3, g4, g5, g6, g7, g8, g9, g10⟩, h3, h4, h5, h6, h7, h8, h9⟩ := h
  have hl := h3.len
  have hby := h3.2.2.2.2
  unfold rBitH at hk
  refine b_Source_highBit ⟨g1, ?_⟩
  rw [g7, show (0 : Int32) = nI 0 from rfl, nI_eq (by omega) (by omega)]
  have fin : ∀ τ, zHk S σ0 s u R W f e l true (8 * (st.1 / 8 + 1), true, st.2.2) τ ∨ zHk S σ0 s u R W f e l true st τ → zI τ s 2 = nI (st.1 / 8 + 1) → zI τ s 4 = 1 → zI τ s 5 = zgt l (st.1 / 8) → zI τ s 6 = nI (8 - st.1 % 8) → st.1 / 8 < e → L_Source_highBit_21 s τ K E := by
    intro τ ht r5 r6 r7 r8 c
    rw [if_pos c] at hk
    have hlt : st.1 / 8 < l.length := by omega
    refine b_Source_highBit_21 ⟨g1, ?_⟩
    rintro σ7 rfl
    have e6 : nI (8 - st.1 % 8) - 1 = nI (7 - st.1 % 8) := by rw [show (1 : Int32) = nI 1 from rfl, nI_sub (by omega)]; congr 1; omega
    rw [r8, e6]
    have e5 : zI (zwI τ s 6 (nI (7 - st.1 % 8))) s 5 = zgt l (st.1 / 8) := by simp [zIwI]; exact r7
    have e7 : zI (zwI τ s 6 (nI (7 - st.1 % 8))) s 6 = nI (7 - st.1 % 8) := by simp [zIwI]
    rw [e5, e7, zirb (zby_get hby hlt) (by omega)]
    have hf : zfm (fun r i => r = s ∧ (i = 2 ∨ i = 4 ∨ i = 5 ∨ i = 6)) τ (zwI τ s 6 (nI (7 - st.1 % 8))) := by
      refine (zfm.refl _ τ).wI ?_; omega
    have G : ∀ st0 : zRst, zHk S σ0 s u R W f e l true st0 τ → st0.2.2 = st.2.2 → zHk S σ0 s u R W f e l true (st.1 + 1, true, st.2.2) (zwI τ s 6 (nI (7 - st.1 % 8))) := by
      intro st0 hs ho
      have hs1 := hs
      obtain ⟨-, ⟨-, k2, k3, k4, -⟩, -⟩ := hs
      refine hs1.w hf ho.symm ⟨g1, k2, by simp [zIwI]; exact k3, by simp [zIwI]; exact k4, ?_, by simp [zIwI]; exact r6, ?_, fun q2 => ?_, ?_, ⟨g10.1, fun _ => Nat.succ_pos _, fun q => by cases q⟩⟩
      · simp [zIwI]; rw [r5]; congr 1; show _ = (st.1 + 1 + 7) / 8; omega
      · simp [zIwI]; congr 1; omega
      · have q2 : (st.1 + 1) % 8 ≠ 0 := q2
        have d1 : (st.1 + 1) / 8 = st.1 / 8 := by omega
        show _ = zgt l ((st.1 + 1) / 8)
        rw [d1]; exact e5
      · show st.1 + 1 ≤ 8 * e; omega
    rcases ht with ht | ht
    · exact hk _ (G _ ht rfl)
    · exact hk _ (G _ ht rfl)
  refine ⟨fun q => ?_, fun q => ?_⟩
  · have hrd : st.2.1 = true := by
      cases hr : st.2.1
      · have := g10.2.2 hr; omega
      · rfl
    exact fin σ (Or.inr h0) (by rw [g5]; congr 1; omega) (by rw [g6, hrd]; rfl) (g8 (by omega)) (by rw [g7]; congr 1; omega) (by omega)
  · have hp8 : st.1 % 8 = 0 := by omega
    refine s_octet h0 ?_
    unfold rOct
    rw [show (st.1 + 7) / 8 = st.1 / 8 by omega]
    by_cases c : st.1 / 8 < e
    · rw [if_pos c]
      intro τ ht
      have ht0 := ht
      show ∀ σ4 : zS, _ → _
      rintro σ4 rfl σ5 rfl
      obtain ⟨t1, ⟨r1, r2, r3, r4, r5, r6, r7, r8, r9, r10⟩, t3, -⟩ := ht
      have hf : zfm (fun r i => r = s ∧ (i = 2 ∨ i = 4 ∨ i = 5 ∨ i = 6)) τ (zwI (zwI τ s 5 (zgt l (st.1 / 8))) s 6 8) := by
        refine ((zfm.refl _ τ).wI ?_).wI ?_ <;> omega
      -- the state between: as the fields stand
      have hk' := hk
      rw [if_pos c] at hk'
      have hlt : st.1 / 8 < l.length := by omega
      refine b_Source_highBit_21 ⟨g1, ?_⟩
      rintro σ7 rfl
      have e6 : zI (zwI (zwI τ s 5 (zgt l (st.1 / 8))) s 6 8) s 6 - 1 = nI 7 := by simp [zIwI]; decide
      rw [e6]
      have e5 : zI (zwI (zwI (zwI τ s 5 (zgt l (st.1 / 8))) s 6 8) s 6 (nI 7)) s 5 = zgt l (st.1 / 8) := by
        rw [zIwI, if_neg (by omega), zIwI, if_neg (by omega), zIwI, if_pos ⟨rfl, rfl⟩]
      have e7 : zI (zwI (zwI (zwI τ s 5 (zgt l (st.1 / 8))) s 6 8) s 6 (nI 7)) s 6 = nI 7 := by simp [zIwI]
      rw [e5, e7, zirb (zby_get hby hlt) (by omega)]
      have hf2 : zfm (fun r i => r = s ∧ (i = 2 ∨ i = 4 ∨ i = 5 ∨ i = 6)) τ (zwI (zwI (zwI τ s 5 (zgt l (st.1 / 8))) s 6 8) s 6 (nI 7)) := by
        refine (((zfm.refl _ τ).wI ?_).wI ?_).wI ?_ <;> omega
      have := hk' (zwI (zwI (zwI τ s 5 (zgt l (st.1 / 8))) s 6 8) s 6 (nI 7)) (ht0.w hf2 rfl ⟨g1, r2, by simp [zIwI]; exact r3, by simp [zIwI]; exact r4, ?_, ?_, ?_, fun q2 => ?_, ?_, ?_⟩)
      · unfold zbH at this; rw [hp8] at this; exact this
      · simp [zIwI]; rw [r5]; congr 1; show (8 * (st.1 / 8 + 1) + 7) / 8 = (st.1 + 1 + 7) / 8; omega
      · simp [zIwI]; exact r6
      · simp [zIwI]; rw [show (st.1 + 1) % 8 = 1 by omega]
      · have d1 : (st.1 + 1) / 8 = st.1 / 8 := by omega
        show _ = zgt l ((st.1 + 1) / 8)
        rw [d1]; exact e5
      · show st.1 + 1 ≤ 8 * e; omega
      · exact ⟨g10.1, fun _ => Nat.succ_pos _, fun q => by cases q⟩
    · rw [if_neg c] at hk ⊢
      exact hk
theorem s_lowBits {n : Nat} (hn : n < 2 ^ 31) (h : zHk S σ0 s u R W f e l false st σ) (hk : zRun (rBitsL l e n 0 0 st) (zHf S σ0 W E) (fun v st' => ∀ τ, zHk S σ0 s u R W f e l false st' τ → K (some (.int v)) τ)) : X_Source_lowBits true [.ref s, .int (nI n)] σ K E := by
  have key : ∀ j k v st σ, k + j = n → zHk S σ0 s u R W f e l false st σ → zRun (rBitsL l e j k v st) (zHf S σ0 W E) (fun v st' => ∀ τ, zHk S σ0 s u R W f e l false st' τ → K (some (.int v)) τ) → L_Source_lowBits_4 s (nI n) v (nI k) σ K E := by
    intro j
    induction j with
    | zero =>
      intro k v st σ hj h hk
      exact b_Source_lowBits_4 ⟨fun _ => hk σ h, fun q => absurd (nI_le (by omega) (by omega)) q⟩
    | succ j ih =>
      intro k v st σ hj h hk
      refine b_Source_lowBits_4 ⟨fun q => absurd q (nI_ge (by omega) (by omega)), fun _ => ⟨h.2.1.1, s_lowBit h ?_⟩⟩
      rw [rBitsL, zRun_bd] at hk
      refine zRun_m hk (fun _ q => q) fun x st' q τ ht => ?_
      show L_Source_lowBits_4 s (nI n) (v ||| zil x (nI k)) (nI k + 1) τ K E
      rw [nI_1]
      exact ih (k + 1) _ st' τ (by omega) ht q
  exact b_Source_lowBits (key n 0 0 st σ (by omega) h hk)
theorem s_highBits {n : Nat} (hn : n < 2 ^ 31) (h : zHk S σ0 s u R W f e l true st σ) (hk : zRun (rBitsH l e n 0 st) (zHf S σ0 W E) (fun v st' => ∀ τ, zHk S σ0 s u R W f e l true st' τ → K (some (.long v)) τ)) : X_Source_highBits true [.ref s, .int (nI n)] σ K E := by
  have key : ∀ j k v st σ, k + j = n → zHk S σ0 s u R W f e l true st σ → zRun (rBitsH l e j v st) (zHf S σ0 W E) (fun v st' => ∀ τ, zHk S σ0 s u R W f e l true st' τ → K (some (.long v)) τ) → L_Source_highBits_5 s (nI n) v (nI k) σ K E := by
    intro j
    induction j with
    | zero =>
      intro k v st σ hj h hk
      exact b_Source_highBits_5 ⟨fun _ => hk σ h, fun q => absurd (nI_le (by omega) (by omega)) q⟩
    | succ j ih =>
      intro k v st σ hj h hk
      refine b_Source_highBits_5 ⟨fun q => absurd q (nI_ge (by omega) (by omega)), fun _ => ⟨h.2.1.1, s_highBit h ?_⟩⟩
      rw [rBitsH, zRun_bd] at hk
      refine zRun_m hk (fun _ q => q) fun x st' q τ ht => ?_
      show ∀ x4 : Int64, x4 = zll v 1 ||| x.toInt64 → L_Source_highBits_5 s (nI n) x4 (nI k + 1) τ K E
      rintro x4 rfl
      rw [nI_1]
      exact ih (k + 1) _ st' τ (by omega) ht q
  exact b_Source_highBits (key n 0 0 st σ (by omega) h hk)
theorem s_low {n : Nat} (hn : n < 2 ^ 31) (h : zHk S σ0 s u R W f e l hi st σ) (hk : zRun (rLow l e n 0 0 st) (zHf S σ0 W E) (fun v st' => ∀ τ, zHk S σ0 s u R W f e l hi st' τ → K (some (.long v)) τ)) : X_Source_low true [.ref s, .int (nI n)] σ K E := by
  have key : ∀ j k v st σ, k + j = n → zHk S σ0 s u R W f e l hi st σ → zRun (rLow l e j k v st) (zHf S σ0 W E) (fun v st' => ∀ τ, zHk S σ0 s u R W f e l hi st' τ → K (some (.long v)) τ) → L_Source_low_5 s (nI n) v (nI k) σ K E := by
    intro j
    induction j with
    | zero =>
      intro k v st σ hj h hk
      exact b_Source_low_5 ⟨fun _ => hk σ h, fun q => absurd (nI_le (by omega) (by omega)) q⟩
    | succ j ih =>
      intro k v st σ hj h hk
      refine b_Source_low_5 ⟨fun q => absurd q (nI_ge (by omega) (by omega)), fun _ => ⟨h.2.1.1, s_octet h ?_⟩⟩
      rw [rLow, zRun_bd] at hk
      refine zRun_m hk (fun _ q => q) fun x st' q τ ht => ?_
      show ∀ x4 : Int64, x4 = v ||| zll x.toInt64 (8 * nI k) → L_Source_low_5 s (nI n) x4 (nI k + 1) τ K E
      rintro x4 rfl
      rw [nI_1]
      exact ih (k + 1) _ st' τ (by omega) ht q
  exact b_Source_low (key n 0 0 st σ (by omega) h hk)
theorem s_high {n : Nat} (hn : n < 2 ^ 31) (h : zHk S σ0 s u R W f e l hi st σ) (hk : zRun (rHigh l e n 0 st) (zHf S σ0 W E) (fun v st' => ∀ τ, zHk S σ0 s u R W f e l hi st' τ → K (some (.long v)) τ)) : X_Source_high true [.ref s, .int (nI n)] σ K E := by
  have key : ∀ j k v st σ, k + j = n → zHk S σ0 s u R W f e l hi st σ → zRun (rHigh l e j v st) (zHf S σ0 W E) (fun v st' => ∀ τ, zHk S σ0 s u R W f e l hi st' τ → K (some (.long v)) τ) → L_Source_high_5 s (nI n) v (nI k) σ K E := by
    intro j
    induction j with
    | zero =>
      intro k v st σ hj h hk
      exact b_Source_high_5 ⟨fun _ => hk σ h, fun q => absurd (nI_le (by omega) (by omega)) q⟩
    | succ j ih =>
      intro k v st σ hj h hk
      refine b_Source_high_5 ⟨fun q => absurd q (nI_ge (by omega) (by omega)), fun _ => ⟨h.2.1.1, s_octet h ?_⟩⟩
      rw [rHigh, zRun_bd] at hk
      refine zRun_m hk (fun _ q => q) fun x st' q τ ht => ?_
      show ∀ x4 : Int64, x4 = zll v 8 ||| x.toInt64 → L_Source_high_5 s (nI n) x4 (nI k + 1) τ K E
      rintro x4 rfl
      rw [nI_1]
      exact ih (k + 1) _ st' τ (by omega) ht q
  exact b_Source_high (key n 0 0 st σ (by omega) h hk)
theorem s_ends (h : zHk S σ0 s u R W f e l hi st σ) (hk : zRun (rEnds e st) (zHf S σ0 W E) (fun _ st' => ∀ τ, zHk S σ0 s u R W f e l hi st' τ → K none τ)) : X_Source_ends true [.ref s] σ K E := by
  have h0 := h
  obtain ⟨h1, ⟨g1, g2, g3, g4, g5, g6, g7, g8, g9, g10⟩, h3, h4, h5, h6, h7, h8, h9⟩ := h
  have hl := h3.len
  unfold rEnds at hk
  refine b_Source_ends ⟨g1, ?_⟩
  rw [g5, g4, nI_leI (by omega) (by omega)]
  refine ⟨fun q => ?_, fun q => ?_⟩
  · rw [if_neg (by omega)] at hk
    exact hk σ h0
  · rw [if_pos (by omega)] at hk
    refine ⟨zKbig _ h8.1, h8.2, ?_⟩
    rintro σ7 rfl
    have es : zI (znw σ) s 2 = nI ((st.1 + 7) / 8) := by
      rw [zI_nw, if_neg (by have := zK_lt g1 (by decide); have := h8.1; omega)]; exact g5
    rw [es]
    refine ⟨by have := h8.1; omega, s_Fault (S := fun _ _ => False) h8 fun τ hx q1 q2 => ⟨zKbig _ h8.1, by rw [hx.1]; omega, ?_⟩⟩
    exact h0.flt hk ⟨hx.1, fun r i a b => hx.2 r i a (by simp)⟩ q1 q2 (h6.fx hx h8.1)
theorem s_isThrough (h : zHk S σ0 s u R W f e l hi st σ) (hk : K (some (.int (zBo (decide ((st.1 + 7) / 8 = e))))) σ) : X_Source_isThrough true [.ref s] σ K E := by
  obtain ⟨h1, ⟨g1, g2, g3, g4, g5, g6, g7, g8, g9, g10⟩, h3, h4, h5, h6, h7, h8, h9⟩ := h
  have hl := h3.len
  refine b_Source_isThrough ⟨g1, ?_⟩
  rw [g5, g4, nI_eq (by omega) (by omega)]
  refine ⟨fun q => ?_, fun q => ?_⟩
  · rw [decide_eq_false q] at hk; exact hk
  · rw [decide_eq_true q] at hk; exact hk
theorem s_copy {d n : Nat} (hn : n < 2 ^ 31) (hd : d < 2 ^ 31) (h1 : 1 ≤ d) (h : zHk S σ0 s u R W f e l hi st σ) (h2 : d ≤ st.2.2.length) (hk : zRun (rCopy f d n st) (zHf S σ0 W E) (fun _ st' => ∀ τ, zHk S σ0 s u R W f e l hi st' τ → K none τ)) : X_Out_copy true [.ref u, .int (nI d), .int (nI n)] σ K E := by
  have key : ∀ j k st σ, k + j = n → zHk S σ0 s u R W f e l hi st σ → d ≤ st.2.2.length → zRun (rCopy f d j st) (zHf S σ0 W E) (fun _ st' => ∀ τ, zHk S σ0 s u R W f e l hi st' τ → K none τ) → L_Out_copy_2 u (nI d) (nI n) (nI k) σ K E := by
    intro j
    induction j with
    | zero =>
      intro k st σ hj h h2 hk
      exact b_Out_copy_2 ⟨fun _ => hk σ h, fun q => absurd (nI_le (by omega) (by omega)) q⟩
    | succ j ih =>
      intro k st σ hj h h2 hk
      have h0 := h
      obtain ⟨-, -, -, -, h5, h6, -⟩ := h
      have hl := h6.len
      refine b_Out_copy_2 ⟨fun q => absurd q (nI_ge (by omega) (by omega)), fun _ => ⟨h5.1, ?_⟩⟩
      rw [h5.2.1, h6.2.2.1, nI_sub h2]
      refine ⟨h6.1, s_Row_get h6 (by omega) (s_come h0 ?_)⟩
      rw [rCopy, zRun_bd] at hk
      unfold rCome at hk ⊢
      rw [zib_m]
      by_cases c : st.2.2.length = 12000
      · rw [if_pos c] at hk ⊢; exact hk
      · rw [if_neg c] at hk ⊢
        intro τ ht
        show L_Out_copy_2 u (nI d) (nI n) (nI k + 1) τ K E
        rw [nI_1]
        exact ih (k + 1) _ τ (by omega) ht (by simp; omega) hk
  exact b_Out_copy (key n 0 st σ (by omega) h h2 hk)
end HS

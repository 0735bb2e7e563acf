/-! PART 42: the reference's reading -/
def zMd' (S : Nat → Nat → Prop) (A : Nat) : Prop := (S 1116 16 ∧ S 1116 17 ∧ S 1116 19 ∧ S 1116 20 ∧ S 1116 22) ∧ (∀ i, S 1124 i) ∧ A ≠ 1124 ∧ A ≠ 1116
def zMk (S : Nat → Nat → Prop) (σ0 : zS) (A f e : Nat) (l : List Int32) (hi : Bool) (st : zRst) (σ : zS) : Prop :=
  zfm S σ0 σ ∧ (zI σ 1116 19 = 0 ∧ zR σ 1116 13 = A ∧ zI σ 1116 15 = nI e ∧ zI σ 1116 16 = nI (st.1 / 8) ∧ zI σ 1116 17 = nI (st.1 % 8) ∧ zI σ 1116 18 = zBo hi) ∧ (zar σ A l ∧ zK A = 101 ∧ l.length ≤ zN A ∧ zN A < 2 ^ 20 ∧ e ≤ l.length ∧ ∀ x ∈ l, zby x) ∧
  (zI σ 1116 22 = nI st.2.2.length ∧ st.2.2.length ≤ 12000 ∧ zar σ 1124 st.2.2 ∧ ∀ x ∈ st.2.2, zby x) ∧ (st.1 ≤ 8 * e ∧ (st.2.1 = true → 0 < st.1) ∧ (st.2.1 = false → st.1 = 0 ∧ f = 0)) ∧ zMd' S A
def zMf (S : Nat → Nat → Prop) (σ0 : zS) (f : zFlt) (σ : zS) : Prop := zfm S σ0 σ ∧ zI σ 1116 19 = f.1 ∧ f.1 ≠ 0 ∧ zI σ 1116 20 = nI f.2.1 ∧ zI σ 1116 22 = nI f.2.2.length ∧ (S 1116 16 ∧ S 1116 17)
section MR
variable {S : Nat → Nat → Prop} {σ0 σ : zS} {A f e : Nat} {l : List Int32} {hi : Bool} {st : zRst} {K : zKt} {E : zEt} {g : zFlt}
theorem f_fine (h : zMf S σ0 g σ) (hk : K (some (.int 0)) σ) : X_Model_fine true [.ref 1116] σ K E := b_Model_fine ⟨fun _ => hk, fun q => absurd (h.2.1.symm.trans q) h.2.2.1⟩
theorem m_fine (h : zMk S σ0 A f e l hi st σ) (hk : K (some (.int 1)) σ) : X_Model_fine true [.ref 1116] σ K E := b_Model_fine ⟨fun q => absurd h.2.1.1 q, fun _ => hk⟩
theorem f_wrongAt (h : zMf S σ0 g σ) {r p : Int32} (hk : K none σ) : X_Model_wrongAt true [.ref 1116, .int r, .int p] σ K E := b_Model_wrongAt ⟨fun _ => hk, fun q => absurd (h.2.1.symm.trans q) h.2.2.1⟩
theorem f_wrong (h : zMf S σ0 g σ) {r : Int32} (hk : K none σ) : X_Model_wrong true [.ref 1116, .int r] σ K E := b_Model_wrong ⟨fun _ => hk, fun q => absurd (h.2.1.symm.trans q) h.2.2.1⟩
theorem m_wrongAt (h : zMk S σ0 A f e l hi st σ) {r : Int32} {p : Nat} (hr : r ≠ 0) (hk : ∀ τ, zMf S σ0 (r, p, st.2.2) τ → K none τ) : X_Model_wrongAt true [.ref 1116, .int r, .int (nI p)] σ K E := by
  obtain ⟨h1, h2, h3, h4, h5, h6⟩ := h
  refine b_Model_wrongAt ⟨fun q => absurd h2.1 q, fun _ => ?_⟩
  rintro σ1 rfl σ2 rfl
  exact hk _ ⟨(h1.wI h6.1.2.2.1).wI h6.1.2.2.2.1, by simp [zIwI], hr, by simp [zIwI], by simp [zIwI]; exact h4.1, h6.1.1, h6.1.2.1⟩
theorem m_wrong (h : zMk S σ0 A f e l hi st σ) {r : Int32} (hr : r ≠ 0) (hk : ∀ τ, zMf S σ0 (r, zplc f st, st.2.2) τ → K none τ) : X_Model_wrong true [.ref 1116, .int r] σ K E := by
  obtain ⟨h1, h2, h3, h4, h5, h6⟩ := h
  have hpl : zplc f st = if 0 < st.1 % 8 then st.1 / 8 else if 0 < st.1 / 8 then st.1 / 8 - 1 else 0 := by
    unfold zplc
    cases hr : st.2.1
    · obtain ⟨a, b⟩ := h5.2.2 hr
      rw [a, b]; rfl
    · have := h5.2.1 hr
      rw [if_pos rfl]
      split
      · omega
      · rw [if_pos (by omega)]; omega
  have hN := h3.2.2.2.1
  refine b_Model_wrong ⟨fun q => absurd h2.1 q, fun _ => ?_⟩
  rintro σ1 rfl
  have e17 : zI (zwI σ 1116 19 r) 1116 17 = nI (st.1 % 8) := by simp [zIwI]; exact h2.2.2.2.2.1
  have e16 : zI (zwI σ 1116 19 r) 1116 16 = nI (st.1 / 8) := by simp [zIwI]; exact h2.2.2.2.1
  rw [e17, e16]
  have fin : ∀ p, zplc f st = p → K none (zwI (zwI σ 1116 19 r) 1116 20 (nI p)) := by
    intro p hp
    exact hk _ ⟨(h1.wI h6.1.2.2.1).wI h6.1.2.2.2.1, by simp [zIwI], hr, by simp [zIwI, hp], by simp [zIwI]; exact h4.1, h6.1.1, h6.1.2.1⟩
  refine ⟨fun q => ⟨fun q2 => ?_, fun q2 => ?_⟩, fun q => ?_⟩
  · rintro σ2 rfl
    have a : st.1 % 8 ≤ 0 := (nI_leI (b := 0) (by omega) (by decide)).mp q
    have b : st.1 / 8 ≤ 0 := (nI_leI (b := 0) (by omega) (by decide)).mp q2
    exact fin 0 (by rw [hpl, if_neg (by omega), if_neg (by omega)])
  · rintro σ3 rfl
    have a : st.1 % 8 ≤ 0 := (nI_leI (b := 0) (by omega) (by decide)).mp q
    have b : ¬ st.1 / 8 ≤ 0 := fun z => q2 ((nI_leI (b := 0) (by omega) (by decide)).mpr z)
    rw [show (1 : Int32) = nI 1 from rfl, nI_sub (by omega)]
    exact fin _ (by rw [hpl, if_neg (by omega), if_pos (by omega)])
  · rintro σ5 rfl
    have a : ¬ st.1 % 8 ≤ 0 := fun z => q ((nI_leI (b := 0) (by omega) (by decide)).mpr z)
    exact fin _ (by rw [hpl, if_pos (by omega)])
/-- a step of the reader's own fields -/
theorem zMk.w (h : zMk S σ0 A f e l hi st σ) {τ : zS} {st' : zRst} (hf : zfm (fun r i => r = 1116 ∧ (i = 16 ∨ i = 17)) σ τ) (ho : st'.2.2 = st.2.2) (h16 : zI τ 1116 16 = nI (st'.1 / 8)) (h17 : zI τ 1116 17 = nI (st'.1 % 8)) (hp : st'.1 ≤ 8 * e ∧ (st'.2.1 = true → 0 < st'.1) ∧ (st'.2.1 = false → st'.1 = 0 ∧ f = 0)) : zMk S σ0 A f e l hi st' τ := by
  obtain ⟨h1, h2, h3, h4, h5, h6⟩ := h
  have hA := h6.2.2.2
  refine ⟨h1.trans (hf.mono fun r i q => ?_), ⟨by rw [hf.I _ _ (by omega)]; exact h2.1, by rw [hf.R _ _ (by omega)]; exact h2.2.1, by rw [hf.I _ _ (by omega)]; exact h2.2.2.1, h16, h17, by rw [hf.I _ _ (by omega)]; exact h2.2.2.2.2.2⟩, ⟨h3.1.fm hf (by omega), h3.2⟩, ⟨by rw [hf.I _ _ (by omega), ho]; exact h4.1, by rw [ho]; exact h4.2.1, by rw [ho]; exact h4.2.2.1.fm hf (by omega), by rw [ho]; exact h4.2.2.2⟩, hp, h6⟩
  obtain ⟨q1, q2 | q2⟩ := q
  · rw [q1, q2]; exact h6.1.1
  · rw [q1, q2]; exact h6.1.2.1
theorem f_next (h : zMf S σ0 g σ) (hk : K (some (.int 0)) σ) : X_Model_next true [.ref 1116] σ K E := b_Model_next ⟨fun q => absurd (h.2.1.symm.trans q) h.2.2.1, fun _ => hk⟩
theorem m_next (h : zMk S σ0 A f e l hi st σ) (h8 : st.1 % 8 = 0) (hk : zRun (rOct l e st) (fun g => ∀ τ, zMf S σ0 g τ → K (some (.int 0)) τ) (fun v st' => ∀ τ, zMk S σ0 A f e l hi st' τ → K (some (.int v)) τ)) : X_Model_next true [.ref 1116] σ K E := by
  have h0 := h
  obtain ⟨h1, h2, h3, h4, h5, h6⟩ := h
  have hN := h3.2.2.2.1
  unfold rOct at hk
  rw [show (st.1 + 7) / 8 = st.1 / 8 by omega] at hk
  refine b_Model_next ⟨fun _ => ?_, fun q => absurd h2.1 q⟩
  rw [h2.2.2.2.1, h2.2.2.1, nI_ltI (by omega) (by omega), nI_1]
  refine ⟨fun q => ?_, fun q => ?_⟩
  · rw [if_pos q] at hk
    rintro σ1 rfl
    have e16 : zI (zwI σ 1116 16 (nI (st.1 / 8 + 1))) 1116 16 = nI (st.1 / 8 + 1) := by simp [zIwI]
    have hW : zfm (fun r i => r = 1116 ∧ (i = 16 ∨ i = 17)) σ (zwI σ 1116 16 (nI (st.1 / 8 + 1))) := (zfm.refl _ σ).wI (by omega)
    have eR : zR (zwI σ 1116 16 (nI (st.1 / 8 + 1))) 1116 13 = A := h2.2.1
    have hA := h6.2.2.2
    rw [eR, e16, nI_pred, zar_rd (h3.1.fm hW (by omega)) (by omega) (by omega)]
    refine ⟨h3.2.1, vp_in_nI (by omega) (by omega), hk _ (h0.w hW rfl ?_ ?_ ⟨?_, fun _ => ?_, fun q => by cases q⟩)⟩
    · rw [e16]; congr 1; show st.1 / 8 + 1 = 8 * (st.1 / 8 + 1) / 8; omega
    · simp [zIwI]; rw [h2.2.2.2.2.1, h8]
    · show 8 * (st.1 / 8 + 1) ≤ 8 * e; omega
    · show 0 < 8 * (st.1 / 8 + 1); omega
  · rw [if_neg q] at hk
    exact m_wrongAt h0 (by decide) hk
theorem f_nextBit (h : zMf S σ0 g σ) (hk : K (some (.int 0)) σ) : X_Model_nextBit true [.ref 1116] σ K E := b_Model_nextBit ⟨fun q => absurd (h.2.1.symm.trans q) h.2.2.1, fun _ => hk⟩
def rBit (hi : Bool) (l : List Int32) (e : Nat) (st : zRst) : zRes Int32 := if hi = true then rBitH l e st else rBitL l e st
theorem m_nextBit (h : zMk S σ0 A f e l hi st σ) (hk : zRun (rBit hi l e st) (fun g => ∀ τ, zMf S σ0 g τ → K (some (.int 0)) τ) (fun v st' => ∀ τ, zMk S σ0 A f e l hi st' τ → K (some (.int v)) τ)) : X_Model_nextBit true [.ref 1116] σ K E := by
  have h0 := h
  obtain ⟨h1, h2, h3, h4, h5, h6⟩ := h
  have hN := h3.2.2.2.1
  refine b_Model_nextBit ⟨fun _ => ?_, fun q => absurd h2.1 q⟩
  rw [h2.2.2.2.1, h2.2.2.1, nI_ltI (by omega) (by omega), h2.2.1, h2.2.2.2.2.2, h2.2.2.2.2.1]
  have fin : ∀ x b : Int32, (∀ τ, zMk S σ0 A f e l hi (st.1 + 1, true, st.2.2) τ → K (some (.int (zir x b &&& 1))) τ) → st.1 / 8 < e → L_Model_nextBit_61 1116 b x σ K E := by
    intro x b hk c
    refine b_Model_nextBit_61 ?_
    rintro σ6 rfl
    have e17 : zI (zwI σ 1116 17 (zI σ 1116 17 + 1)) 1116 17 = nI (st.1 % 8 + 1) := by simp [zIwI, h2.2.2.2.2.1, nI_1]
    rw [e17, show (8 : Int32) = nI 8 from rfl, nI_eq (by omega) (by omega)]
    refine ⟨fun q => ?_, fun q => ?_⟩
    · have hW : zfm (fun r i => r = 1116 ∧ (i = 16 ∨ i = 17)) σ (zwI σ 1116 17 (zI σ 1116 17 + 1)) := (zfm.refl _ σ).wI (by omega)
      refine hk _ (h0.w hW rfl ?_ ?_ ⟨?_, fun _ => ?_, fun q => by cases q⟩)
      · simp [zIwI]; rw [h2.2.2.2.1]; congr 1; omega
      · rw [e17]; congr 1; show st.1 % 8 + 1 = (st.1 + 1) % 8; omega
      · show st.1 + 1 ≤ 8 * e; omega
      · show 0 < st.1 + 1; omega
    · rintro σ7 rfl σ8 rfl
      have e16 : zI (zwI (zwI σ 1116 17 (zI σ 1116 17 + 1)) 1116 17 0) 1116 16 + 1 = nI (st.1 / 8 + 1) := by simp [zIwI, h2.2.2.2.1, nI_1]
      rw [e16]
      have hW : zfm (fun r i => r = 1116 ∧ (i = 16 ∨ i = 17)) σ (zwI (zwI (zwI σ 1116 17 (zI σ 1116 17 + 1)) 1116 17 0) 1116 16 (nI (st.1 / 8 + 1))) := by
        refine (((zfm.refl _ σ).wI ?_).wI ?_).wI ?_ <;> omega
      refine hk _ (h0.w hW rfl ?_ ?_ ⟨?_, fun _ => ?_, fun q => by cases q⟩)
      · rw [zIwI, if_pos ⟨rfl, rfl⟩]; congr 1; show st.1 / 8 + 1 = (st.1 + 1) / 8; omega
      · simp [zIwI]; rw [show (st.1 + 1) % 8 = 0 by omega]; rfl
      · show st.1 + 1 ≤ 8 * e; omega
      · show 0 < st.1 + 1; omega
  refine ⟨fun q => ?_, fun q => ?_⟩
  · rw [zar_rd h3.1 (by omega) (by omega)]
    refine ⟨h3.2.1, vp_in_nI (by omega) (by omega), ?_⟩
    unfold rBit at hk
    cases hh : hi
    · rw [hh] at hk
      refine q0e (fin _ _ ?_ q)
      rw [if_neg (by decide), rBitL, if_pos q] at hk
      rw [hh]; exact hk
    · rw [hh] at hk
      refine q1e ?_
      rw [if_pos rfl, rBitH, if_pos q] at hk
      rw [show (7 : Int32) = nI 7 from rfl, nI_sub (by omega)]
      refine fin _ _ ?_ q
      rw [hh]; exact hk
  · refine m_wrongAt h0 (by decide) ?_
    unfold rBit rBitH rBitL at hk
    cases hh : hi
    · rw [hh, if_neg (by decide), if_neg q] at hk; exact hk
    · rw [hh, if_pos rfl, if_neg q] at hk; exact hk
theorem f_nextBits {n : Nat} (hn : n < 2 ^ 31) (h : zMf S σ0 g σ) (hk : ∀ v, K (some (.long v)) σ) : X_Model_nextBits true [.ref 1116, .int (nI n)] σ K E := by
  have key : ∀ j k v, k + j = n → L_Model_nextBits_5 1116 (nI n) v (nI k) σ K E := by
    intro j
    induction j with
    | zero => intro k v hj; exact b_Model_nextBits_5 ⟨fun _ => hk v, fun q => absurd (nI_le (by omega) (by omega)) q⟩
    | succ j ih =>
      intro k v hj
      refine b_Model_nextBits_5 ⟨fun q => absurd q (nI_ge (by omega) (by omega)), fun _ => f_nextBit h ?_⟩
      rw [nI_1]
      exact ⟨fun _ x4 _ => ih (k + 1) _ (by omega), fun _ x5 _ => ih (k + 1) _ (by omega)⟩
  exact b_Model_nextBits (key n 0 0 (by omega))
theorem m_nextBitsH {n : Nat} (hn : n < 2 ^ 31) (h : zMk S σ0 A f e l true st σ) (hk : zRun (rBitsH l e n 0 st) (fun g => ∀ v τ, zMf S σ0 g τ → K (some (.long v)) τ) (fun v st' => ∀ τ, zMk S σ0 A f e l true st' τ → K (some (.long v)) τ)) : X_Model_nextBits true [.ref 1116, .int (nI n)] σ K E := by
  have fl : ∀ g σ, zMf S σ0 g σ → (∀ v τ, zMf S σ0 g τ → K (some (.long v)) τ) → ∀ j k v, k + j = n → L_Model_nextBits_5 1116 (nI n) v (nI k) σ K E := by
    intro g σ h hk j
    induction j with
    | zero => intro k v hj; exact b_Model_nextBits_5 ⟨fun _ => hk v σ h, fun q => absurd (nI_le (by omega) (by omega)) q⟩
    | succ j ih =>
      intro k v hj
      refine b_Model_nextBits_5 ⟨fun q => absurd q (nI_ge (by omega) (by omega)), fun _ => f_nextBit h ?_⟩
      rw [nI_1]
      exact ⟨fun _ x4 _ => ih (k + 1) _ (by omega), fun _ x5 _ => ih (k + 1) _ (by omega)⟩
  have key : ∀ j k v st σ, k + j = n → zMk S σ0 A f e l true st σ → zRun (rBitsH l e j v st) (fun g => ∀ v τ, zMf S σ0 g τ → K (some (.long v)) τ) (fun v st' => ∀ τ, zMk S σ0 A f e l true st' τ → K (some (.long v)) τ) → L_Model_nextBits_5 1116 (nI n) v (nI k) σ K E := by
    intro j
    induction j with
    | zero => intro k v st σ hj h hk; exact b_Model_nextBits_5 ⟨fun _ => hk σ h, fun q => absurd (nI_le (by omega) (by omega)) q⟩
    | succ j ih =>
      intro k v st σ hj h hk
      refine b_Model_nextBits_5 ⟨fun q => absurd q (nI_ge (by omega) (by omega)), fun _ => m_nextBit h ?_⟩
      rw [rBitsH, zRun_bd] at hk
      refine zRun_m hk (fun g q τ ht => ?_) (fun x st' q τ ht => ?_)
      · rw [nI_1]
        exact ⟨fun _ x4 _ => fl g τ ht q j (k + 1) _ (by omega), fun _ x5 _ => fl g τ ht q j (k + 1) _ (by omega)⟩
      · show (zI τ 1116 18 = 0 → _) ∧ _
        rw [ht.2.1.2.2.2.2.2, nI_1]
        exact q1e fun x5 e => by rw [e]; exact ih (k + 1) _ st' τ (by omega) ht q
  exact b_Model_nextBits (key n 0 0 st σ (by omega) h hk)
theorem ztl (v : Int64) (x : Int32) {k : Nat} (hk : k < 32) : (v ||| zll x.toInt64 (nI k)).toInt32 = v.toInt32 ||| zil x (nI k) := by
  rw [Int64.toInt32_or]
  congr 1
  have e1 : (nI k).toInt64 &&& 63 = Int64.ofNat k := by
    have : ∀ k, k < 32 → (nI k).toInt64 &&& 63 = Int64.ofNat k := by decide +kernel
    exact this k hk
  have e2 : nI k &&& 31 = nI k := by
    have : ∀ k, k < 32 → nI k &&& 31 = nI k := by decide +kernel
    exact this k hk
  show (x.toInt64 <<< ((nI k).toInt64 &&& 63)).toInt32 = x <<< (nI k &&& 31)
  rw [e1, e2]
  apply Int32.toBitVec_inj.mp
  have s1 : (Int64.ofNat k).toBitVec.smod 64 = BitVec.ofNat 64 k := by
    have : ∀ k, k < 32 → (Int64.ofNat k).toBitVec.smod 64 = BitVec.ofNat 64 k := by decide +kernel
    exact this k hk
  have s2 : (nI k).toBitVec.smod 32 = BitVec.ofNat 32 k := by
    have : ∀ k, k < 32 → (nI k).toBitVec.smod 32 = BitVec.ofNat 32 k := by decide +kernel
    exact this k hk
  have n1 : (BitVec.ofNat 64 k).toNat = k := by rw [BitVec.toNat_ofNat]; omega
  have n2 : (BitVec.ofNat 32 k).toNat = k := by rw [BitVec.toNat_ofNat]; omega
  refine BitVec.eq_of_getLsbD_eq fun i hi => ?_
  rw [Int64.toBitVec_toInt32, Int64.toBitVec_shiftLeft, Int32.toBitVec_shiftLeft, Int32.toBitVec_toInt64, s1, s2, BitVec.getLsbD_signExtend, if_pos (by omega), BitVec.shiftLeft_eq', BitVec.shiftLeft_eq', BitVec.getLsbD_shiftLeft, BitVec.getLsbD_shiftLeft, n1, n2]
  by_cases c : i < k
  · simp [c]
  · rw [BitVec.getLsbD_signExtend, if_pos (by omega)]
    rw [decide_eq_true (show i < 64 by omega), decide_eq_true hi, decide_eq_false c, decide_eq_true (show i - k < 64 by omega)]
    simp
theorem m_nextBitsL {n : Nat} (hn : n ≤ 32) (h : zMk S σ0 A f e l false st σ) (hk : zRun (rBitsL l e n 0 0 st) (fun g => ∀ v τ, zMf S σ0 g τ → K (some (.long v)) τ) (fun v st' => ∀ w τ, w.toInt32 = v → zMk S σ0 A f e l false st' τ → K (some (.long w)) τ)) : X_Model_nextBits true [.ref 1116, .int (nI n)] σ K E := by
  have fl : ∀ g σ, zMf S σ0 g σ → (∀ v τ, zMf S σ0 g τ → K (some (.long v)) τ) → ∀ j k v, k + j = n → L_Model_nextBits_5 1116 (nI n) v (nI k) σ K E := by
    intro g σ h hk j
    induction j with
    | zero => intro k v hj; exact b_Model_nextBits_5 ⟨fun _ => hk v σ h, fun q => absurd (nI_le (by omega) (by omega)) q⟩
    | succ j ih =>
      intro k v hj
      refine b_Model_nextBits_5 ⟨fun q => absurd q (nI_ge (by omega) (by omega)), fun _ => f_nextBit h ?_⟩
      rw [nI_1]
      exact ⟨fun _ x4 _ => ih (k + 1) _ (by omega), fun _ x5 _ => ih (k + 1) _ (by omega)⟩
  have key : ∀ j k v (w : Int64) st σ, w.toInt32 = v → k + j = n → zMk S σ0 A f e l false st σ → zRun (rBitsL l e j k v st) (fun g => ∀ v τ, zMf S σ0 g τ → K (some (.long v)) τ) (fun v st' => ∀ w τ, w.toInt32 = v → zMk S σ0 A f e l false st' τ → K (some (.long w)) τ) → L_Model_nextBits_5 1116 (nI n) w (nI k) σ K E := by
    intro j
    induction j with
    | zero => intro k v w st σ hw hj h hk; exact b_Model_nextBits_5 ⟨fun _ => hk w σ hw h, fun q => absurd (nI_le (by omega) (by omega)) q⟩
    | succ j ih =>
      intro k v w st σ hw hj h hk
      refine b_Model_nextBits_5 ⟨fun q => absurd q (nI_ge (by omega) (by omega)), fun _ => m_nextBit h ?_⟩
      rw [rBitsL, zRun_bd] at hk
      refine zRun_m hk (fun g q τ ht => ?_) (fun x st' q τ ht => ?_)
      · rw [nI_1]
        exact ⟨fun _ x4 _ => fl g τ ht q j (k + 1) _ (by omega), fun _ x5 _ => fl g τ ht q j (k + 1) _ (by omega)⟩
      · show (zI τ 1116 18 = 0 → _) ∧ _
        rw [ht.2.1.2.2.2.2.2, nI_1]
        exact q0e fun x5 e => by rw [e]; exact ih (k + 1) _ _ st' τ (by rw [ztl _ _ (by omega), hw]) (by omega) ht q
  exact b_Model_nextBits (key n 0 0 0 st σ rfl (by omega) h hk)
theorem f_lowNumber {n : Nat} (hn : n < 2 ^ 31) (h : zMf S σ0 g σ) (hk : ∀ v, K (some (.long v)) σ) : X_Model_lowNumber true [.ref 1116, .int (nI n)] σ K E := by
  have key : ∀ j k v, k + j = n → L_Model_lowNumber_5 1116 (nI n) v (nI k) σ K E := by
    intro j
    induction j with
    | zero => intro k v hj; exact b_Model_lowNumber_5 ⟨fun _ => hk v, fun q => absurd (nI_le (by omega) (by omega)) q⟩
    | succ j ih =>
      intro k v hj
      refine b_Model_lowNumber_5 ⟨fun q => absurd q (nI_ge (by omega) (by omega)), fun _ => f_next h ?_⟩
      intro x4 _
      rw [nI_1]
      exact ih (k + 1) _ (by omega)
  exact b_Model_lowNumber (key n 0 0 (by omega))
theorem f_highNumber {n : Nat} (hn : n < 2 ^ 31) (h : zMf S σ0 g σ) (hk : ∀ v, K (some (.long v)) σ) : X_Model_highNumber true [.ref 1116, .int (nI n)] σ K E := by
  have key : ∀ j k v, k + j = n → L_Model_highNumber_5 1116 (nI n) v (nI k) σ K E := by
    intro j
    induction j with
    | zero => intro k v hj; exact b_Model_highNumber_5 ⟨fun _ => hk v, fun q => absurd (nI_le (by omega) (by omega)) q⟩
    | succ j ih =>
      intro k v hj
      refine b_Model_highNumber_5 ⟨fun q => absurd q (nI_ge (by omega) (by omega)), fun _ => f_next h ?_⟩
      intro x4 _
      rw [nI_1]
      exact ih (k + 1) _ (by omega)
  exact b_Model_highNumber (key n 0 0 (by omega))
theorem rOct_8 {l : List Int32} {e : Nat} {st : zRst} {v : Int32} {st' : zRst} (h : rOct l e st = .inr (v, st')) : st'.1 % 8 = 0 := by
  unfold rOct at h
  split at h
  · cases h; show 8 * ((st.1 + 7) / 8 + 1) % 8 = 0; omega
  · cases h
theorem m_lowNumber {n : Nat} (hn : n < 2 ^ 31) (h : zMk S σ0 A f e l hi st σ) (h8 : st.1 % 8 = 0) (hk : zRun (rLow l e n 0 0 st) (fun g => ∀ v τ, zMf S σ0 g τ → K (some (.long v)) τ) (fun v st' => ∀ τ, st'.1 % 8 = 0 → zMk S σ0 A f e l hi st' τ → K (some (.long v)) τ)) : X_Model_lowNumber true [.ref 1116, .int (nI n)] σ K E := by
  have fl : ∀ g σ, zMf S σ0 g σ → (∀ v τ, zMf S σ0 g τ → K (some (.long v)) τ) → ∀ j k v, k + j = n → L_Model_lowNumber_5 1116 (nI n) v (nI k) σ K E := by
    intro g σ h hk j
    induction j with
    | zero => intro k v hj; exact b_Model_lowNumber_5 ⟨fun _ => hk v σ h, fun q => absurd (nI_le (by omega) (by omega)) q⟩
    | succ j ih =>
      intro k v hj
      refine b_Model_lowNumber_5 ⟨fun q => absurd q (nI_ge (by omega) (by omega)), fun _ => f_next h ?_⟩
      intro x4 _
      rw [nI_1]
      exact ih (k + 1) _ (by omega)
  have key : ∀ j k v st σ, k + j = n → st.1 % 8 = 0 → zMk S σ0 A f e l hi st σ → zRun (rLow l e j k v st) (fun g => ∀ v τ, zMf S σ0 g τ → K (some (.long v)) τ) (fun v st' => ∀ τ, st'.1 % 8 = 0 → zMk S σ0 A f e l hi st' τ → K (some (.long v)) τ) → L_Model_lowNumber_5 1116 (nI n) v (nI k) σ K E := by
    intro j
    induction j with
    | zero => intro k v st σ hj h8 h hk; exact b_Model_lowNumber_5 ⟨fun _ => hk σ h8 h, fun q => absurd (nI_le (by omega) (by omega)) q⟩
    | succ j ih =>
      intro k v st σ hj h8 h hk
      refine b_Model_lowNumber_5 ⟨fun q => absurd q (nI_ge (by omega) (by omega)), fun _ => m_next h h8 ?_⟩
      rw [rLow, zRun_bd] at hk
      cases hr : rOct l e st with
      | inl g =>
        rw [hr] at hk
        intro τ ht x4 _
        rw [nI_1]
        exact fl g τ ht hk j (k + 1) _ (by omega)
      | inr q =>
        obtain ⟨v2, st2⟩ := q
        have h82 := rOct_8 hr
        rw [hr] at hk
        intro τ ht x4 ex
        rw [nI_1, ex]
        exact ih (k + 1) _ st2 τ (by omega) h82 ht hk
  exact b_Model_lowNumber (key n 0 0 st σ (by omega) h8 h hk)
theorem m_highNumber {n : Nat} (hn : n < 2 ^ 31) (h : zMk S σ0 A f e l hi st σ) (h8 : st.1 % 8 = 0) (hk : zRun (rHigh l e n 0 st) (fun g => ∀ v τ, zMf S σ0 g τ → K (some (.long v)) τ) (fun v st' => ∀ τ, st'.1 % 8 = 0 → zMk S σ0 A f e l hi st' τ → K (some (.long v)) τ)) : X_Model_highNumber true [.ref 1116, .int (nI n)] σ K E := by
  have fl : ∀ g σ, zMf S σ0 g σ → (∀ v τ, zMf S σ0 g τ → K (some (.long v)) τ) → ∀ j k v, k + j = n → L_Model_highNumber_5 1116 (nI n) v (nI k) σ K E := by
    intro g σ h hk j
    induction j with
    | zero => intro k v hj; exact b_Model_highNumber_5 ⟨fun _ => hk v σ h, fun q => absurd (nI_le (by omega) (by omega)) q⟩
    | succ j ih =>
      intro k v hj
      refine b_Model_highNumber_5 ⟨fun q => absurd q (nI_ge (by omega) (by omega)), fun _ => f_next h ?_⟩
      intro x4 _
      rw [nI_1]
      exact ih (k + 1) _ (by omega)
  have key : ∀ j k v st σ, k + j = n → st.1 % 8 = 0 → zMk S σ0 A f e l hi st σ → zRun (rHigh l e j v st) (fun g => ∀ v τ, zMf S σ0 g τ → K (some (.long v)) τ) (fun v st' => ∀ τ, st'.1 % 8 = 0 → zMk S σ0 A f e l hi st' τ → K (some (.long v)) τ) → L_Model_highNumber_5 1116 (nI n) v (nI k) σ K E := by
    intro j
    induction j with
    | zero => intro k v st σ hj h8 h hk; exact b_Model_highNumber_5 ⟨fun _ => hk σ h8 h, fun q => absurd (nI_le (by omega) (by omega)) q⟩
    | succ j ih =>
      intro k v st σ hj h8 h hk
      refine b_Model_highNumber_5 ⟨fun q => absurd q (nI_ge (by omega) (by omega)), fun _ => m_next h h8 ?_⟩
      rw [rHigh, zRun_bd] at hk
      cases hr : rOct l e st with
      | inl g =>
        rw [hr] at hk
        intro τ ht x4 _
        rw [nI_1]
        exact fl g τ ht hk j (k + 1) _ (by omega)
      | inr q =>
        obtain ⟨v2, st2⟩ := q
        have h82 := rOct_8 hr
        rw [hr] at hk
        intro τ ht x4 ex
        rw [nI_1, ex]
        exact ih (k + 1) _ st2 τ (by omega) h82 ht hk
  exact b_Model_highNumber (key n 0 0 st σ (by omega) h8 h hk)
/-- the rest of an octet is passed over -/
def zwh (st : zRst) : zRst := (8 * ((st.1 + 7) / 8), st.2.1, st.2.2)
theorem m_nextWhole (h : zMk S σ0 A f e l hi st σ) (hk : ∀ τ, zMk S σ0 A f e l hi (zwh st) τ → K none τ) : X_Model_nextWhole true [.ref 1116] σ K E := by
  have h0 := h
  obtain ⟨h1, h2, h3, h4, h5, h6⟩ := h
  refine b_Model_nextWhole ?_
  rw [h2.2.2.2.2.1]
  refine ⟨fun q => ?_, fun q => ?_⟩
  · have a : st.1 % 8 ≤ 0 := (nI_leI (b := 0) (by omega) (by decide)).mp q
    have : zwh st = st := by unfold zwh; rw [show 8 * ((st.1 + 7) / 8) = st.1 by omega]
    rw [this] at hk
    exact hk σ h0
  · have a : ¬ st.1 % 8 ≤ 0 := fun z => q ((nI_leI (b := 0) (by omega) (by decide)).mpr z)
    rintro σ1 rfl σ2 rfl
    have e16 : zI (zwI σ 1116 17 0) 1116 16 + 1 = nI (st.1 / 8 + 1) := by simp [zIwI, h2.2.2.2.1, nI_1]
    rw [e16]
    have hW : zfm (fun r i => r = 1116 ∧ (i = 16 ∨ i = 17)) σ (zwI (zwI σ 1116 17 0) 1116 16 (nI (st.1 / 8 + 1))) := by
      refine ((zfm.refl _ σ).wI ?_).wI ?_ <;> omega
    refine hk _ (h0.w hW rfl ?_ ?_ ⟨?_, fun _ => ?_, fun q => ?_⟩)
    · rw [zIwI, if_pos ⟨rfl, rfl⟩]; congr 1; show st.1 / 8 + 1 = 8 * ((st.1 + 7) / 8) / 8; omega
    · simp [zIwI, zwh]; rfl
    · show 8 * ((st.1 + 7) / 8) ≤ 8 * e; omega
    · show 0 < 8 * ((st.1 + 7) / 8); omega
    · have := (h5.2.2 q).1; omega
theorem f_nextWhole (h : zMf S σ0 g σ) (hk : ∀ τ, zMf S σ0 g τ → K none τ) : X_Model_nextWhole true [.ref 1116] σ K E := by
  obtain ⟨h1, h2, h3, h4, h5, h6, h7⟩ := h
  refine b_Model_nextWhole ⟨fun _ => hk σ ⟨h1, h2, h3, h4, h5, h6, h7⟩, fun _ => ?_⟩
  rintro σ1 rfl σ2 rfl
  exact hk _ ⟨(h1.wI h7).wI h6, by simp [zIwI]; exact h2, h3, by simp [zIwI]; exact h4, by simp [zIwI]; exact h5, h6, h7⟩
theorem f_come (h : zMf S σ0 g σ) {b : Int32} (hk : K none σ) : X_Model_come true [.ref 1116, .int b] σ K E := b_Model_come ⟨fun q => absurd (h.2.1.symm.trans q) h.2.2.1, fun _ => hk⟩
theorem m_come (h : zMk S σ0 A f e l hi st σ) {b : Int32} (hk : zRun (rCome f b st) (fun g => ∀ τ, zMf S σ0 g τ → K none τ) (fun _ st' => ∀ τ, zMk S σ0 A f e l hi st' τ → K none τ)) : X_Model_come true [.ref 1116, .int b] σ K E := by
  have h0 := h
  obtain ⟨h1, h2, h3, h4, h5, h6⟩ := h
  unfold rCome at hk
  refine b_Model_come ⟨fun _ => ?_, fun q => absurd h2.1 q⟩
  have hl := h4.2.1
  rw [h4.1, show (12000 : Int32) = nI 12000 from rfl, nI_eq (by omega) (by omega), nI_clamp (by omega), zbv_b zk_1124]
  refine ⟨fun q => ?_, fun q => ?_⟩
  · rw [if_neg q] at hk
    refine ⟨by rw [zn_1124]; exact vp_in_nI (by omega) (by omega), ?_⟩
    rintro σ1 rfl σ2 rfl
    have e22 : zI (zwI σ 1124 st.2.2.length (zib b)) 1116 22 + 1 = nI (st.2.2.length + 1) := by simp [zIwI, h4.1, nI_1]
    rw [e22]
    have hW : zfm (fun r i => (r = 1116 ∧ i = 22) ∨ r = 1124) σ (zwI (zwI σ 1124 st.2.2.length (zib b)) 1116 22 (nI (st.2.2.length + 1))) := by
      refine ((zfm.refl _ σ).wI ?_).wI ?_ <;> omega
    have hA := h6.2.2
    refine hk _ ⟨(h1.wI (h6.2.1 _)).wI h6.1.2.2.2.2, ⟨by rw [hW.I _ _ (by omega)]; exact h2.1, by rw [hW.R _ _ (by omega)]; exact h2.2.1, by rw [hW.I _ _ (by omega)]; exact h2.2.2.1, by rw [hW.I _ _ (by omega)]; exact h2.2.2.2.1, by rw [hW.I _ _ (by omega)]; exact h2.2.2.2.2.1, by rw [hW.I _ _ (by omega)]; exact h2.2.2.2.2.2⟩, ⟨h3.1.fm hW (by omega), h3.2⟩, ⟨by simp [zIwI], by simp; omega, h4.2.2.1.push (fun i hi => by simp [zIwI, show i ≠ st.2.2.length by omega]) (by simp [zIwI]), zby_app h4.2.2.2 (fun x hx => by rw [List.mem_singleton.mp hx]; exact zby_ib b)⟩, h5, h6⟩
  · rw [if_pos q] at hk
    exact m_wrong h0 (by decide) hk
theorem f_end (h : zMf S σ0 g σ) (hk : ∀ τ, zMf S σ0 g τ → K none τ) : X_Model_end true [.ref 1116] σ K E := by
  refine b_Model_end (f_nextWhole h fun τ ht => ⟨fun _ => hk τ ht, fun q => absurd (ht.2.1.symm.trans q) ht.2.2.1⟩)
theorem m_end (h : zMk S σ0 A f e l hi st σ) (hk : zRun (rEnds e st) (fun g => ∀ τ, zMf S σ0 g τ → K none τ) (fun _ _ => ∀ τ, zMk S σ0 A f e l hi (zwh st) τ → K none τ)) : X_Model_end true [.ref 1116] σ K E := by
  unfold rEnds at hk
  refine b_Model_end (m_nextWhole h fun τ ht => ⟨fun q => absurd ht.2.1.1 q, fun _ => ?_⟩)
  have h0 := ht
  obtain ⟨h1, h2, h3, h4, h5, h6⟩ := ht
  have hN := h3.2.2.2.1
  have ed : (zwh st).1 / 8 = (st.1 + 7) / 8 := by show 8 * ((st.1 + 7) / 8) / 8 = _; omega
  have hle : (st.1 + 7) / 8 ≤ e := by have : 8 * ((st.1 + 7) / 8) ≤ 8 * e := h5.1; omega
  rw [h2.2.2.2.1, h2.2.2.1, ed, nI_leI (by omega) (by omega)]
  refine ⟨fun q => ?_, fun q => ?_⟩
  · rw [if_neg (by omega)] at hk
    exact hk τ h0
  · rw [if_pos (by omega)] at hk
    exact m_wrongAt h0 (by decide) hk
theorem f_copy {d n : Int64} (h : zMf S σ0 g σ) (hk : K none σ) : X_Model_copy true [.ref 1116, .long d, .long n] σ K E := b_Model_copy (b_Model_copy_3 ⟨fun _ => hk, fun _ => ⟨fun _ => hk, fun q => absurd (h.2.1.symm.trans q) h.2.2.1⟩⟩)
theorem m_copy {d n : Nat} {dl nl : Int64} (hdl : dl.toInt32 = nI d) (hnl : nl.toInt = n) (hn : n < 2 ^ 31) (h1 : 1 ≤ d) (hd : d < 2 ^ 31) (h : zMk S σ0 A f e l hi st σ) (h2 : d ≤ st.2.2.length) (hk : zRun (rCopy f d n st) (fun g => ∀ τ, zMf S σ0 g τ → K none τ) (fun _ st' => ∀ τ, zMk S σ0 A f e l hi st' τ → K none τ)) : X_Model_copy true [.ref 1116, .long dl, .long nl] σ K E := by
  have key : ∀ (j : Nat) (k : Int64) st σ, k.toInt + (j : Int) = n → 0 ≤ k.toInt → zMk S σ0 A f e l hi st σ → d ≤ st.2.2.length → zRun (rCopy f d j st) (fun g => ∀ τ, zMf S σ0 g τ → K none τ) (fun _ st' => ∀ τ, zMk S σ0 A f e l hi st' τ → K none τ) → L_Model_copy_3 1116 dl nl k σ K E := by
    intro j
    induction j with
    | zero =>
      intro k st σ hj hk0 h h2 hk
      exact b_Model_copy_3 ⟨fun _ => hk σ h, fun q => absurd (by rw [Int64.le_iff_toInt_le, hnl]; omega) q⟩
    | succ j ih =>
      intro k st σ hj hk0 h h2 hk
      have h0 := h
      obtain ⟨-, g2, -, g4, -, -⟩ := h
      have hl := g4.2.1
      refine b_Model_copy_3 ⟨fun q => absurd q (by rw [Int64.le_iff_toInt_le, hnl]; omega), fun _ => ⟨fun q => absurd g2.1 q, fun _ => ?_⟩⟩
      rw [hdl, g4.1, nI_sub h2, zar_rd g4.2.2.1 (by omega) (by omega)]
      refine ⟨by rw [zn_1124]; exact vp_in_nI (by omega) (by omega), m_come h0 ?_⟩
      rw [rCopy, zRun_bd] at hk
      have e1 : (k + 1).toInt = k.toInt + 1 := by
        rw [Int64.toInt_add, show (1 : Int64).toInt = 1 from by decide, Int.bmod_eq_of_le (by omega) (by omega)]
      unfold rCome at hk ⊢
      by_cases c : st.2.2.length = 12000
      · rw [if_pos c] at hk ⊢
        intro τ ht
        exact b_Model_copy_3 ⟨fun _ => hk τ ht, fun _ => ⟨fun _ => hk τ ht, fun q => absurd (ht.2.1.symm.trans q) ht.2.2.1⟩⟩
      · rw [if_neg c] at hk ⊢
        intro τ ht
        exact ih (k + 1) _ τ (by omega) (by omega) ht (by simp; omega) hk
  exact b_Model_copy (key n 0 st σ (by rw [show (0 : Int64).toInt = 0 from by decide]; omega) (by decide) h h2 hk)
end MR

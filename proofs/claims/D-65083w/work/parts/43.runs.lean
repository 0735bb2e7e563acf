/-! PART 43: kind 1 is opened -/
def rRep (f : Nat) (b : Int32) : Nat → zRst → zRes Unit
  | 0, st => zru () st
  | n + 1, st => zbd (rCome f b st) fun _ st => rRep f b n st
/-- so many octets come as they stand -/
def rTake (l : List Int32) (f e : Nat) : Nat → zRst → zRes Unit
  | 0, st => zru () st
  | n + 1, st => zbd (rOct l e st) fun x st => zbd (rCome f x st) fun _ st => rTake l f e n st
def rRuns (l : List Int32) (f e : Nat) : Nat → zRst → zRes Unit
  | 0, st => zru () st
  | n + 1, st => if (st.1 + 7) / 8 = e then zru () st else zbd (rOct l e st) fun c st =>
      if c.toInt ≤ 128 then (if c.toInt < 128 then zbd (rTake l f e (c.toInt.toNat + 1) st) fun _ st => rRuns l f e n st else rRuns l f e n st)
      else zbd (rOct l e st) fun b st => zbd (rRep f b (257 - c.toInt.toNat) st) fun _ st => rRuns l f e n st
theorem rOct_i {l : List Int32} {e : Nat} {st : zRst} {v : Int32} {st' : zRst} (h : rOct l e st = .inr (v, st')) : (st.1 + 7) / 8 < e ∧ v = zgt l ((st.1 + 7) / 8) ∧ st' = (8 * ((st.1 + 7) / 8 + 1), true, st.2.2) := by
  unfold rOct at h
  split at h
  · rename_i q; cases h; exact ⟨q, rfl, rfl⟩
  · cases h
theorem rCome_i {f : Nat} {b : Int32} {st st' : zRst} {v : Unit} (h : rCome f b st = .inr (v, st')) : st' = (st.1, st.2.1, st.2.2 ++ [zib b]) := by
  unfold rCome rFlt at h
  split at h
  · cases h
  · cases h; rfl
theorem rRep_i {f : Nat} {b : Int32} : ∀ {n : Nat} {st st' : zRst} {v : Unit}, rRep f b n st = .inr (v, st') → st'.1 = st.1
  | 0, st, st', v, h => by unfold rRep zru at h; cases h; rfl
  | n + 1, st, st', v, h => by
    unfold rRep at h
    cases hc : rCome f b st with
    | inl g => rw [hc] at h; cases h
    | inr q =>
      obtain ⟨u, s2⟩ := q
      rw [hc] at h
      have := rRep_i (n := n) h
      have e := rCome_i hc
      rw [this, e]
theorem rTake_i {l : List Int32} {f e : Nat} : ∀ {n : Nat} {st st' : zRst} {v : Unit}, rTake l f e n st = .inr (v, st') → st.1 % 8 = 0 → st'.1 % 8 = 0 ∧ st.1 ≤ st'.1
  | 0, st, st', v, h, h8 => by unfold rTake zru at h; cases h; exact ⟨h8, Nat.le_refl _⟩
  | n + 1, st, st', v, h, h8 => by
    unfold rTake at h
    cases ho : rOct l e st with
    | inl g => rw [ho] at h; cases h
    | inr q =>
      obtain ⟨x, s1⟩ := q
      rw [ho] at h
      obtain ⟨o1, o2, o3⟩ := rOct_i ho
      have h : zbd (rCome f x s1) (fun _ st => rTake l f e n st) = .inr (v, st') := h
      cases hc : rCome f x s1 with
      | inl g => rw [hc] at h; cases h
      | inr q =>
        obtain ⟨u, s2⟩ := q
        rw [hc] at h
        have e2 := rCome_i hc
        have := rTake_i (n := n) h (by rw [e2, o3]; show 8 * ((st.1 + 7) / 8 + 1) % 8 = 0; omega)
        rw [e2, o3] at this
        have t2 : 8 * ((st.1 + 7) / 8 + 1) ≤ st'.1 := this.2
        exact ⟨this.1, by omega⟩
theorem zoct_b (l : List Int32) (i : Nat) : ∃ j, j < 256 ∧ zgt l i = nI j := zo8 _
section HS
variable {S : Nat → Nat → Prop} {σ0 σ : zS} {s u R W f e : Nat} {l : List Int32} {hi : Bool} {st : zRst} {K : zKt} {E : zEt}
theorem s_Runs_open (h : zHk S σ0 s u R W f e l hi st σ) (hk : zRun (rRuns l f e (e + 1) st) (zHf S σ0 W E) (fun _ st' => ∀ τ, zHk S σ0 s u R W f e l hi st' τ → K none τ)) : X_Runs_open true [.ref 99, .ref 10, .ref s, .ref u] σ K E := by
  have rep : ∀ n b st σ, zHk S σ0 s u R W f e l hi st σ → n < 1000 → zRun (rRep f b n st) (zHf S σ0 W E) (fun _ st' => ∀ τ, zHk S σ0 s u R W f e l hi st' τ → L_Runs_open_0 s u τ K E) → L_Runs_open_35 s u b (nI n) σ K E := by
    intro n
    induction n with
    | zero =>
      intro b st σ h hn hk
      exact b_Runs_open_35 ⟨fun _ => hk σ h, fun q => absurd (by decide) q⟩
    | succ n ih =>
      intro b st σ h hn hk
      refine b_Runs_open_35 ⟨fun q => absurd q (nI_nle (by omega) (by omega)), fun _ => ⟨h.2.2.2.2.1.1, s_come h ?_⟩⟩
      rw [rRep, zRun_bd] at hk
      refine zRun_m hk (fun _ q => q) fun _ st' q τ ht => ?_
      show L_Runs_open_35 s u b (nI (n + 1) + (-1)) τ K E
      rw [nI_m1]
      exact ih b st' τ ht (by omega) q
  have take : ∀ n c st σ, zHk S σ0 s u R W f e l hi st σ → n < 1000 → ¬ (128 : Int32) ≤ c → zRun (rTake l f e n st) (zHf S σ0 W E) (fun _ st' => ∀ τ, zHk S σ0 s u R W f e l hi st' τ → L_Runs_open_0 s u τ K E) → L_Runs_open_59 s u c (nI n + (-1)) σ K E := by
    intro n
    induction n with
    | zero =>
      intro c st σ h hn hc hk
      exact b_Runs_open_59 ⟨fun _ => hk σ h, fun q => absurd (by decide) q⟩
    | succ n ih =>
      intro c st σ h hn hc hk
      rw [nI_m1]
      refine b_Runs_open_59 ⟨fun q => absurd q (nI_pos (by omega)), fun _ => ⟨fun q => absurd q hc, fun _ => ⟨h.2.1.1, s_octet h ?_⟩⟩⟩
      rw [rTake, zRun_bd] at hk
      refine zRun_m hk (fun _ q => q) fun x st' q τ ht => ⟨ht.2.2.2.2.1.1, s_come ht ?_⟩
      rw [zRun_bd] at q
      exact zRun_m q (fun _ q => q) fun _ st2 q τ ht => ih c st2 τ ht (by omega) hc q
  have key : ∀ n st σ, zHk S σ0 s u R W f e l hi st σ → e - (st.1 + 7) / 8 < n → zRun (rRuns l f e n st) (zHf S σ0 W E) (fun _ st' => ∀ τ, zHk S σ0 s u R W f e l hi st' τ → K none τ) → L_Runs_open_0 s u σ K E := by
    intro n
    induction n with
    | zero => intro st σ h hn; omega
    | succ n ih =>
      intro st σ h hn hk
      refine b_Runs_open_0 ⟨h.2.1.1, s_isThrough h ?_⟩
      rw [rRuns] at hk
      by_cases c : (st.1 + 7) / 8 = e
      · rw [if_pos c] at hk
        rw [decide_eq_true c]
        exact q1n (hk σ h)
      · rw [if_neg c] at hk
        rw [decide_eq_false c]
        refine q0n ⟨h.2.1.1, s_octet h ?_⟩
        rw [zRun_bd] at hk
        cases ho : rOct l e st with
        | inl g => rw [ho] at hk; exact hk
        | inr q =>
          obtain ⟨x, s1⟩ := q
          rw [ho] at hk
          obtain ⟨o1, o2, o3⟩ := rOct_i ho
          obtain ⟨j, hj, ej⟩ := zoct_b l ((st.1 + 7) / 8)
          have d1 : (s1.1 + 7) / 8 = (st.1 + 7) / 8 + 1 := by rw [o3]; show (8 * ((st.1 + 7) / 8 + 1) + 7) / 8 = _; omega
          have hk : zRun (if x.toInt ≤ 128 then (if x.toInt < 128 then zbd (rTake l f e (x.toInt.toNat + 1) s1) fun _ st => rRuns l f e n st else rRuns l f e n s1) else zbd (rOct l e s1) fun b st => zbd (rRep f b (257 - x.toInt.toNat) st) fun _ st => rRuns l f e n st) (zHf S σ0 W E) (fun _ st' => ∀ τ, zHk S σ0 s u R W f e l hi st' τ → K none τ) := hk
          intro τ ht
          show (x ≤ 128 → _) ∧ (¬ x ≤ 128 → _)
          rw [o2, ej] at hk ⊢
          rw [show (128 : Int32) = nI 128 from rfl, nI_leI (by omega) (by omega)]
          rw [nI_toInt (by omega)] at hk
          refine ⟨fun q => ?_, fun q => ⟨ht.2.1.1, s_octet ht ?_⟩⟩
          · rw [if_pos (by omega)] at hk
            by_cases c2 : j < 128
            · rw [if_pos (by omega), zRun_bd] at hk
              have := take (j + 1) (nI j) s1 τ ht (by omega) (nI_ge (b := 128) (by omega) (by decide)) ?_
              · rw [nI_m1] at this; exact this
              · cases hT : rTake l f e (j + 1) s1 with
                | inl g => rw [show (Int.toNat (j : Int)) = j from rfl, hT] at hk; exact hk
                | inr q =>
                  obtain ⟨_, s2⟩ := q
                  rw [show (Int.toNat (j : Int)) = j from rfl, hT] at hk
                  have := rTake_i hT (by rw [o3]; show 8 * ((st.1 + 7) / 8 + 1) % 8 = 0; omega)
                  intro υ hu
                  exact ih s2 υ hu (by omega) hk
            · have : j = 128 := by omega
              subst this
              rw [if_neg (by omega)] at hk
              exact b_Runs_open_59 ⟨fun q => absurd q (show ¬ nI 128 < 0 by decide), fun _ => ⟨fun _ => ih s1 τ ht (by omega) hk, fun q => absurd (show (128 : Int32) ≤ nI 128 by decide) q⟩⟩
          · rw [if_neg (by omega), zRun_bd] at hk
            cases ho2 : rOct l e s1 with
            | inl g => rw [ho2] at hk; exact hk
            | inr q2 =>
              obtain ⟨b, s2⟩ := q2
              rw [ho2] at hk
              obtain ⟨p1, p2, p3⟩ := rOct_i ho2
              have hk : zRun (zbd (rRep f b (257 - Int.toNat (j : Int)) s2) fun _ st => rRuns l f e n st) (zHf S σ0 W E) (fun _ st' => ∀ τ, zHk S σ0 s u R W f e l hi st' τ → K none τ) := hk
              rw [zRun_bd, show (Int.toNat (j : Int)) = j from rfl] at hk
              intro υ hu
              show L_Runs_open_35 s u b (257 - nI j) υ K E
              rw [show (257 : Int32) = nI 257 from rfl, nI_sub (by omega)]
              refine rep (257 - j) b s2 υ hu (by omega) ?_
              cases hT : rRep f b (257 - j) s2 with
              | inl g => rw [hT] at hk; exact hk
              | inr q =>
                obtain ⟨_, s3⟩ := q
                rw [hT] at hk
                have := rRep_i hT
                intro υ2 hu2
                have d2 : s2.1 = 8 * ((s1.1 + 7) / 8 + 1) := by rw [p3]
                exact ih s3 υ2 hu2 (by omega) hk
  exact b_Runs_open (key (e + 1) st σ h (by omega) hk)
end HS
section MR
variable {S : Nat → Nat → Prop} {σ0 σ : zS} {A f e : Nat} {l : List Int32} {hi : Bool} {st : zRst} {K : zKt} {E : zEt} {g : zFlt}
theorem m_openRuns (h : zMk S σ0 A f e l hi st σ) (h8 : st.1 % 8 = 0) (hk : zRun (rRuns l f e (e + 1) st) (fun g => ∀ τ, zMf S σ0 g τ → K none τ) (fun _ st' => ∀ τ, zMk S σ0 A f e l hi st' τ → K none τ)) : X_Model_openRuns true [.ref 1116] σ K E := by
  have fin : ∀ g τ, zMf S σ0 g τ → (∀ τ, zMf S σ0 g τ → K none τ) → L_Model_openRuns_0 1116 τ K E := fun g τ ht hk => b_Model_openRuns_0 (f_fine ht (q0e (hk τ ht)))
  -- in a fault nothing comes any more
  have frep : ∀ g τ, zMf S σ0 g τ → (∀ τ, zMf S σ0 g τ → K none τ) → ∀ j, j < 256 → ∀ b n k, k + n = 257 - j → L_Model_openRuns_77 1116 (nI j) b (nI k) τ K E := by
    intro g τ ht hk j hj b n
    induction n with
    | zero =>
      intro k hn
      refine b_Model_openRuns_77 ?_
      rw [show (257 : Int32) = nI 257 from rfl, nI_sub (by omega), nI_leI (by omega) (by omega)]
      exact ⟨fun _ => fin g τ ht hk, fun q => by omega⟩
    | succ n ih =>
      intro k hn
      refine b_Model_openRuns_77 ?_
      rw [show (257 : Int32) = nI 257 from rfl, nI_sub (by omega), nI_leI (by omega) (by omega), nI_1]
      exact ⟨fun q => by omega, fun _ => f_come ht (ih (k + 1) (by omega))⟩
  have rep : ∀ j, j < 256 → ∀ b n k st σ, zMk S σ0 A f e l hi st σ → k + n = 257 - j → zRun (rRep f b n st) (fun g => ∀ τ, zMf S σ0 g τ → K none τ) (fun _ st' => ∀ τ, zMk S σ0 A f e l hi st' τ → L_Model_openRuns_0 1116 τ K E) → L_Model_openRuns_77 1116 (nI j) b (nI k) σ K E := by
    intro j hj b n
    induction n with
    | zero =>
      intro k st σ h hn hk
      refine b_Model_openRuns_77 ?_
      rw [show (257 : Int32) = nI 257 from rfl, nI_sub (by omega), nI_leI (by omega) (by omega)]
      exact ⟨fun _ => hk σ h, fun q => by omega⟩
    | succ n ih =>
      intro k st σ h hn hk
      refine b_Model_openRuns_77 ?_
      rw [show (257 : Int32) = nI 257 from rfl, nI_sub (by omega), nI_leI (by omega) (by omega), nI_1]
      refine ⟨fun q => by omega, fun _ => m_come h ?_⟩
      rw [rRep, zRun_bd] at hk
      exact zRun_m hk (fun g q τ ht => frep g τ ht q j hj b n (k + 1) (by omega)) fun _ st' q τ ht => ih (k + 1) st' τ ht (by omega) q
  have take : ∀ j, j < 128 → ∀ n k st σ, zMk S σ0 A f e l hi st σ → st.1 % 8 = 0 → k + n = j + 1 → zRun (rTake l f e n st) (fun g => ∀ τ, zMf S σ0 g τ → K none τ) (fun _ st' => ∀ τ, zMk S σ0 A f e l hi st' τ → L_Model_openRuns_0 1116 τ K E) → L_Model_openRuns_32 1116 (nI j) (nI k) σ K E := by
    intro j hj n
    induction n with
    | zero =>
      intro k st σ h h8 hn hk
      exact b_Model_openRuns_32 ⟨fun _ => hk σ h, fun q => absurd (nI_lt (by omega) (by omega)) q⟩
    | succ n ih =>
      intro k st σ h h8 hn hk
      refine b_Model_openRuns_32 ⟨fun q => absurd q (nI_nlt (by omega) (by omega)), fun _ => m_fine h (q1e (m_next h h8 ?_))⟩
      rw [rTake, zRun_bd] at hk
      have ft : ∀ g τ, zMf S σ0 g τ → (∀ τ, zMf S σ0 g τ → K none τ) → L_Model_openRuns_32 1116 (nI j) (nI k + 1) τ K E := by
        intro g τ ht q
        rw [nI_1]
        refine b_Model_openRuns_32 ⟨fun _ => fin g τ ht q, fun _ => f_fine ht (q0e (fin g τ ht q))⟩
      cases ho : rOct l e st with
      | inl g =>
        rw [ho] at hk
        intro τ ht
        exact f_come ht (ft g τ ht hk)
      | inr q =>
        obtain ⟨x, s1⟩ := q
        have h81 := rOct_8 ho
        rw [ho] at hk
        have hk : zRun (zbd (rCome f x s1) fun _ st => rTake l f e n st) (fun g => ∀ τ, zMf S σ0 g τ → K none τ) (fun _ st' => ∀ τ, zMk S σ0 A f e l hi st' τ → L_Model_openRuns_0 1116 τ K E) := hk
        rw [zRun_bd] at hk
        intro τ ht
        refine m_come ht ?_
        cases hc : rCome f x s1 with
        | inl g =>
          rw [hc] at hk
          intro υ hu
          exact ft g υ hu hk
        | inr q =>
          obtain ⟨_, s2⟩ := q
          rw [hc] at hk
          have e2 := rCome_i hc
          intro υ hu
          show L_Model_openRuns_32 1116 (nI j) (nI k + 1) υ K E
          rw [nI_1]
          exact ih (k + 1) s2 υ hu (by rw [e2]; exact h81) (by omega) hk
  have key : ∀ n st σ, zMk S σ0 A f e l hi st σ → st.1 % 8 = 0 → e - (st.1 + 7) / 8 < n → zRun (rRuns l f e n st) (fun g => ∀ τ, zMf S σ0 g τ → K none τ) (fun _ st' => ∀ τ, zMk S σ0 A f e l hi st' τ → K none τ) → L_Model_openRuns_0 1116 σ K E := by
    intro n
    induction n with
    | zero => intro st σ h h8 hn; omega
    | succ n ih =>
      intro st σ h h8 hn hk
      refine b_Model_openRuns_0 (m_fine h (q1e ?_))
      have h0 := h
      obtain ⟨-, h2, h3, -, h5, -⟩ := h
      have hN := h3.2.2.2.1
      rw [h2.2.2.2.1, h2.2.2.1, nI_leI (by omega) (by omega)]
      rw [rRuns] at hk
      by_cases c : (st.1 + 7) / 8 = e
      · rw [if_pos c] at hk
        exact ⟨fun _ => hk σ h0, fun q => by omega⟩
      · rw [if_neg c] at hk
        refine ⟨fun q => by omega, fun _ => m_next h0 h8 ?_⟩
        rw [zRun_bd] at hk
        cases ho : rOct l e st with
        | inl g =>
          rw [ho] at hk
          intro τ ht
          exact ⟨fun q => absurd q (by decide), fun _ => b_Model_openRuns_32 ⟨fun q => absurd q (by decide), fun _ => f_fine ht (q0e (fin g τ ht hk))⟩⟩
        | inr q =>
          obtain ⟨x, s1⟩ := q
          have h81 := rOct_8 ho
          rw [ho] at hk
          obtain ⟨o1, o2, o3⟩ := rOct_i ho
          obtain ⟨j, hj, ej⟩ := zoct_b l ((st.1 + 7) / 8)
          have d1 : (s1.1 + 7) / 8 = (st.1 + 7) / 8 + 1 := by rw [o3]; show (8 * ((st.1 + 7) / 8 + 1) + 7) / 8 = _; omega
          have hk : zRun (if x.toInt ≤ 128 then (if x.toInt < 128 then zbd (rTake l f e (x.toInt.toNat + 1) s1) fun _ st => rRuns l f e n st else rRuns l f e n s1) else zbd (rOct l e s1) fun b st => zbd (rRep f b (257 - x.toInt.toNat) st) fun _ st => rRuns l f e n st) (fun g => ∀ τ, zMf S σ0 g τ → K none τ) (fun _ st' => ∀ τ, zMk S σ0 A f e l hi st' τ → K none τ) := hk
          intro τ ht
          show (128 ≤ x → (x ≤ 128 → _) ∧ (¬ x ≤ 128 → _)) ∧ _
          rw [o2, ej] at hk ⊢
          rw [show (128 : Int32) = nI 128 from rfl, nI_leI (by omega) (by omega), nI_leI (by omega) (by omega)]
          rw [nI_toInt (by omega)] at hk
          refine ⟨fun q => ⟨fun q2 => ?_, fun q2 => m_next ht h81 ?_⟩, fun q => ?_⟩
          · rw [if_pos (by omega), if_neg (by omega)] at hk
            exact ih s1 τ ht h81 (by omega) hk
          · rw [if_neg (by omega), zRun_bd] at hk
            cases ho2 : rOct l e s1 with
            | inl g =>
              rw [ho2] at hk
              intro υ hu
              exact frep g υ hu hk j hj 0 (257 - j) 0 (by omega)
            | inr q2 =>
              obtain ⟨b, s2⟩ := q2
              have h82 := rOct_8 ho2
              rw [ho2] at hk
              obtain ⟨p1, p2, p3⟩ := rOct_i ho2
              have hk : zRun (zbd (rRep f b (257 - Int.toNat (j : Int)) s2) fun _ st => rRuns l f e n st) (fun g => ∀ τ, zMf S σ0 g τ → K none τ) (fun _ st' => ∀ τ, zMk S σ0 A f e l hi st' τ → K none τ) := hk
              rw [zRun_bd, show (Int.toNat (j : Int)) = j from rfl] at hk
              intro υ hu
              refine rep j hj b (257 - j) 0 s2 υ hu (by omega) ?_
              cases hT : rRep f b (257 - j) s2 with
              | inl g => rw [hT] at hk; exact hk
              | inr q =>
                obtain ⟨_, s3⟩ := q
                rw [hT] at hk
                have := rRep_i hT
                intro υ2 hu2
                have d2 : s2.1 = 8 * ((s1.1 + 7) / 8 + 1) := by rw [p3]
                exact ih s3 υ2 hu2 (by omega) (by omega) hk
          · rw [if_pos (by omega), if_pos (by omega), zRun_bd, show (Int.toNat (j : Int)) = j from rfl] at hk
            refine take j (by omega) (j + 1) 0 s1 τ ht h81 (by omega) ?_
            cases hT : rTake l f e (j + 1) s1 with
            | inl g => rw [hT] at hk; exact hk
            | inr q =>
              obtain ⟨_, s2⟩ := q
              rw [hT] at hk
              have := rTake_i hT h81
              intro υ hu
              exact ih s2 υ hu this.1 (by omega) hk
  exact b_Model_openRuns (key (e + 1) st σ h h8 (by omega) hk)
end MR

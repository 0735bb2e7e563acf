/-! PART 33: the third sum -/
def zrot (v n : Int32) : Int32 := zil v n ||| ziu v (32 - n)
def zfour (l : List Int32) (p : Nat) : Int32 := ((zgt l p ||| zil (zgt l (p + 1)) 8) ||| zil (zgt l (p + 2)) 16) ||| zil (zgt l (p + 3)) 24
def zlane (v w : Int32) : Int32 := zrot (v + w * (-2048144777)) 13 * (-1640531535)
abbrev zQ4 : Type := Int32 × Int32 × Int32 × Int32
def zmxS (l : List Int32) (p : Nat) (s : zQ4) : zQ4 := (zlane s.1 (zfour l p), zlane s.2.1 (zfour l (p + 4)), zlane s.2.2.1 (zfour l (p + 8)), zlane s.2.2.2 (zfour l (p + 12)))
/-- sixteen by sixteen up to e -/
def zmx16 (l : List Int32) (e : Nat) : Nat → Nat → zQ4 → Nat × zQ4
  | 0, p, s => (p, s)
  | n + 1, p, s => if p + 16 ≤ e then zmx16 l e n (p + 16) (zmxS l p s) else (p, s)
def zmx4 (l : List Int32) (e : Nat) : Nat → Nat → Int32 → Nat × Int32
  | 0, p, h => (p, h)
  | n + 1, p, h => if p + 4 ≤ e then zmx4 l e n (p + 4) (zrot (h + zfour l p * (-1028477379)) 17 * 668265263) else (p, h)
def zmx1 (h x : Int32) : Int32 := zrot (h + (x &&& 255) * 374761393) 11 * (-1640531535)
def zmxE (a : Int32) : Int32 := let b := (a ^^^ ziu a 15) * (-2048144777); let c := (b ^^^ ziu b 13) * (-1028477379); c ^^^ ziu c 16
def zmxJ (s : zQ4) : Int32 := ((zrot s.1 1 + zrot s.2.1 7) + zrot s.2.2.1 12) + zrot s.2.2.2 18
/-- from place p on, with h -/
def zmxB (l : List Int32) (e p : Nat) (h : Int32) : Int32 := zmxE ((zsub l (zmx4 l e e p h).1 e).foldl zmx1 (zmx4 l e e p h).2)
def zmixed (l : List Int32) (p e : Nat) : Int32 := if e - p < 16 then zmxB l e p (374761393 + nI (e - p)) else
  zmxB l e (zmx16 l e e p (606290984, -2048144777, 0, 1640531535)).1 (zmxJ (zmx16 l e e p (606290984, -2048144777, 0, 1640531535)).2 + nI (e - p))
theorem s_rotL {σ : zS} {K : zKt} {E : zEt} {v n : Int32} (hn : n ∈ [1, 7, 11, 12, 13, 17, 18]) (hk : K (some (.int (zrot v n))) σ) : X_Integer_rotateLeft true [.int v, .int n] σ K E := by
  refine b_Integer_rotateLeft ?_
  have : ziu v (-n) = ziu v (32 - n) := by
    have e : ∀ n ∈ [1, 7, 11, 12, 13, 17, 18], ((-n : Int32).toUInt32 &&& Int32.toUInt32 31) = ((32 - n : Int32).toUInt32 &&& Int32.toUInt32 31) := by decide
    unfold ziu
    rw [e n hn]
  rw [this]
  exact hk
theorem s_Model_rotated {σ : zS} {K : zKt} {E : zEt} {v n : Int32} (hk : K (some (.int (zrot v n))) σ) : X_Model_rotated true [.int v, .int n] σ K E := b_Model_rotated hk
theorem s_Sums_lane {σ : zS} {K : zKt} {E : zEt} {v w : Int32} (hk : K (some (.int (zlane v w))) σ) : X_Sums_lane true [.int v, .int w] σ K E := b_Sums_lane (s_rotL (by simp) hk)
theorem s_Model_lane {σ : zS} {K : zKt} {E : zEt} {v w : Int32} (hk : K (some (.int (zlane v w))) σ) : X_Model_lane true [.int v, .int w] σ K E := b_Model_lane (s_Model_rotated hk)
theorem s_Sums_four {σ : zS} {K : zKt} {E : zEt} {a : Nat} {l : List Int32} {p : Nat} (h : zrw σ a l) (hp : p + 4 ≤ l.length) (hk : K (some (.int (zfour l p))) σ) : X_Sums_four true [.ref a, .int (nI p)] σ K E := by
  refine b_Sums_four ⟨h.1, s_Row_get h (by omega) ⟨h.1, ?_⟩⟩
  rw [nI_1, nI_2, nI_3]
  exact s_Row_get h (by omega) ⟨h.1, s_Row_get h (by omega) ⟨h.1, s_Row_get h (by omega) (b_Sums_four_34 hk)⟩⟩
theorem s_Model_four {σ : zS} {K : zKt} {E : zEt} {a : Nat} {l : List Int32} {p : Nat} (h : zar σ a l) (hk0 : zK a = 101) (hl : l.length ≤ zN a) (hN : zN a < 2 ^ 30) (hp : p + 4 ≤ l.length) (hk : K (some (.int (zfour l p))) σ) : X_Model_four true [.ref a, .int (nI p)] σ K E := by
  refine b_Model_four ?_
  rw [nI_1, nI_2, nI_3, zar_rd h (by omega) (by omega), zar_rd h (by omega) (by omega), zar_rd h (by omega) (by omega), zar_rd h (by omega) (by omega), ← zsh24 (l.getD (p + 3) 0)]
  exact ⟨hk0, vp_in_nI (by omega) (by omega), vp_in_nI (by omega) (by omega), vp_in_nI (by omega) (by omega), vp_in_nI (by omega) (by omega), hk⟩
section MX
variable {σ : zS} {K : zKt} {E : zEt} {a : Nat} {l : List Int32}
theorem zmxH1 (h : zrw σ a l) {e : Nat} (he : e ≤ l.length) : ∀ j p x, p + j = e → K (some (.long (zlw (zmxE ((zsub l p e).foldl zmx1 x))))) σ → L_Sums_mixed_173 a (nI e) (nI p) x σ K E := by
  have hl := h.len
  intro j
  induction j with
  | zero =>
    intro p x hj hk
    refine b_Sums_mixed_173 ⟨fun _ => ?_, fun q => absurd (nI_le (by omega) (by omega)) q⟩
    rw [zsub_n (by omega)] at hk
    rintro x34 rfl x35 rfl
    exact hk
  | succ j ih =>
    intro p x hj hk
    refine b_Sums_mixed_173 ⟨fun q => absurd q (nI_ge (by omega) (by omega)), fun _ => ⟨h.1, s_Row_get h (by omega) (s_rotL (by simp) ?_)⟩⟩
    show L_Sums_mixed_173 a (nI e) (nI p + 1) _ σ K E
    rw [nI_1]
    rw [zsub_c (by omega) he] at hk
    exact ih (p + 1) _ (by omega) hk
theorem zmxH4 (h : zrw σ a l) {e : Nat} (he : e ≤ l.length) : ∀ n p x, p ≤ e → e - p ≤ n → K (some (.long (zlw (zmxE ((zsub l (zmx4 l e n p x).1 e).foldl zmx1 (zmx4 l e n p x).2))))) σ → L_Sums_mixed_139 a (nI e) (nI p) x σ K E := by
  have hl := h.len
  intro n
  induction n with
  | zero =>
    intro p x hp hn hk
    refine b_Sums_mixed_139 ?_
    rw [nI_sub hp]
    refine ⟨fun _ => zmxH1 h he 0 p x (by omega) hk, fun q => absurd (nI_lt (b := 4) (by omega) (by omega)) q⟩
  | succ n ih =>
    intro p x hp hn hk
    refine b_Sums_mixed_139 ?_
    rw [nI_sub hp]
    unfold zmx4 at hk
    by_cases q : p + 4 ≤ e
    · rw [if_pos q] at hk
      refine ⟨fun h2 => absurd h2 (nI_nlt (b := 4) (by omega) (by omega)), fun _ => s_Sums_four h (by omega) (s_rotL (by simp) ?_)⟩
      show L_Sums_mixed_139 a (nI e) (nI p + 4) _ σ K E
      rw [nI_4]
      exact ih (p + 4) _ (by omega) (by omega) hk
    · rw [if_neg q] at hk
      exact ⟨fun _ => zmxH1 h he (e - p) p x (by omega) hk, fun h2 => absurd (nI_lt (b := 4) (by omega) (by omega)) h2⟩
theorem zmxH16 (h : zrw σ a l) {e f : Nat} (he : e ≤ l.length) (hf : f ≤ e) : ∀ n p (s : zQ4), p ≤ e → e - p ≤ n → K (some (.long (zlw (zmxB l e (zmx16 l e n p s).1 (zmxJ (zmx16 l e n p s).2 + nI (e - f)))))) σ → L_Sums_mixed_29 a (nI f) (nI e) (nI p) s.1 s.2.1 s.2.2.1 s.2.2.2 σ K E := by
  have hl := h.len
  have fin : ∀ p (s : zQ4), p ≤ e → ¬ p + 16 ≤ e → K (some (.long (zlw (zmxB l e p (zmxJ s + nI (e - f)))))) σ → L_Sums_mixed_29 a (nI f) (nI e) (nI p) s.1 s.2.1 s.2.2.1 s.2.2.2 σ K E := by
    intro p s hp q hk
    refine b_Sums_mixed_29 ?_
    rw [nI_sub hp]
    refine ⟨fun _ => s_rotL (by simp) (s_rotL (by simp) (s_rotL (by simp) (s_rotL (by simp) (b_Sums_mixed_128 ?_)))), fun h2 => absurd (nI_lt (b := 16) (by omega) (by omega)) h2⟩
    rw [nI_sub hf]
    exact zmxH4 h he e p _ hp (by omega) hk
  intro n
  induction n with
  | zero => intro p s hp hn hk; exact fin p s hp (by omega) hk
  | succ n ih =>
    intro p s hp hn hk
    unfold zmx16 at hk
    by_cases q : p + 16 ≤ e
    · rw [if_pos q] at hk
      refine b_Sums_mixed_29 ?_
      rw [nI_sub hp, nI_4]
      refine ⟨fun h2 => absurd h2 (nI_nlt (b := 16) (by omega) (by omega)), fun _ => s_Sums_four h (by omega) (s_Sums_lane (s_Sums_four h (by omega) (s_Sums_lane (b_Sums_mixed_61 ?_))))⟩
      rw [nI_8, nI_12]
      refine s_Sums_four h (by omega) (s_Sums_lane (s_Sums_four h (by omega) (s_Sums_lane (b_Sums_mixed_91 ?_))))
      rw [nI_16]
      exact ih (p + 16) (zmxS l p s) (by omega) (by omega) hk
    · rw [if_neg q] at hk
      exact fin p s hp q hk
theorem s_Sums_mixed (h : zrw σ a l) {f e : Nat} (he : e ≤ l.length) (hf : f ≤ e) (hk : K (some (.long (zlw (zmixed l f e)))) σ) : X_Sums_mixed true [.ref a, .int (nI f), .int (nI e)] σ K E := by
  have hl := h.len
  refine b_Sums_mixed ?_
  rw [nI_sub hf]
  unfold zmixed at hk
  by_cases q : e - f < 16
  · rw [if_pos q] at hk
    exact ⟨fun _ => zmxH4 h he e f _ hf (by omega) hk, fun h2 => absurd (nI_lt (b := 16) q (by omega)) h2⟩
  · rw [if_neg q] at hk
    exact ⟨fun h2 => absurd h2 (nI_nlt (b := 16) (by omega) (by omega)), fun _ => zmxH16 h he hf e f (606290984, -2048144777, 0, 1640531535) hf (by omega) hk⟩
end MX
section MY
variable {σ : zS} {K : zKt} {E : zEt} {a : Nat} {l : List Int32}
theorem zmxM1 (h : zar σ a l) (hk0 : zK a = 101) (hl : l.length ≤ zN a) (hN : zN a < 2 ^ 30) {f n : Nat} (he : f + n ≤ l.length) : ∀ j p x, p + j = n → K (some (.int (zmxE ((zsub l (f + p) (f + n)).foldl zmx1 x)))) σ → L_Model_mixed_185 a (nI f) (nI n) (nI p) x σ K E := by
  intro j
  induction j with
  | zero =>
    intro p x hj hk
    refine b_Model_mixed_185 ⟨fun _ => ?_, fun q => absurd (nI_le (by omega) (by omega)) q⟩
    rw [zsub_n (by omega)] at hk
    rintro x34 rfl x35 rfl
    exact hk
  | succ j ih =>
    intro p x hj hk
    refine b_Model_mixed_185 ⟨fun q => absurd q (nI_ge (by omega) (by omega)), fun _ => ?_⟩
    rw [nI_add, zar_rd h (by omega) (by omega)]
    refine ⟨hk0, vp_in_nI (by omega) (by omega), s_Model_rotated ?_⟩
    show L_Model_mixed_185 a (nI f) (nI n) (nI p + 1) _ σ K E
    rw [nI_1]
    rw [zsub_c (by omega) he] at hk
    exact ih (p + 1) _ (by omega) hk
theorem zmxM4 (h : zar σ a l) (hk0 : zK a = 101) (hl : l.length ≤ zN a) (hN : zN a < 2 ^ 30) {f n : Nat} (he : f + n ≤ l.length) : ∀ u p x, p ≤ n → n - p ≤ u → K (some (.int (zmxE ((zsub l (zmx4 l (f + n) u (f + p) x).1 (f + n)).foldl zmx1 (zmx4 l (f + n) u (f + p) x).2)))) σ → L_Model_mixed_147 a (nI f) (nI n) (nI p) x σ K E := by
  intro u
  induction u with
  | zero =>
    intro p x hp hn hk
    refine b_Model_mixed_147 ?_
    rw [nI_4]
    exact ⟨fun _ => zmxM1 h hk0 hl hN he 0 p x (by omega) hk, fun q => absurd (nI_lt (by omega) (by omega)) q⟩
  | succ u ih =>
    intro p x hp hn hk
    refine b_Model_mixed_147 ?_
    rw [nI_4]
    unfold zmx4 at hk
    by_cases q : p + 4 ≤ n
    · rw [if_pos (by omega)] at hk
      refine ⟨fun h2 => absurd h2 (nI_nlt (by omega) (by omega)), fun _ => ?_⟩
      rw [nI_add]
      refine s_Model_four h hk0 hl hN (by omega) (s_Model_rotated ?_)
      show L_Model_mixed_147 a (nI f) (nI n) (nI (p + 4)) _ σ K E
      exact ih (p + 4) _ (by omega) (by omega) (by rw [Nat.add_assoc] at hk; exact hk)
    · rw [if_neg (by omega)] at hk
      exact ⟨fun _ => zmxM1 h hk0 hl hN he (n - p) p x (by omega) hk, fun h2 => absurd (nI_lt (by omega) (by omega)) h2⟩
theorem zmxM16 (h : zar σ a l) (hk0 : zK a = 101) (hl : l.length ≤ zN a) (hN : zN a < 2 ^ 30) {f n : Nat} (he : f + n ≤ l.length) : ∀ u p (s : zQ4), p ≤ n → n - p ≤ u → K (some (.int (zmxB l (f + n) (zmx16 l (f + n) u (f + p) s).1 (zmxJ (zmx16 l (f + n) u (f + p) s).2 + nI n)))) σ → L_Model_mixed_31 a (nI f) (nI n) (nI p) s.1 s.2.1 s.2.2.1 s.2.2.2 σ K E := by
  have fin : ∀ p (s : zQ4), p ≤ n → ¬ p + 16 ≤ n → K (some (.int (zmxB l (f + n) (f + p) (zmxJ s + nI n)))) σ → L_Model_mixed_31 a (nI f) (nI n) (nI p) s.1 s.2.1 s.2.2.1 s.2.2.2 σ K E := by
    intro p s hp q hk
    refine b_Model_mixed_31 ?_
    rw [nI_16]
    exact ⟨fun _ => s_Model_rotated (s_Model_rotated (s_Model_rotated (s_Model_rotated (b_Model_mixed_138 (zmxM4 h hk0 hl hN he (f + n) p _ hp (by omega) hk))))), fun h2 => absurd (nI_lt (by omega) (by omega)) h2⟩
  intro u
  induction u with
  | zero => intro p s hp hn hk; exact fin p s hp (by omega) hk
  | succ u ih =>
    intro p s hp hn hk
    unfold zmx16 at hk
    by_cases q : p + 16 ≤ n
    · rw [if_pos (by omega)] at hk
      refine b_Model_mixed_31 ?_
      rw [nI_16]
      refine ⟨fun h2 => absurd h2 (nI_nlt (by omega) (by omega)), fun _ => ?_⟩
      rw [nI_add, nI_4]
      refine s_Model_four h hk0 hl hN (by omega) (s_Model_lane (s_Model_four h hk0 hl hN (by omega) (s_Model_lane (b_Model_mixed_67 ?_))))
      rw [nI_add, nI_8, nI_12]
      refine s_Model_four h hk0 hl hN (by omega) (s_Model_lane (s_Model_four h hk0 hl hN (by omega) (s_Model_lane (b_Model_mixed_101 ?_))))
      rw [nI_16]
      exact ih (p + 16) (zmxS l (f + p) s) (by omega) (by omega) (by rw [Nat.add_assoc] at hk; exact hk)
    · rw [if_neg (by omega)] at hk
      exact fin p s hp q hk
theorem s_Model_mixed (h : zar σ a l) (hk0 : zK a = 101) (hl : l.length ≤ zN a) (hN : zN a < 2 ^ 30) {f n : Nat} (he : f + n ≤ l.length) (hk : K (some (.int (zmixed l f (f + n)))) σ) : X_Model_mixed true [.ref a, .int (nI f), .int (nI n)] σ K E := by
  refine b_Model_mixed ?_
  unfold zmixed at hk
  rw [Nat.add_sub_cancel_left] at hk
  by_cases q : n < 16
  · rw [if_pos q] at hk
    exact ⟨fun _ => zmxM4 h hk0 hl hN he (f + n) 0 _ (by omega) (by omega) hk, fun h2 => absurd (nI_lt (b := 16) q (by omega)) h2⟩
  · rw [if_neg q] at hk
    exact ⟨fun h2 => absurd h2 (nI_nlt (b := 16) (by omega) (by omega)), fun _ => zmxM16 h hk0 hl hN he (f + n) 0 (606290984, -2048144777, 0, 1640531535) (by omega) (by omega) hk⟩
end MY

/-! PART 32: sums -/
theorem nI_2 (k : Nat) : nI k + 2 = nI (k + 2) := nI_add k 2
theorem nI_3 (k : Nat) : nI k + 3 = nI (k + 3) := nI_add k 3
theorem nI_4 (k : Nat) : nI k + 4 = nI (k + 4) := nI_add k 4
theorem nI_8 (k : Nat) : nI k + 8 = nI (k + 8) := nI_add k 8
theorem nI_12 (k : Nat) : nI k + 12 = nI (k + 12) := nI_add k 12
theorem nI_16 (k : Nat) : nI k + 16 = nI (k + 16) := nI_add k 16
theorem nI_sub {a b : Nat} (h : b ≤ a) : nI a - nI b = nI (a - b) := by
  have : nI a = nI (a - b) + nI b := by rw [nI_add]; congr 1; omega
  rw [this, Int32.add_sub_cancel]
abbrev zgt (l : List Int32) (k : Nat) : Int32 := l.getD k 0 &&& 255
theorem zar_rd {σ : zS} {a : Nat} {l : List Int32} {p : Nat} (h : zar σ a l) (hp : p < l.length) (hl : l.length < 2 ^ 31) : zI σ a (nI p).toNatClampNeg = l.getD p 0 := by
  rw [nI_clamp (by omega)]; exact h p hp
/-- Int32 through its bits -/
theorem zbits {x y : Int32} (h : ∀ i, i < 32 → x.toBitVec.getLsbD i = y.toBitVec.getLsbD i) : x = y := Int32.toBitVec_inj.mp (BitVec.eq_of_getLsbD_eq fun i hi => h i hi)
theorem zm255 (i : Nat) (hi : i < 32) : (255 : Int32).toBitVec.getLsbD i = decide (i < 8) := by
  have : ∀ i, i < 32 → (255 : Int32).toBitVec.getLsbD i = decide (i < 8) := by decide
  exact this i hi
theorem zand_lt (x : Int32) : vp_in (x &&& 255) 256 := by
  have h2 : (x &&& 255).toBitVec.toNat ≤ 255 := by
    rw [Int32.toBitVec_and, BitVec.toNat_and]
    exact Nat.and_le_right
  have h3 : (x &&& 255).toInt = ((x &&& 255).toBitVec.toNat : Int) := by
    rw [← Int32.toInt_toBitVec, BitVec.toInt_eq_toNat_of_lt (by omega)]
  rw [vp_in_iff, h3]
  omega
theorem zx255 (c x : Int32) : (c ^^^ (x &&& 255)) &&& 255 = (c ^^^ x) &&& 255 := by
  refine zbits fun i hi => ?_
  simp only [Int32.toBitVec_and, Int32.toBitVec_xor, BitVec.getLsbD_and, BitVec.getLsbD_xor, zm255 i hi]
  cases x.toBitVec.getLsbD i <;> cases c.toBitVec.getLsbD i <;> cases decide (i < 8) <;> rfl
theorem zsh24 (x : Int32) : zil (x &&& 255) 24 = zil x 24 := by
  refine zbits fun i hi => ?_
  have e : (24 &&& 31 : Int32) = 24 := by decide
  unfold zil
  rw [e]
  simp only [Int32.toBitVec_shiftLeft, Int32.toBitVec_and]
  have e2 : ((24 : Int32).toBitVec.smod 32) = 24#32 := by decide
  rw [e2]
  simp only [BitVec.shiftLeft_eq', BitVec.getLsbD_shiftLeft, BitVec.getLsbD_and]
  by_cases h : i < 24
  · simp [h]
  · have e3 : (24#32).toNat = 24 := by decide
    rw [e3]
    rw [zm255 (i - 24) (by omega)]
    simp [show i - 24 < 8 by omega]
theorem ziu24 (c x : Int32) : ((ziu c 24) ^^^ x) &&& 255 = (ziu c 24) ^^^ (x &&& 255) := by
  refine zbits fun i hi => ?_
  have h8 : ¬ i < 8 → (ziu c 24).toBitVec.getLsbD i = false := by
    intro h
    unfold ziu
    have e : (24 : Int32).toUInt32 &&& Int32.toUInt32 31 = 24 := by decide
    rw [e]
    show ((c.toUInt32 >>> (24 : UInt32)).toBitVec).getLsbD i = false
    rw [UInt32.toBitVec_shiftRight]
    have e2 : ((24 : UInt32).toBitVec % 32) = 24#32 := by decide
    rw [e2, BitVec.ushiftRight_eq', BitVec.getLsbD_ushiftRight]
    have e3 : (24#32).toNat = 24 := by decide
    rw [e3]
    exact BitVec.getLsbD_of_ge _ _ (by omega)
  simp only [Int32.toBitVec_and, Int32.toBitVec_xor, BitVec.getLsbD_and, BitVec.getLsbD_xor, zm255 i hi]
  by_cases h : i < 8
  · simp [h]
  · rw [h8 h]; simp [h]
/-- what is left of a list from a place to another -/
def zsub (l : List Int32) (p e : Nat) : List Int32 := (l.take e).drop p
theorem zsub_n {l : List Int32} {p e : Nat} (h : e ≤ p) : zsub l p e = [] := by
  unfold zsub; rw [List.drop_eq_nil_iff]; simp; omega
theorem zsub_c {l : List Int32} {p e : Nat} (h : p < e) (he : e ≤ l.length) : zsub l p e = l.getD p 0 :: zsub l (p + 1) e := by
  unfold zsub
  rw [List.drop_eq_getElem_cons (by simp; omega)]
  congr 1
  rw [List.getElem_take, List.getD_eq_getElem?_getD, List.getElem?_eq_getElem (by omega)]; rfl
theorem zsub_all (l : List Int32) : zsub l 0 l.length = l := by unfold zsub; simp
theorem zsub_len {l : List Int32} {p e : Nat} (he : e ≤ l.length) : (zsub l p e).length = e - p := by unfold zsub; simp; omega
-- adler
def zadF : Int32 × Int32 → Int32 → Int32 × Int32 := fun s x => (zrm (s.1 + (x &&& 255)) 65521, zrm (s.2 + zrm (s.1 + (x &&& 255)) 65521) 65521)
def zadR (s : Int32 × Int32) : Int64 := (s.2.toInt64 * 65536) + s.1.toInt64
def zadler (l : List Int32) : Int64 := zadR (l.foldl zadF (1, 0))
theorem s_Sums_adler {σ : zS} {K : zKt} {E : zEt} {a : Nat} {l : List Int32} {p e : Nat} (h : zrw σ a l) (he : e ≤ l.length) (hp : p ≤ e) (hk : K (some (.long (zadler (zsub l p e)))) σ) : X_Sums_adler true [.ref a, .int (nI p), .int (nI e)] σ K E := by
  have hl := h.len
  have key : ∀ j k s, k + j = e → K (some (.long (zadR ((zsub l k e).foldl zadF s)))) σ → L_Sums_adler_8 a (nI e) s.1 s.2 (nI k) σ K E := by
    intro j
    induction j with
    | zero =>
      intro k s hj hk
      refine b_Sums_adler_8 ⟨fun _ => ?_, fun q => absurd (nI_le (by omega) (by omega)) q⟩
      rw [zsub_n (by omega)] at hk
      exact hk
    | succ j ih =>
      intro k s hj hk
      refine b_Sums_adler_8 ⟨fun q => absurd q (nI_ge (by omega) (by omega)), fun _ => ⟨h.1, s_Row_get h (by omega) ?_⟩⟩
      show ∀ x4 : Int32, _ → _
      rintro x4 rfl
      rw [nI_1]
      rw [zsub_c (by omega) he] at hk
      exact ih (k + 1) (zadF s (l.getD k 0)) (by omega) hk
  exact b_Sums_adler (key (e - p) p (1, 0) (by omega) hk)
theorem s_Model_adler {σ : zS} {K : zKt} {E : zEt} {a : Nat} {l : List Int32} {p n : Nat} (h : zar σ a l) (hk0 : zK a = 101) (hl : l.length ≤ zN a) (hN : zN a < 2 ^ 30) (he : p + n ≤ l.length) (hk : K (some (.long (zadler (zsub l p (p + n))))) σ) : X_Model_adler true [.ref a, .int (nI p), .int (nI n)] σ K E := by
  have key : ∀ j k s, k + j = n → K (some (.long (zadR ((zsub l (p + k) (p + n)).foldl zadF s)))) σ → L_Model_adler_8 a (nI p) (nI n) s.1 s.2 (nI k) σ K E := by
    intro j
    induction j with
    | zero =>
      intro k s hj hk
      refine b_Model_adler_8 ⟨fun _ => ?_, fun q => absurd (nI_le (by omega) (by omega)) q⟩
      rw [zsub_n (by omega)] at hk
      exact hk
    | succ j ih =>
      intro k s hj hk
      refine b_Model_adler_8 ⟨fun q => absurd q (nI_ge (by omega) (by omega)), fun _ => ?_⟩
      rw [nI_add, zar_rd h (by omega) (by omega)]
      refine ⟨hk0, vp_in_nI (by omega) (by omega), ?_⟩
      rintro x1 rfl
      rw [nI_1]
      rw [zsub_c (by omega) he] at hk
      exact ih (k + 1) (zadF s (l.getD (p + k) 0)) (by omega) hk
  exact b_Model_adler (key n 0 (1, 0) (by omega) hk)
-- the two tables
def zrdS (v : Int32) : Int32 := if v &&& 1 = 1 then ziu v 1 ^^^ (-306674912) else ziu v 1
def ztnS (w : Int32) : Int32 := if w < 0 then zil w 1 ^^^ 79764919 else zil w 1
def zit (f : Int32 → Int32) : Nat → Int32 → Int32
  | 0, x => x
  | n + 1, x => zit f n (f x)
def zrdT (k : Nat) : Int32 := zit zrdS 8 (nI k)
def ztnT (k : Nat) : Int32 := zit ztnS 8 (zil (nI k) 24)
/-- the tables of sums stand in two arrays -/
def zTab (σ : zS) (r t : Nat) : Prop := ∀ i, i < 256 → zI σ r i = zrdT i ∧ zI σ t i = ztnT i
def zrdF : Int32 → Int32 → Int32 := fun v x => zrdT ((v ^^^ x) &&& 255).toNatClampNeg ^^^ ziu v 8
def ztnF : Int32 → Int32 → Int32 := fun v x => ztnT (((ziu v 24) ^^^ x) &&& 255).toNatClampNeg ^^^ zil v 8
def zround (l : List Int32) : Int32 := l.foldl zrdF (-1) ^^^ (-1)
def zturned (l : List Int32) : Int32 := l.foldl ztnF (-1) ^^^ (-1)
def zlw (x : Int32) : Int64 := x.toInt64 &&& 4294967295
theorem zvp_lt {x : Int32} {n : Nat} (h : vp_in x n) : x.toNatClampNeg < n := by
  unfold vp_in at h
  exact Nat.lt_of_not_le fun q => h (Or.inr q)
theorem zxc (x y : Int32) : x ^^^ y = y ^^^ x := Int32.xor_comm x y
theorem s_Sums_round {σ : zS} {K : zKt} {E : zEt} {a : Nat} {l : List Int32} {p e : Nat} (h : zrw σ a l) (ht : zTab σ 23 24) (he : e ≤ l.length) (hp : p ≤ e) (hk : K (some (.long (zlw (zround (zsub l p e))))) σ) : X_Sums_round true [.ref 22, .ref a, .int (nI p), .int (nI e)] σ K E := by
  have hl := h.len
  have key : ∀ j k v, k + j = e → K (some (.long (zlw ((zsub l k e).foldl zrdF v ^^^ (-1))))) σ → L_Sums_round_6 22 a (nI e) v (nI k) σ K E := by
    intro j
    induction j with
    | zero =>
      intro k s hj hk
      refine b_Sums_round_6 ⟨fun _ => ?_, fun q => absurd (nI_le (by omega) (by omega)) q⟩
      rw [zsub_n (by omega)] at hk
      exact hk
    | succ j ih =>
      intro k v hj hk
      refine b_Sums_round_6 ⟨fun q => absurd q (nI_ge (by omega) (by omega)), fun _ => ⟨h.1, s_Row_get h (by omega) ?_⟩⟩
      refine ⟨by rw [zn_23]; exact zand_lt _, ?_⟩
      rintro x4 rfl
      rw [nI_1, zx255, (ht _ (zvp_lt (zand_lt _))).1, zxc]
      rw [zsub_c (by omega) he] at hk
      exact ih (k + 1) _ (by omega) hk
  exact b_Sums_round (key (e - p) p (-1) (by omega) hk)
theorem s_Model_round {σ : zS} {K : zKt} {E : zEt} {a : Nat} {l : List Int32} {p n : Nat} (h : zar σ a l) (hk0 : zK a = 101) (hl : l.length ≤ zN a) (hN : zN a < 2 ^ 30) (ht : zTab σ 1121 1122) (he : p + n ≤ l.length) (hk : K (some (.int (zround (zsub l p (p + n))))) σ) : X_Model_round true [.ref 1116, .ref a, .int (nI p), .int (nI n)] σ K E := by
  have key : ∀ j k v, k + j = n → K (some (.int ((zsub l (p + k) (p + n)).foldl zrdF v ^^^ (-1)))) σ → L_Model_round_6 1116 a (nI p) (nI n) v (nI k) σ K E := by
    intro j
    induction j with
    | zero =>
      intro k s hj hk
      refine b_Model_round_6 ⟨fun _ => ?_, fun q => absurd (nI_le (by omega) (by omega)) q⟩
      rw [zsub_n (by omega)] at hk
      exact hk
    | succ j ih =>
      intro k v hj hk
      refine b_Model_round_6 ⟨fun q => absurd q (nI_ge (by omega) (by omega)), fun _ => ?_⟩
      rw [nI_add, zar_rd h (by omega) (by omega)]
      refine ⟨hk0, vp_in_nI (by omega) (by omega), by rw [zn_1121]; exact zand_lt _, ?_⟩
      rintro x1 rfl
      rw [nI_1, (ht _ (zvp_lt (zand_lt _))).1]
      rw [zsub_c (by omega) he] at hk
      exact ih (k + 1) _ (by omega) hk
  exact b_Model_round (key n 0 (-1) (by omega) hk)
theorem s_Sums_turnedBy {σ : zS} {K : zKt} {E : zEt} {v x : Int32} (ht : zTab σ 23 24) (hk : K (some (.int (ztnF v x))) σ) : X_Sums_turnedBy true [.ref 22, .int v, .int (x &&& 255)] σ K E := by
  refine b_Sums_turnedBy ?_
  rw [← ziu24]
  refine ⟨by rw [zn_24]; exact zand_lt _, ?_⟩
  rw [(ht _ (zvp_lt (zand_lt _))).2, zxc]
  exact hk
theorem s_Sums_turned {σ : zS} {K : zKt} {E : zEt} {a : Nat} {l : List Int32} {p e : Nat} (h : zrw σ a l) (ht : zTab σ 23 24) (he : e ≤ l.length) (hp : p ≤ e) (hk : K (some (.long (zlw (zturned (zsub l p e))))) σ) : X_Sums_turned true [.ref 22, .ref a, .int (nI p), .int (nI e)] σ K E := by
  have hl := h.len
  have key : ∀ j k v, k + j = e → K (some (.long (zlw ((zsub l k e).foldl ztnF v ^^^ (-1))))) σ → L_Sums_turned_6 22 a (nI e) v (nI k) σ K E := by
    intro j
    induction j with
    | zero =>
      intro k s hj hk
      refine b_Sums_turned_6 ⟨fun _ => ?_, fun q => absurd (nI_le (by omega) (by omega)) q⟩
      rw [zsub_n (by omega)] at hk
      exact hk
    | succ j ih =>
      intro k v hj hk
      refine b_Sums_turned_6 ⟨fun q => absurd q (nI_ge (by omega) (by omega)), fun _ => ⟨h.1, s_Row_get h (by omega) ?_⟩⟩
      refine s_Sums_turnedBy ht ?_
      show L_Sums_turned_6 22 a (nI e) _ (nI k + 1) σ K E
      rw [nI_1]
      rw [zsub_c (by omega) he] at hk
      exact ih (k + 1) _ (by omega) hk
  exact b_Sums_turned (key (e - p) p (-1) (by omega) hk)
theorem s_Model_turned {σ : zS} {K : zKt} {E : zEt} {a : Nat} {l : List Int32} {p n : Nat} (h : zar σ a l) (hk0 : zK a = 101) (hl : l.length ≤ zN a) (hN : zN a < 2 ^ 30) (ht : zTab σ 1121 1122) (he : p + n ≤ l.length) (hk : K (some (.int (zturned (zsub l p (p + n))))) σ) : X_Model_turned true [.ref 1116, .ref a, .int (nI p), .int (nI n)] σ K E := by
  have key : ∀ j k v, k + j = n → K (some (.int ((zsub l (p + k) (p + n)).foldl ztnF v ^^^ (-1)))) σ → L_Model_turned_6 1116 a (nI p) (nI n) v (nI k) σ K E := by
    intro j
    induction j with
    | zero =>
      intro k s hj hk
      refine b_Model_turned_6 ⟨fun _ => ?_, fun q => absurd (nI_le (by omega) (by omega)) q⟩
      rw [zsub_n (by omega)] at hk
      exact hk
    | succ j ih =>
      intro k v hj hk
      refine b_Model_turned_6 ⟨fun q => absurd q (nI_ge (by omega) (by omega)), fun _ => ?_⟩
      rw [nI_add, zar_rd h (by omega) (by omega)]
      refine ⟨hk0, vp_in_nI (by omega) (by omega), by rw [zn_1122]; exact zand_lt _, ?_⟩
      rintro x1 rfl
      rw [nI_1, (ht _ (zvp_lt (zand_lt _))).2]
      rw [zsub_c (by omega) he] at hk
      exact ih (k + 1) _ (by omega) hk
  exact b_Model_turned (key n 0 (-1) (by omega) hk)
